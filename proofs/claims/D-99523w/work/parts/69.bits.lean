-- NEEDS: 57
/-! how many bits: of an int below 32, of a long below 2^36 -/
def bc15 (x0 : Int) : Int :=
  let x1 := x0 - iAnd (iUshr x0 1) 1431655765
  let x2 := iAnd x1 858993459 + iAnd (iUshr x1 2) 858993459
  let x3 := iAnd (x2 + iUshr x2 4) 252645135
  let x4 := x3 + iUshr x3 8
  let x5 := x4 + iUshr x4 16
  iAnd x5 63
theorem bc15_ok : ∀ x : Fin 32, bc15 (x.val : Int) = bitF 6 (x.val : Int) 0 := by decide +kernel
theorem c_bitCount {d : Nat} {h : AH} {Φ : OUT → AH → Prop} {x : Int} (x0 : 0 ≤ x) (x1 : x < 32) (K : Φ (.inl (some (vi (bitF 6 x 0)))) h) : CT (d + 1) 0 0 J_J15_bitCount [vi x] h Φ := by
  refine e_J15_bitCount ?_; intro k step keep
  have e := bc15_ok ⟨x.toNat, by omega⟩
  rw [show (((⟨x.toNat, by omega⟩ : Fin 32).val : Nat) : Int) = x by simp; omega] at e
  rw [← e] at K
  repeat (first | refine step ?_)
  exact ⟨trivial, K⟩
def mskF (c : Nat) : Nat → Nat
  | 0 => 0
  | k + 1 => c + 256 * mskF c k
theorem land_split {a r m M : Nat} (ha : a < 256) (hm : m < 256) : (a + 256 * r) &&& (m + 256 * M) = (a &&& m) + 256 * (r &&& M) := by
  have hl : a &&& m < 256 := Nat.lt_of_le_of_lt Nat.and_le_left ha
  have t : ∀ x y : Nat, x < 256 → ∀ j, (x + 256 * y).testBit j = if j < 8 then x.testBit j else y.testBit (j - 8) := fun x y hx j => by
    have := Nat.testBit_two_pow_mul_add y (i := 8) (b := x) hx j
    rw [show (2 : Nat) ^ 8 * y + x = x + 256 * y by omega] at this
    exact this
  apply Nat.eq_of_testBit_eq
  intro j
  rw [Nat.testBit_and, t a r ha, t m M hm, t (a &&& m) (r &&& M) hl]
  split
  · rw [Nat.testBit_and]
  · rw [Nat.testBit_and]
def F1 (k x : Nat) : Nat := x - ((x / 2) &&& mskF 85 k)
def F2 (k x : Nat) : Nat := (x &&& mskF 51 k) + ((x / 4) &&& mskF 51 k)
def F3 (k x : Nat) : Nat := (x + x / 16) &&& mskF 15 k
def B1 (b : Nat) : Nat := b - ((b / 2) &&& 85)
def B2 (b : Nat) : Nat := (b &&& 51) + ((b / 4) &&& 51)
def B3 (b : Nat) : Nat := (b + b / 16) &&& 15
def pcB (b : Nat) : Nat := B3 (B2 (B1 b))
theorem b1a : ∀ (b : Fin 256) (t : Fin 2), (b.val / 2 + 128 * t.val) &&& 85 = (b.val / 2) &&& 85 := by decide +kernel
theorem b1b : ∀ (b : Fin 256), (b.val / 2) &&& 85 ≤ b.val ∧ B1 b.val < 256 := by decide +kernel
theorem b2a : ∀ (b : Fin 256) (t : Fin 4), (b.val / 4 + 64 * t.val) &&& 51 = (b.val / 4) &&& 51 := by decide +kernel
theorem b2b : ∀ (b : Fin 256), B2 (B1 b.val) ≤ 68 ∧ B2 (B1 b.val) % 16 ≤ 4 ∧ pcB b.val ≤ 8 := by decide +kernel
theorem b3a : ∀ (b : Fin 69) (t : Fin 5), (b.val + b.val / 16 + 16 * t.val) &&& 15 = (b.val + b.val / 16) &&& 15 := by decide +kernel
theorem F1_s {k b r : Nat} (hb : b < 256) : F1 (k + 1) (b + 256 * r) = B1 b + 256 * F1 k r := by
  unfold F1 B1
  rw [show mskF 85 (k + 1) = 85 + 256 * mskF 85 k from rfl]
  have e1 : (b + 256 * r) / 2 = (b / 2 + 128 * (r % 2)) + 256 * (r / 2) := by omega
  have h1 := b1a ⟨b, hb⟩ ⟨r % 2, by omega⟩
  have h2 := (b1b ⟨b, hb⟩).1
  have h3 : (r / 2) &&& mskF 85 k ≤ r := Nat.le_trans Nat.and_le_left (by omega)
  simp only at h1 h2
  rw [e1, land_split (by omega) (by omega), h1]
  omega
theorem F2_s {k b r : Nat} (hb : b < 256) : F2 (k + 1) (b + 256 * r) = B2 b + 256 * F2 k r := by
  unfold F2 B2
  rw [show mskF 51 (k + 1) = 51 + 256 * mskF 51 k from rfl]
  have e1 : (b + 256 * r) / 4 = (b / 4 + 64 * (r % 4)) + 256 * (r / 4) := by omega
  have h1 := b2a ⟨b, hb⟩ ⟨r % 4, by omega⟩
  simp only at h1
  rw [e1, land_split (a := b) hb (by omega), land_split (a := b / 4 + 64 * (r % 4)) (by omega) (by omega), h1]
  omega
theorem F3_s {k b r : Nat} (hb : b ≤ 68) (hr : r % 16 ≤ 4) : F3 (k + 1) (b + 256 * r) = B3 b + 256 * F3 k r := by
  unfold F3 B3
  rw [show mskF 15 (k + 1) = 15 + 256 * mskF 15 k from rfl]
  have e1 : b + 256 * r + (b + 256 * r) / 16 = (b + b / 16 + 16 * (r % 16)) + 256 * (r + r / 16) := by omega
  have h1 := b3a ⟨b, by omega⟩ ⟨r % 16, by omega⟩
  simp only at h1
  rw [e1, land_split (by omega) (by omega), h1]
def GG3 (k x : Nat) : Nat := F3 k (F2 k (F1 k x))
theorem GG3_s {k b r : Nat} (hb : b < 256) (hr : F2 k (F1 k r) % 16 ≤ 4) : GG3 (k + 1) (b + 256 * r) = pcB b + 256 * GG3 k r := by
  unfold GG3 pcB
  have q := b2b ⟨b, hb⟩
  have q1 := b1b ⟨b, hb⟩
  simp only at q q1
  rw [F1_s hb, F2_s q1.2, F3_s q.1 hr]
theorem lo4 {k b r : Nat} (hb : b < 256) : F2 (k + 1) (F1 (k + 1) (b + 256 * r)) % 16 ≤ 4 := by
  have q := b2b ⟨b, hb⟩
  have q1 := b1b ⟨b, hb⟩
  simp only at q q1
  rw [F1_s hb, F2_s q1.2]
  omega
def bsm (n : Nat) : Nat → Nat
  | 0 => 0
  | k + 1 => bsm n k + (if n.testBit k then 1 else 0)
theorem pc8 : ∀ b : Fin 256, pcB b.val = bsm b.val 8 := by decide +kernel
theorem pc4 : ∀ b : Fin 16, pcB b.val = bsm b.val 4 := by decide +kernel
theorem bsm_s {b r : Nat} (hb : b < 256) : ∀ k, bsm (b + 256 * r) (8 + k) = bsm b 8 + bsm r k := by
  have t : ∀ j, (b + 256 * r).testBit j = if j < 8 then b.testBit j else r.testBit (j - 8) := fun j => by
    have := Nat.testBit_two_pow_mul_add r (i := 8) (b := b) hb j
    rw [show (2 : Nat) ^ 8 * r + b = b + 256 * r by omega] at this
    exact this
  have low : ∀ k, k ≤ 8 → bsm (b + 256 * r) k = bsm b k := by
    intro k
    induction k with
    | zero => intro _; rfl
    | succ k ih =>
      intro hk
      have tk := t k
      rw [if_pos (by omega)] at tk
      unfold bsm
      rw [ih (by omega), tk]
  intro k
  induction k with
  | zero => rw [low 8 (by omega)]; rfl
  | succ k ih =>
    show bsm (b + 256 * r) (8 + k) + (if (b + 256 * r).testBit (8 + k) then 1 else 0) = _
    have tk := t (8 + k)
    rw [if_neg (by omega), show 8 + k - 8 = k by omega] at tk
    rw [ih, tk]
    show bsm b 8 + bsm r k + _ = bsm b 8 + (bsm r k + _)
    omega
/-- the five bytes -/
theorem pop5 {n : Nat} (hn : n < 2 ^ 36) : ∃ p0 p1 p2 p3 p4 : Nat, (p0 ≤ 8 ∧ p1 ≤ 8 ∧ p2 ≤ 8 ∧ p3 ≤ 8 ∧ p4 ≤ 8) ∧ GG3 8 n = p0 + 256 * (p1 + 256 * (p2 + 256 * (p3 + 256 * p4))) ∧ bsm n 36 = p0 + p1 + p2 + p3 + p4 := by
  have d : ∀ x : Nat, x = x % 256 + 256 * (x / 256) := fun x => by omega
  have z : ∀ k, GG3 k 0 = 0 := by
    intro k
    unfold GG3 F3 F2 F1
    simp
  have c : ∀ (x : Nat), ∃ b r, b < 256 ∧ x = b + 256 * r ∧ r = x / 256 := fun x => ⟨x % 256, x / 256, by omega, by omega, rfl⟩
  obtain ⟨b0, r0, h0, e0, f0⟩ := c n
  obtain ⟨b1, r1, h1, e1, f1⟩ := c r0
  obtain ⟨b2, r2, h2, e2, f2⟩ := c r1
  obtain ⟨b3, r3, h3, e3, f3⟩ := c r2
  have h4 : r3 < 16 := by omega
  refine ⟨pcB b0, pcB b1, pcB b2, pcB b3, pcB r3, ⟨(b2b ⟨b0, h0⟩).2.2, (b2b ⟨b1, h1⟩).2.2, (b2b ⟨b2, h2⟩).2.2, (b2b ⟨b3, h3⟩).2.2, (b2b ⟨r3, by omega⟩).2.2⟩, ?_, ?_⟩
  · have g4 : GG3 4 r3 = pcB r3 := by
      have := GG3_s (k := 3) (b := r3) (r := 0) (by omega) (by decide)
      rw [z 3] at this
      simpa using this
    have l4 := lo4 (k := 3) (b := r3) (r := 0) (by omega)
    rw [show r3 + 256 * 0 = r3 by omega] at l4
    have l3 := lo4 (k := 4) (b := b3) (r := r3) h3
    have l2 := lo4 (k := 5) (b := b2) (r := r2) h2
    have l1 := lo4 (k := 6) (b := b1) (r := r1) h1
    rw [← e3] at l3
    rw [← e2] at l2
    rw [← e1] at l1
    rw [e0, GG3_s h0 l1, e1, GG3_s h1 l2, e2, GG3_s h2 l3, e3, GG3_s h3 l4, g4]
  · rw [e0, show (36 : Nat) = 8 + 28 from rfl, bsm_s h0, e1, show (28 : Nat) = 8 + 20 from rfl, bsm_s h1, e2, show (20 : Nat) = 8 + 12 from rfl, bsm_s h2, e3, show (12 : Nat) = 8 + 4 from rfl, bsm_s h3]
    have a0 := pc8 ⟨b0, h0⟩
    have a1 := pc8 ⟨b1, h1⟩
    have a2 := pc8 ⟨b2, h2⟩
    have a3 := pc8 ⟨b3, h3⟩
    have a4 := pc4 ⟨r3, h4⟩
    simp only at a0 a1 a2 a3 a4
    omega
theorem cntF_snoc {f : Int → Int} : ∀ (k : Nat) (c a : Int), cntF f (k + 1) c a = cntF f k c a + (if f (c + k) = 0 then 0 else 1) := by
  intro k
  induction k with
  | zero => intro c a; show a + (if f c = 0 then 0 else 1) = a + (if f (c + ((0 : Nat) : Int)) = 0 then 0 else 1); rw [show c + ((0 : Nat) : Int) = c by omega]
  | succ k ih =>
    intro c a
    show cntF f (k + 1) (c + 1) _ = cntF f k (c + 1) _ + _
    rw [ih, show c + 1 + (k : Int) = c + ((k + 1 : Nat) : Int) by omega]
theorem bsm_cnt {n : Nat} {f : Int → Int} : ∀ k : Nat, (∀ c : Nat, c < k → (n.testBit c = true ↔ f c ≠ 0)) → cntF f k 0 0 = bsm n k := by
  intro k
  induction k with
  | zero => intro _; rfl
  | succ k ih =>
    intro hc
    rw [cntF_snoc, ih (fun c h => hc c (by omega)), show (0 : Int) + (k : Int) = (k : Int) by omega]
    show _ = ((bsm n k + (if n.testBit k then 1 else 0) : Nat) : Int)
    have := hc k (by omega)
    by_cases h : n.testBit k = true
    · rw [if_neg (this.mp h), if_pos h]; omega
    · rw [if_pos (Classical.byContradiction fun z => h (this.mpr z)), if_neg h]; omega
/-! the longs -/
theorem l_and {a b : Nat} (ha : a < 2 ^ 63) (hb : b < 2 ^ 63) : Int64.ofInt a &&& Int64.ofInt b = Int64.ofInt ((a &&& b : Nat) : Int) := by
  apply Int64.toBitVec.inj
  show BitVec.ofInt 64 a &&& BitVec.ofInt 64 b = BitVec.ofInt 64 ((a &&& b : Nat) : Int)
  rw [show BitVec.ofInt 64 (a : Int) = BitVec.ofNat 64 a from BitVec.ofInt_natCast .., show BitVec.ofInt 64 (b : Int) = BitVec.ofNat 64 b from BitVec.ofInt_natCast .., show BitVec.ofInt 64 ((a &&& b : Nat) : Int) = BitVec.ofNat 64 (a &&& b) from BitVec.ofInt_natCast ..]
  apply BitVec.eq_of_toNat_eq
  have h3 : a &&& b ≤ a := Nat.and_le_left
  rw [BitVec.toNat_and, BitVec.toNat_ofNat, BitVec.toNat_ofNat, BitVec.toNat_ofNat, Nat.mod_eq_of_lt (show a < 2 ^ 64 by omega), Nat.mod_eq_of_lt (show b < 2 ^ 64 by omega), Nat.mod_eq_of_lt (Nat.lt_of_le_of_lt h3 (by omega))]
theorem l_shr {a : Nat} {c : Int} {k : Nat} (ha : a < 2 ^ 63) (hk : ((Int32.ofInt c).toInt64.toUInt64 &&& Int64.toUInt64 63).toNat % 64 = k) : lUshr (Int64.ofInt a) c = Int64.ofInt ((a / 2 ^ k : Nat) : Int) := by
  apply Int64.toBitVec.inj
  show ((Int64.ofInt a).toUInt64 >>> ((Int32.ofInt c).toInt64.toUInt64 &&& Int64.toUInt64 63)).toBitVec = BitVec.ofInt 64 ((a / 2 ^ k : Nat) : Int)
  rw [show BitVec.ofInt 64 ((a / 2 ^ k : Nat) : Int) = BitVec.ofNat 64 (a / 2 ^ k) from BitVec.ofInt_natCast ..]
  apply BitVec.eq_of_toNat_eq
  show ((Int64.ofInt a).toUInt64 >>> ((Int32.ofInt c).toInt64.toUInt64 &&& Int64.toUInt64 63)).toNat = _
  rw [UInt64.toNat_shiftRight, hk, Nat.shiftRight_eq_div_pow]
  have e : (Int64.ofInt a).toUInt64.toNat = a := by
    show (BitVec.ofInt 64 (a : Int)).toNat = a
    rw [show BitVec.ofInt 64 (a : Int) = BitVec.ofNat 64 a from BitVec.ofInt_natCast .., BitVec.toNat_ofNat, Nat.mod_eq_of_lt (by omega)]
  have h3 : a / 2 ^ k ≤ a := Nat.div_le_self ..
  rw [e, BitVec.toNat_ofNat, Nat.mod_eq_of_lt (Nat.lt_of_le_of_lt h3 (by omega))]
theorem l_add {a b : Nat} : Int64.ofInt a + Int64.ofInt b = Int64.ofInt ((a + b : Nat) : Int) := by rw [← Int64.ofInt_add]; congr 1
theorem l_sub {a b : Nat} (h : b ≤ a) : Int64.ofInt a - Int64.ofInt b = Int64.ofInt ((a - b : Nat) : Int) := by rw [← Int64.ofInt_sub]; congr 1; omega
theorem l_127 {a : Nat} : iAnd (l2I (Int64.ofInt a)) 127 = ((a % 128 : Nat) : Int) := by
  unfold iAnd l2I
  rw [Int64.toInt32_ofInt, Int32.ofInt_toInt]
  have e : (Int32.ofInt (a : Int) &&& Int32.ofInt 127).toInt = (BitVec.ofNat 32 a &&& BitVec.ofNat 32 127).toInt := by
    show (BitVec.ofInt 32 (a : Int) &&& BitVec.ofInt 32 127).toInt = _
    rw [show BitVec.ofInt 32 (a : Int) = BitVec.ofNat 32 a from BitVec.ofInt_natCast .., show BitVec.ofInt 32 (127 : Int) = BitVec.ofNat 32 127 from rfl]
  rw [e]
  have e3 : (BitVec.ofNat 32 a &&& BitVec.ofNat 32 127).toNat = a % 128 := by
    rw [BitVec.toNat_and, BitVec.toNat_ofNat, BitVec.toNat_ofNat, show (127 : Nat) % 2 ^ 32 = 2 ^ 7 - 1 from rfl, Nat.and_two_pow_sub_one_eq_mod]
    omega
  rw [BitVec.toInt_eq_toNat_of_lt (by rw [e3]; omega), e3]
theorem F1_le {k x : Nat} : F1 k x ≤ x := Nat.sub_le ..
theorem msk85 : mskF 85 8 = 6148914691236517205 := by decide +kernel
theorem msk51 : mskF 51 8 = 3689348814741910323 := by decide +kernel
theorem msk15 : mskF 15 8 = 1085102592571150095 := by decide +kernel
theorem c_lbitCount {d : Nat} {h : AH} {Φ : OUT → AH → Prop} {x : Int64} {n : Nat} (hx : x = Int64.ofInt n) (hn : n < 2 ^ 36) (K : Φ (.inl (some (vi (bsm n 36 : Nat)))) h) : CT (d + 1) 0 0 J_J14_bitCount [vl x] h Φ := by
  refine e_J14_bitCount ?_; intro k step keep
  obtain ⟨p0, p1, p2, p3, p4, ⟨q0, q1, q2, q3, q4⟩, eg, eb⟩ := pop5 hn
  subst hx
  have a1 : Int64.ofInt n - (lUshr (Int64.ofInt n) 1 &&& Int64.ofInt 6148914691236517205) = Int64.ofInt (F1 8 n : Nat) := by
    rw [l_shr (k := 1) (by omega) (by decide), show (6148914691236517205 : Int) = ((mskF 85 8 : Nat) : Int) by rw [msk85]; rfl, l_and (by omega) (by rw [msk85]; omega), l_sub (Nat.le_trans Nat.and_le_left (by omega))]
    rfl
  have f1 : F1 8 n < 2 ^ 36 := Nat.lt_of_le_of_lt F1_le hn
  have eg2 : GG3 8 n = F3 8 (F2 8 (F1 8 n)) := rfl
  rw [eg2] at eg
  generalize F1 8 n = y at *
  have a2 : (Int64.ofInt y &&& Int64.ofInt 3689348814741910323) + (lUshr (Int64.ofInt y) 2 &&& Int64.ofInt 3689348814741910323) = Int64.ofInt (F2 8 y : Nat) := by
    have h3 : y / 2 ^ 2 < 2 ^ 63 := by omega
    rw [l_shr (k := 2) (by omega) (by decide), show (3689348814741910323 : Int) = ((mskF 51 8 : Nat) : Int) by rw [msk51]; rfl, l_and (by omega) (by rw [msk51]; omega), l_and h3 (by rw [msk51]; omega), l_add]
    rfl
  have f2 : F2 8 y < 2 ^ 37 := by
    have u1 : y &&& mskF 51 8 ≤ y := Nat.and_le_left
    have u2 : (y / 4) &&& mskF 51 8 ≤ y / 4 := Nat.and_le_left
    unfold F2
    omega
  generalize F2 8 y = z at *
  have a3 : (Int64.ofInt z + lUshr (Int64.ofInt z) 4) &&& Int64.ofInt 1085102592571150095 = Int64.ofInt (F3 8 z : Nat) := by
    rw [l_shr (k := 4) (by omega) (by decide), l_add, show (1085102592571150095 : Int) = ((mskF 15 8 : Nat) : Int) by rw [msk15]; rfl, l_and (by omega) (by rw [msk15]; omega)]
    rfl
  generalize F3 8 z = u at *
  have u5 : u < 2 ^ 40 := by omega
  have a4 : Int64.ofInt u + lUshr (Int64.ofInt u) 8 = Int64.ofInt ((u + u / 2 ^ 8 : Nat) : Int) := by rw [l_shr (k := 8) (by omega) (by decide), l_add]
  have a5 : Int64.ofInt ((u + u / 2 ^ 8 : Nat) : Int) + lUshr (Int64.ofInt ((u + u / 2 ^ 8 : Nat) : Int)) 16 = Int64.ofInt ((u + u / 2 ^ 8 + (u + u / 2 ^ 8) / 2 ^ 16 : Nat) : Int) := by rw [l_shr (k := 16) (by omega) (by decide), l_add]
  have a6 : Int64.ofInt ((u + u / 2 ^ 8 + (u + u / 2 ^ 8) / 2 ^ 16 : Nat) : Int) + lUshr (Int64.ofInt ((u + u / 2 ^ 8 + (u + u / 2 ^ 8) / 2 ^ 16 : Nat) : Int)) 32 = Int64.ofInt ((u + u / 2 ^ 8 + (u + u / 2 ^ 8) / 2 ^ 16 + (u + u / 2 ^ 8 + (u + u / 2 ^ 8) / 2 ^ 16) / 2 ^ 32 : Nat) : Int) := by rw [l_shr (k := 32) (by omega) (by decide), l_add]
  have fin : ∀ v : Int64, v = Int64.ofInt ((u + u / 2 ^ 8 + (u + u / 2 ^ 8) / 2 ^ 16 + (u + u / 2 ^ 8 + (u + u / 2 ^ 8) / 2 ^ 16) / 2 ^ 32 : Nat) : Int) → k 0 0 54 [] [vl v] h := by
    intro v hv
    subst hv
    refine step ?_
    refine step ?_
    refine step ?_
    refine step ?_
    refine step ?_
    refine step ?_
    refine ⟨trivial, ?_⟩
    have w1 : u / 2 ^ 8 = p1 + 256 * p2 + 65536 * p3 + 16777216 * p4 := by omega
    have w2 : (u + u / 2 ^ 8) / 2 ^ 16 = (p2 + p3) + 256 * (p3 + p4) + 65536 * p4 := by rw [w1]; omega
    have w3 : (u + u / 2 ^ 8 + (u + u / 2 ^ 8) / 2 ^ 16) / 2 ^ 32 = p4 := by rw [w2, w1]; omega
    have w4 : (u + u / 2 ^ 8 + (u + u / 2 ^ 8) / 2 ^ 16 + (u + u / 2 ^ 8 + (u + u / 2 ^ 8) / 2 ^ 16) / 2 ^ 32) % 128 = bsm n 36 := by rw [w3, w2, w1]; omega
    rw [l_127, w4]
    exact K
  refine step ?_
  refine step ?_
  refine step ?_
  refine step ?_
  refine step ?_
  refine step ?_
  refine step ?_
  refine step ?_
  rw [a1]
  refine step ?_
  refine step ?_
  refine step ?_
  refine step ?_
  refine step ?_
  refine step ?_
  refine step ?_
  refine step ?_
  refine step ?_
  refine step ?_
  rw [a2]
  refine step ?_
  refine step ?_
  refine step ?_
  refine step ?_
  refine step ?_
  refine step ?_
  refine step ?_
  refine step ?_
  rw [a3]
  refine step ?_
  refine step ?_
  refine step ?_
  refine step ?_
  refine step ?_
  refine step ?_
  rw [a4]
  refine step ?_
  refine step ?_
  refine step ?_
  refine step ?_
  refine step ?_
  refine step ?_
  rw [a5]
  refine step ?_
  refine step ?_
  refine step ?_
  refine step ?_
  refine step ?_
  exact keep [] (fin _ a6)
