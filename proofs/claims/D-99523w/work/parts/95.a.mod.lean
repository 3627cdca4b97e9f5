-- NEEDS: 68 71
/-! floorMod by 4 is the last two bits -/
theorem and3_v (x : Int64) : l2I (x &&& 3) = x.toInt % 4 := by
  have e : (x &&& 3).toBitVec = x.toBitVec &&& 3#64 := rfl
  have n : (x &&& 3).toBitVec.toNat = x.toBitVec.toNat % 4 := by
    rw [e, BitVec.toNat_and, show (3#64).toNat = 2 ^ 2 - 1 from rfl, Nat.and_two_pow_sub_one_eq_mod]
  have t : (x &&& 3).toInt = ((x &&& 3).toBitVec.toNat : Int) := BitVec.toInt_eq_toNat_of_lt (by omega)
  have l : l2I (x &&& 3) = (x &&& 3).toInt := by
    have := l_2i (a := (x &&& 3).toInt) (by omega)
    rw [Int64.ofInt_toInt] at this
    exact this
  rw [l, t, n]
  have h : x.toInt = if 2 * x.toBitVec.toNat < 2 ^ 64 then (x.toBitVec.toNat : Int) else (x.toBitVec.toNat : Int) - ((2 ^ 64 : Nat) : Int) := BitVec.toInt_eq_toNat_cond x.toBitVec
  rw [h]
  split <;> omega
theorem rem4 (x : Int64) : x - x / Int64.ofInt 4 * Int64.ofInt 4 = Int64.ofInt (x.toInt.tmod 4) := by
  have h1 : Int64.ofInt x.toInt = x := Int64.ofInt_toInt x
  have lo := Int64.le_toInt x
  have hi := Int64.toInt_lt x
  have e := Int64.ofInt_tdiv (a := x.toInt) (b := 4) (by show (-9223372036854775808 : Int) ≤ x.toInt; omega) (by show x.toInt ≤ (9223372036854775807 : Int); omega) (by decide) (by decide)
  rw [h1] at e
  rw [← e, ← Int64.ofInt_mul]
  have e2 : x - Int64.ofInt (x.toInt.tdiv 4 * 4) = Int64.ofInt (x.toInt - x.toInt.tdiv 4 * 4) := by rw [Int64.ofInt_sub, h1]
  rw [e2]
  congr 1
  have := Int.tmod_add_mul_tdiv x.toInt 4
  omega
theorem xor4 (x : Int64) : (x ^^^ Int64.ofInt 4).toInt < 0 ↔ x.toInt < 0 := by
  have h1 : (x ^^^ Int64.ofInt 4).toBitVec = x.toBitVec ^^^ 4#64 := rfl
  have m1 : (x ^^^ Int64.ofInt 4).toBitVec.msb = x.toBitVec.msb := by rw [h1, BitVec.msb_xor, show (4#64).msb = false from rfl]; simp
  have a := BitVec.msb_eq_toInt (x := (x ^^^ Int64.ofInt 4).toBitVec)
  have b := BitVec.msb_eq_toInt (x := x.toBitVec)
  rw [m1, b] at a
  have c := decide_eq_decide.mp a
  exact c.symm
theorem lCmp_z (y : Int64) : lCmp y (Int64.ofInt 0) = if 0 < y.toInt then 1 else if y.toInt = 0 then 0 else -1 := by
  unfold lCmp
  simp only [Int64.lt_iff_toInt_lt, ← Int64.toInt_inj, show (Int64.ofInt 0).toInt = 0 from rfl]
theorem c_floorMod {d : Nat} {h : AH} {Φ : OUT → AH → Prop} {x : Int64} (K : ∀ y : Int64, l2I y = l2I (x &&& 3) → Φ (.inl (some (vl y))) h) : CT (d + 1) 0 0 J_J11_floorMod [vl x, vl (Int64.ofInt 4)] h Φ := by
  refine e_J11_floorMod ?_; intro k step keep
  have lr : ∀ x y : Int64, iR (lCmp x y) := fun x y => by unfold lCmp; (repeat' split) <;> omega
  have lo := Int64.le_toInt x
  have hi := Int64.toInt_lt x
  have n4 : Int64.ofInt 4 ≠ 0 := by decide
  have xz := lCmp_z (x ^^^ Int64.ofInt 4)
  have x4 := xor4 x
  have tb : -4 < x.toInt.tmod 4 ∧ x.toInt.tmod 4 < 4 ∧ (0 ≤ x.toInt → x.toInt.tmod 4 = x.toInt % 4) ∧ (x.toInt < 0 → x.toInt.tmod 4 = 0 → x.toInt % 4 = 0) ∧ (x.toInt < 0 → x.toInt.tmod 4 ≠ 0 → x.toInt.tmod 4 + 4 = x.toInt % 4) := by
    have e1 := Int.tmod_add_mul_tdiv x.toInt 4
    by_cases h0 : 0 ≤ x.toInt
    · have := Int.tmod_eq_emod_of_nonneg (b := 4) h0
      refine ⟨by omega, by omega, fun _ => this, fun z => by omega, fun z => by omega⟩
    · have l := Int.lt_tmod_of_pos x.toInt (b := 4) (by omega)
      have u : x.toInt.tmod 4 ≤ 0 := by
        have h := Int.neg_tmod x.toInt 4
        have h2 := Int.tmod_nonneg 4 (show 0 ≤ -x.toInt by omega)
        omega
      refine ⟨by omega, by omega, fun z => absurd z h0, fun _ z => by omega, fun _ z => by omega⟩
  have a3 := and3_v x
  have mz : ∀ c : Int, -4 < c → c < 4 → (lCmp (Int64.ofInt c) (Int64.ofInt 0) = 0 ↔ c = 0) := fun c h1 h2 => by
    rw [lCmp_i (by omega) (by omega)]
    (repeat' split) <;> omega
  refine step ?_
  refine step ?_
  refine step ?_
  refine And.intro n4 ?_
  rw [rem4]
  refine step ?_
  refine step ?_
  refine step ?_
  refine step ?_
  refine step ?_
  refine step ?_
  refine step ?_
  refine And.intro (lr _ _) ?_
  refine And.intro (fun hc => ?_) (fun hc => ?_)
  · refine step ?_
    refine step ?_
    have hc : 0 ≤ lCmp (x ^^^ Int64.ofInt 4) (Int64.ofInt 0) := hc
    have hp : 0 ≤ x.toInt := by
      have : ¬ (x ^^^ Int64.ofInt 4).toInt < 0 := fun z => by
        rw [xz, if_neg (by omega), if_neg (by omega)] at hc
        omega
      omega
    refine K _ ?_
    rw [a3, l_2i (by omega)]
    exact tb.2.2.1 hp
  · have hc : lCmp (x ^^^ Int64.ofInt 4) (Int64.ofInt 0) < 0 := hc
    have hneg : x.toInt < 0 := by
      refine x4.mp (Classical.byContradiction fun z => ?_)
      rw [xz] at hc
      revert hc
      (repeat' split) <;> intros <;> omega
    refine step ?_
    refine step ?_
    refine step ?_
    refine step ?_
    refine And.intro (lr _ _) ?_
    refine And.intro (fun hd => ?_) (fun hd => ?_)
    · refine step ?_
      refine step ?_
      refine K _ ?_
      rw [a3, l_2i (by omega)]
      have z := (mz _ tb.1 tb.2.1).mp hd
      rw [z]
      exact (tb.2.2.2.1 hneg z).symm
    · refine step ?_
      refine step ?_
      refine step ?_
      refine step ?_
      refine K _ ?_
      have z : x.toInt.tmod 4 ≠ 0 := fun z => hd ((mz _ tb.1 tb.2.1).mpr z)
      rw [a3, ← Int64.ofInt_add, l_2i (by omega)]
      exact tb.2.2.2.2 hneg z
