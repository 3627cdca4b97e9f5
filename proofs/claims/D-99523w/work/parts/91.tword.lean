-- NEEDS: 90
/-! THE TWIN'S READER: words, as packed numbers -/
def pkN (T : Int → Int) (j : Int) : Nat → Nat
  | 0 => 0
  | c + 1 => pkN T j c * 256 + (T (j + c)).toNat
theorem pkN_lt {T : Int → Int} {j : Int} : ∀ c : Nat, (∀ x : Nat, x < c → 97 ≤ T (j + x) ∧ T (j + x) ≤ 122) → pkN T j c < 256 ^ c := by
  intro c
  induction c with
  | zero => intro _; show 0 < 1; omega
  | succ c ih =>
    intro hx
    have h1 := ih (fun x h => hx x (by omega))
    have h2 := hx c (by omega)
    unfold pkN
    rw [Nat.pow_succ]
    omega
theorem l_shl8 {a : Nat} (ha : a < 2 ^ 50) : lShl (Int64.ofInt a) 8 = Int64.ofInt ((a * 256 : Nat) : Int) := by
  apply Int64.toBitVec.inj
  have e0 : ((Int32.ofInt 8).toInt64 &&& 63).toBitVec.smod 64 = BitVec.ofNat 64 8 := by decide
  show (Int64.ofInt a).toBitVec <<< (((Int32.ofInt 8).toInt64 &&& 63).toBitVec.smod 64) = BitVec.ofInt 64 ((a * 256 : Nat) : Int)
  rw [e0]
  show BitVec.ofInt 64 (a : Int) <<< (BitVec.ofNat 64 8).toNat = _
  rw [show BitVec.ofInt 64 (a : Int) = BitVec.ofNat 64 a from BitVec.ofInt_natCast .., show BitVec.ofInt 64 ((a * 256 : Nat) : Int) = BitVec.ofNat 64 (a * 256) from BitVec.ofInt_natCast ..]
  apply BitVec.eq_of_toNat_eq
  rw [BitVec.toNat_shiftLeft, BitVec.toNat_ofNat, BitVec.toNat_ofNat, Nat.mod_eq_of_lt (show a < 2 ^ 64 by omega), show (8 : Nat) % 2 ^ 64 = 8 from rfl, Nat.shiftLeft_eq, BitVec.toNat_ofNat]
theorem l_or2 {a b : Nat} (ha : a < 2 ^ 50) (hb : b < 256) : Int64.ofInt ((a * 256 : Nat) : Int) ||| Int64.ofInt b = Int64.ofInt ((a * 256 + b : Nat) : Int) := by
  apply Int64.toBitVec.inj
  show BitVec.ofInt 64 ((a * 256 : Nat) : Int) ||| BitVec.ofInt 64 b = BitVec.ofInt 64 ((a * 256 + b : Nat) : Int)
  rw [show BitVec.ofInt 64 ((a * 256 : Nat) : Int) = BitVec.ofNat 64 (a * 256) from BitVec.ofInt_natCast .., show BitVec.ofInt 64 (b : Int) = BitVec.ofNat 64 b from BitVec.ofInt_natCast .., show BitVec.ofInt 64 ((a * 256 + b : Nat) : Int) = BitVec.ofNat 64 (a * 256 + b) from BitVec.ofInt_natCast ..]
  apply BitVec.eq_of_toNat_eq
  rw [BitVec.toNat_or, BitVec.toNat_ofNat, BitVec.toNat_ofNat, BitVec.toNat_ofNat, Nat.mod_eq_of_lt (show a * 256 < 2 ^ 64 by omega), Nat.mod_eq_of_lt (show b < 2 ^ 64 by omega), Nat.mod_eq_of_lt (show a * 256 + b < 2 ^ 64 by omega)]
  have := Nat.shiftLeft_add_eq_or_of_lt (i := 8) (b := b) hb a
  rw [Nat.shiftLeft_eq] at this
  exact this.symm
theorem lCmp_eq {a b : Nat} (ha : a < 2 ^ 60) (hb : b < 2 ^ 60) : lCmp (Int64.ofInt a) (Int64.ofInt b) = 0 ↔ a = b := by
  have e1 : (Int64.ofInt (a : Int)).toInt = a := Int64.toInt_ofInt_of_le (by omega) (by omega)
  have e2 : (Int64.ofInt (b : Int)).toInt = b := Int64.toInt_ofInt_of_le (by omega) (by omega)
  unfold lCmp
  simp only [Int64.lt_iff_toInt_lt, ← Int64.toInt_inj, e1, e2]
  constructor
  · intro h
    revert h
    (repeat' split) <;> intros <;> omega
  · intro h
    rw [h]
    simp
theorem lep_all {T : Int → Int} {n : Int} : ∀ (k : Nat) (i : Int), i + k ≤ n → (i ≤ leF T n k i ∧ leF T n k i ≤ i + k) ∧ ∀ x, i ≤ x → x < leF T n k i → ltP T n x := by
  intro k
  induction k with
  | zero => intro i _; exact ⟨⟨by unfold leF; omega, by unfold leF; omega⟩, fun x x0 x1 => by unfold leF at x1; omega⟩
  | succ k ih =>
    intro i hk
    obtain ⟨q1, q2⟩ := ih (i + 1) (by omega)
    unfold leF
    split
    · rename_i hl
      refine ⟨by omega, fun x x0 x1 => ?_⟩
      by_cases hx : x = i
      · rw [hx]; exact hl
      · exact q2 x (by omega) x1
    · exact ⟨by omega, fun x x0 x1 => by omega⟩
/-- the word that stands at j is the one packed as W -/
def wdP (T : Int → Int) (n j : Int) (W : Nat) : Prop := 0 < lep T n j - j ∧ lep T n j - j < 8 ∧ pkN T j (lep T n j - j).toNat = W
theorem t_isWord {d : Nat} {h : AH} {Φ : OUT → AH → Prop} {T : Int → Int} {n i : Int} {W : Nat} (hM : hP h M = MP) (hT : hI h mTAPE = T) (hn : hI h M 1 = n) (hi : hI h M 8 = i) (i0 : 0 ≤ i) (i1 : i ≤ n) (n1 : n ≤ 400) (hB : TB T) (hW : W < 2 ^ 60)
    (K : ∀ p r, (r = 1 ∧ wdP T n (skp T n i) W) ∨ (r = 0 ∧ ¬ wdP T n (skp T n i) W) → hP p M = MP → hI p M 8 = skp T n i → TA [] [8] h p → Φ (.inl (some (vi r))) p) : CT (d + 2) 0 0 J_X4_isWord [vo M, vl (Int64.ofInt W)] h Φ := by
  refine e_X4_isWord ?_; intro k step keep
  have sk := skp_ok (T := T) i1
  repeat (first | refine wtA (by decide) ?_ | refine wtM ?_ | refine wtL ?_ | refine step ?_ | refine Exists.intro _ (And.intro (congrFun hM _) ?_) | refine Exists.intro _ (And.intro rfl ?_) | refine And.intro rfl ?_ | refine And.intro trivial ?_ | (refine And.intro (by intro hz; exfalso; omega) ?_; intro hz9) | refine And.intro (by omega) ?_ | refine And.intro (by simp only [lnM_TAPE, lnM_SIGN, lnM_LENG, lnM_CLAU, lnM_CLSS, lnM_READ, lnM_OPEN, lnM_STCK, lnM_WORD, lnM_SAID, lnM_WASS, lnM_KEPT, lnM_FAR, lnM_WASI, lnM_OUTO, lnM_HASB, lnM_WHER, lnM_ISFI, lnM_CELT, lnM_IMGS, lnM_IMGF, lnM_IMGX, lnM_ISMA]; omega) ?_ | (refine And.intro ?_ (by intro hz; exfalso; omega); intro hz9))
  refine Or.inl (t_see hM hT hn hi i0 i1 n1 hB (fun p hM h8 T1 => ?_))
  generalize hJ : skp T n i = j at *
  have hn1 : hI p M 1 = n := by rw [T1.f (by decide)]; exact hn
  have hT1 : hI p mTAPE = T := by rw [T1.i (by decide) (by decide)]; exact hT
  have la := lep_all (T := T) (n := n) (n - j).toNat j (by omega)
  have hL : lep T n j = leF T n (n - j).toNat j := rfl
  rw [← hL] at la
  generalize hE : lep T n j = e at *
  have K := fun r hr => K p r hr hM h8 T1
  unfold wdP at K
  rw [hE] at K
  have fin : ∀ (v : Int64), (e - j ≤ 7 → v = Int64.ofInt (pkN T j (e - j).toNat)) → k 0 0 56 [(0, vo M), (1, vl (Int64.ofInt W)), (3, vl v), (5, vi (e - j))] [] p := by
    intro v hv
    repeat (first | refine wtA (by decide) ?_ | refine wtM ?_ | refine wtL ?_ | refine step ?_ | refine Exists.intro _ (And.intro (congrFun hM _) ?_) | refine Exists.intro _ (And.intro rfl ?_) | refine And.intro rfl ?_ | refine And.intro trivial ?_ | (refine And.intro (by intro hz; exfalso; omega) ?_; intro hz9) | refine And.intro (by omega) ?_ | refine And.intro (by simp only [lnM_TAPE, lnM_SIGN, lnM_LENG, lnM_CLAU, lnM_CLSS, lnM_READ, lnM_OPEN, lnM_STCK, lnM_WORD, lnM_SAID, lnM_WASS, lnM_KEPT, lnM_FAR, lnM_WASI, lnM_OUTO, lnM_HASB, lnM_WHER, lnM_ISFI, lnM_CELT, lnM_IMGS, lnM_IMGF, lnM_IMGX, lnM_ISMA]; omega) ?_ | (refine And.intro ?_ (by intro hz; exfalso; omega); intro hz9))
    refine And.intro (fun h1 => ?_) (fun h1 => ?_)
    · repeat (first | refine wtA (by decide) ?_ | refine wtM ?_ | refine wtL ?_ | refine step ?_ | refine Exists.intro _ (And.intro (congrFun hM _) ?_) | refine Exists.intro _ (And.intro rfl ?_) | refine And.intro rfl ?_ | refine And.intro trivial ?_ | (refine And.intro (by intro hz; exfalso; omega) ?_; intro hz9) | refine And.intro (by omega) ?_ | refine And.intro (by simp only [lnM_TAPE, lnM_SIGN, lnM_LENG, lnM_CLAU, lnM_CLSS, lnM_READ, lnM_OPEN, lnM_STCK, lnM_WORD, lnM_SAID, lnM_WASS, lnM_KEPT, lnM_FAR, lnM_WASI, lnM_OUTO, lnM_HASB, lnM_WHER, lnM_ISFI, lnM_CELT, lnM_IMGS, lnM_IMGF, lnM_IMGX, lnM_ISMA]; omega) ?_ | (refine And.intro ?_ (by intro hz; exfalso; omega); intro hz9))
      exact K 0 (Or.inr ⟨rfl, by omega⟩)
    · repeat (first | refine wtA (by decide) ?_ | refine wtM ?_ | refine wtL ?_ | refine step ?_ | refine Exists.intro _ (And.intro (congrFun hM _) ?_) | refine Exists.intro _ (And.intro rfl ?_) | refine And.intro rfl ?_ | refine And.intro trivial ?_ | (refine And.intro (by intro hz; exfalso; omega) ?_; intro hz9) | refine And.intro (by omega) ?_ | refine And.intro (by simp only [lnM_TAPE, lnM_SIGN, lnM_LENG, lnM_CLAU, lnM_CLSS, lnM_READ, lnM_OPEN, lnM_STCK, lnM_WORD, lnM_SAID, lnM_WASS, lnM_KEPT, lnM_FAR, lnM_WASI, lnM_OUTO, lnM_HASB, lnM_WHER, lnM_ISFI, lnM_CELT, lnM_IMGS, lnM_IMGF, lnM_IMGX, lnM_ISMA]; omega) ?_ | (refine And.intro ?_ (by intro hz; exfalso; omega); intro hz9))
      refine And.intro (fun h2 => ?_) (fun h2 => ?_)
      · repeat (first | refine wtA (by decide) ?_ | refine wtM ?_ | refine wtL ?_ | refine step ?_ | refine Exists.intro _ (And.intro (congrFun hM _) ?_) | refine Exists.intro _ (And.intro rfl ?_) | refine And.intro rfl ?_ | refine And.intro trivial ?_ | (refine And.intro (by intro hz; exfalso; omega) ?_; intro hz9) | refine And.intro (by omega) ?_ | refine And.intro (by simp only [lnM_TAPE, lnM_SIGN, lnM_LENG, lnM_CLAU, lnM_CLSS, lnM_READ, lnM_OPEN, lnM_STCK, lnM_WORD, lnM_SAID, lnM_WASS, lnM_KEPT, lnM_FAR, lnM_WASI, lnM_OUTO, lnM_HASB, lnM_WHER, lnM_ISFI, lnM_CELT, lnM_IMGS, lnM_IMGF, lnM_IMGX, lnM_ISMA]; omega) ?_ | (refine And.intro ?_ (by intro hz; exfalso; omega); intro hz9))
        exact K 0 (Or.inr ⟨rfl, by omega⟩)
      · have hv := hv (by omega)
        subst hv
        have hp := pkN_lt (T := T) (j := j) (e - j).toNat (fun x hx => by have := la.2 (j + x) (by omega) (by omega); exact this.2)
        have hp2 : 256 ^ (e - j).toNat ≤ 256 ^ 7 := Nat.pow_le_pow_right (by omega) (by omega)
        have lc := lCmp_eq (a := pkN T j (e - j).toNat) (b := W) (by omega) hW
        have lr : ∀ x y : Int64, iR (lCmp x y) := fun x y => by unfold lCmp; (repeat' split) <;> omega
        refine step ?_
        refine step ?_
        refine step ?_
        refine step ?_
        refine And.intro (lr _ _) ?_
        refine And.intro (fun h3 => ?_) (fun h3 => ?_)
        · repeat (first | refine wtA (by decide) ?_ | refine wtM ?_ | refine wtL ?_ | refine step ?_ | refine Exists.intro _ (And.intro (congrFun hM _) ?_) | refine Exists.intro _ (And.intro rfl ?_) | refine And.intro rfl ?_ | refine And.intro trivial ?_ | (refine And.intro (by intro hz; exfalso; omega) ?_; intro hz9) | refine And.intro (by omega) ?_ | refine And.intro (by simp only [lnM_TAPE, lnM_SIGN, lnM_LENG, lnM_CLAU, lnM_CLSS, lnM_READ, lnM_OPEN, lnM_STCK, lnM_WORD, lnM_SAID, lnM_WASS, lnM_KEPT, lnM_FAR, lnM_WASI, lnM_OUTO, lnM_HASB, lnM_WHER, lnM_ISFI, lnM_CELT, lnM_IMGS, lnM_IMGF, lnM_IMGX, lnM_ISMA]; omega) ?_ | (refine And.intro ?_ (by intro hz; exfalso; omega); intro hz9))
          exact K 0 (Or.inr ⟨rfl, fun z => h3 (lc.mpr z.2.2)⟩)
        · repeat (first | refine wtA (by decide) ?_ | refine wtM ?_ | refine wtL ?_ | refine step ?_ | refine Exists.intro _ (And.intro (congrFun hM _) ?_) | refine Exists.intro _ (And.intro rfl ?_) | refine And.intro rfl ?_ | refine And.intro trivial ?_ | (refine And.intro (by intro hz; exfalso; omega) ?_; intro hz9) | refine And.intro (by omega) ?_ | refine And.intro (by simp only [lnM_TAPE, lnM_SIGN, lnM_LENG, lnM_CLAU, lnM_CLSS, lnM_READ, lnM_OPEN, lnM_STCK, lnM_WORD, lnM_SAID, lnM_WASS, lnM_KEPT, lnM_FAR, lnM_WASI, lnM_OUTO, lnM_HASB, lnM_WHER, lnM_ISFI, lnM_CELT, lnM_IMGS, lnM_IMGF, lnM_IMGX, lnM_ISMA]; omega) ?_ | (refine And.intro ?_ (by intro hz; exfalso; omega); intro hz9))
          exact K 1 (Or.inl ⟨rfl, by omega, by omega, lc.mp h3⟩)
  have loop : ∀ (m : Nat) (c : Int) (v : Int64), 0 ≤ c → j + c + m = n → (c ≤ 7 → v = Int64.ofInt (pkN T j c.toNat)) → (∀ x, j ≤ x → x < j + c → ltP T n x) → e = leF T n m (j + c) → k 0 0 10 [(0, vo M), (1, vl (Int64.ofInt W)), (3, vl v), (5, vi c)] [] p := by
    intro m
    induction m with
    | zero =>
      intro c v c0 hm hv ha he
      have he : e = j + c := he
      refine step ?_
      repeat (first | refine wtA (by decide) ?_ | refine wtM ?_ | refine wtL ?_ | refine step ?_ | refine Exists.intro _ (And.intro (congrFun hM _) ?_) | refine Exists.intro _ (And.intro rfl ?_) | refine And.intro rfl ?_ | refine And.intro trivial ?_ | (refine And.intro (by intro hz; exfalso; omega) ?_; intro hz9) | refine And.intro (by omega) ?_ | refine And.intro (by simp only [lnM_TAPE, lnM_SIGN, lnM_LENG, lnM_CLAU, lnM_CLSS, lnM_READ, lnM_OPEN, lnM_STCK, lnM_WORD, lnM_SAID, lnM_WASS, lnM_KEPT, lnM_FAR, lnM_WASI, lnM_OUTO, lnM_HASB, lnM_WHER, lnM_ISFI, lnM_CELT, lnM_IMGS, lnM_IMGF, lnM_IMGX, lnM_ISMA]; omega) ?_ | (refine And.intro ?_ (by intro hz; exfalso; omega); intro hz9))
      rw [h8]
      refine Or.inl (t_isLetter hM hT1 hn1 (by omega) (by omega) n1 (by omega) hB (fun r hr => ?_))
      have hec : e - j = c := by omega
      rw [hec] at fin
      repeat (first | (exact fin v hv) | refine wtA (by decide) ?_ | refine wtM ?_ | refine wtL ?_ | refine step ?_ | refine Exists.intro _ (And.intro (congrFun hM _) ?_) | refine Exists.intro _ (And.intro rfl ?_) | refine And.intro rfl ?_ | refine And.intro trivial ?_ | (refine And.intro (by intro hz; exfalso; omega) ?_; intro hz9) | refine And.intro (by omega) ?_ | refine And.intro (by simp only [lnM_TAPE, lnM_SIGN, lnM_LENG, lnM_CLAU, lnM_CLSS, lnM_READ, lnM_OPEN, lnM_STCK, lnM_WORD, lnM_SAID, lnM_WASS, lnM_KEPT, lnM_FAR, lnM_WASI, lnM_OUTO, lnM_HASB, lnM_WHER, lnM_ISFI, lnM_CELT, lnM_IMGS, lnM_IMGF, lnM_IMGX, lnM_ISMA]; omega) ?_ | (refine And.intro ?_ (by intro hz; exfalso; omega); intro hz9))
    | succ m ih =>
      intro c v c0 hm hv ha he
      unfold leF at he
      have e8 : hI p mTAPE (hI p M 8 + c) = T (j + c) := by rw [hT1, h8]
      refine step ?_
      repeat (first | refine wtA (by decide) ?_ | refine wtM ?_ | refine wtL ?_ | refine step ?_ | refine Exists.intro _ (And.intro (congrFun hM _) ?_) | refine Exists.intro _ (And.intro rfl ?_) | refine And.intro rfl ?_ | refine And.intro trivial ?_ | (refine And.intro (by intro hz; exfalso; omega) ?_; intro hz9) | refine And.intro (by omega) ?_ | refine And.intro (by simp only [lnM_TAPE, lnM_SIGN, lnM_LENG, lnM_CLAU, lnM_CLSS, lnM_READ, lnM_OPEN, lnM_STCK, lnM_WORD, lnM_SAID, lnM_WASS, lnM_KEPT, lnM_FAR, lnM_WASI, lnM_OUTO, lnM_HASB, lnM_WHER, lnM_ISFI, lnM_CELT, lnM_IMGS, lnM_IMGF, lnM_IMGX, lnM_ISMA]; omega) ?_ | (refine And.intro ?_ (by intro hz; exfalso; omega); intro hz9))
      rw [h8]
      refine Or.inl (t_isLetter hM hT1 hn1 (by omega) (by omega) n1 (by omega) hB (fun r hr => ?_))
      repeat (first | refine wtA (by decide) ?_ | refine wtM ?_ | refine wtL ?_ | refine step ?_ | refine Exists.intro _ (And.intro (congrFun hM _) ?_) | refine Exists.intro _ (And.intro rfl ?_) | refine And.intro rfl ?_ | refine And.intro trivial ?_ | (refine And.intro (by intro hz; exfalso; omega) ?_; intro hz9) | refine And.intro (by omega) ?_ | refine And.intro (by simp only [lnM_TAPE, lnM_SIGN, lnM_LENG, lnM_CLAU, lnM_CLSS, lnM_READ, lnM_OPEN, lnM_STCK, lnM_WORD, lnM_SAID, lnM_WASS, lnM_KEPT, lnM_FAR, lnM_WASI, lnM_OUTO, lnM_HASB, lnM_WHER, lnM_ISFI, lnM_CELT, lnM_IMGS, lnM_IMGF, lnM_IMGX, lnM_ISMA]; omega) ?_ | (refine And.intro ?_ (by intro hz; exfalso; omega); intro hz9))
      refine And.intro (fun hd => ?_) (fun hd => ?_)
      · rw [if_neg (by omega)] at he
        have hec : e - j = c := by omega
        rw [hec] at fin
        exact fin v hv
      · have hl : ltP T n (j + c) := by omega
        rw [if_pos hl] at he
        have ha2 : ∀ x, j ≤ x → x < j + (c + 1) → ltP T n x := fun x x0 x1 => by
          by_cases hx : x = j + c
          · rw [hx]; exact hl
          · exact ha x x0 (by omega)
        rw [show j + c + 1 = j + (c + 1) by omega] at he
        repeat (first | refine wtA (by decide) ?_ | refine wtM ?_ | refine wtL ?_ | refine step ?_ | refine Exists.intro _ (And.intro (congrFun hM _) ?_) | refine Exists.intro _ (And.intro rfl ?_) | refine And.intro rfl ?_ | refine And.intro trivial ?_ | (refine And.intro (by intro hz; exfalso; omega) ?_; intro hz9) | refine And.intro (by omega) ?_ | refine And.intro (by simp only [lnM_TAPE, lnM_SIGN, lnM_LENG, lnM_CLAU, lnM_CLSS, lnM_READ, lnM_OPEN, lnM_STCK, lnM_WORD, lnM_SAID, lnM_WASS, lnM_KEPT, lnM_FAR, lnM_WASI, lnM_OUTO, lnM_HASB, lnM_WHER, lnM_ISFI, lnM_CELT, lnM_IMGS, lnM_IMGF, lnM_IMGX, lnM_ISMA]; omega) ?_ | (refine And.intro ?_ (by intro hz; exfalso; omega); intro hz9))
        refine And.intro (fun h5 => ?_) (fun h5 => ?_)
        · repeat (first | (exact ih (c + 1) v (by omega) (by omega) (fun z => by omega) ha2 he) | refine wtA (by decide) ?_ | refine wtM ?_ | refine wtL ?_ | refine step ?_ | refine Exists.intro _ (And.intro (congrFun hM _) ?_) | refine Exists.intro _ (And.intro rfl ?_) | refine And.intro rfl ?_ | refine And.intro trivial ?_ | (refine And.intro (by intro hz; exfalso; omega) ?_; intro hz9) | refine And.intro (by omega) ?_ | refine And.intro (by simp only [lnM_TAPE, lnM_SIGN, lnM_LENG, lnM_CLAU, lnM_CLSS, lnM_READ, lnM_OPEN, lnM_STCK, lnM_WORD, lnM_SAID, lnM_WASS, lnM_KEPT, lnM_FAR, lnM_WASI, lnM_OUTO, lnM_HASB, lnM_WHER, lnM_ISFI, lnM_CELT, lnM_IMGS, lnM_IMGF, lnM_IMGX, lnM_ISMA]; omega) ?_ | (refine And.intro ?_ (by intro hz; exfalso; omega); intro hz9))
        · have nv : c + 1 ≤ 7 → lShl v 8 ||| Int64.ofInt (hI p mTAPE (hI p M 8 + c)) = Int64.ofInt (pkN T j (c + 1).toNat) := fun z => by
            rw [hv (by omega), e8]
            have hp := pkN_lt (T := T) (j := j) c.toNat (fun x hx => by have := ha (j + x) (by omega) (by omega); exact this.2)
            have hp2 : 256 ^ c.toNat ≤ 256 ^ 6 := Nat.pow_le_pow_right (by omega) (by omega)
            have q := l_or2 (a := pkN T j c.toNat) (b := (T (j + c)).toNat) (by omega) (by omega)
            rw [l_shl8 (by omega), show T (j + c) = (((T (j + c)).toNat : Nat) : Int) by omega, q, show (c + 1).toNat = c.toNat + 1 by omega]
            show _ = Int64.ofInt ((pkN T j c.toNat * 256 + (T (j + (c.toNat : Int))).toNat : Nat) : Int)
            rw [show j + (c.toNat : Int) = j + c by omega]
          have tb := hB (j + c) (by omega) (by omega)
          repeat (first | (exact ih (c + 1) _ (by omega) (by omega) nv ha2 he) | refine wtA (by decide) ?_ | refine wtM ?_ | refine wtL ?_ | refine step ?_ | refine Exists.intro _ (And.intro (congrFun hM _) ?_) | refine Exists.intro _ (And.intro rfl ?_) | refine And.intro rfl ?_ | refine And.intro trivial ?_ | (refine And.intro (by intro hz; exfalso; omega) ?_; intro hz9) | refine And.intro (by omega) ?_ | refine And.intro (by simp only [lnM_TAPE, lnM_SIGN, lnM_LENG, lnM_CLAU, lnM_CLSS, lnM_READ, lnM_OPEN, lnM_STCK, lnM_WORD, lnM_SAID, lnM_WASS, lnM_KEPT, lnM_FAR, lnM_WASI, lnM_OUTO, lnM_HASB, lnM_WHER, lnM_ISFI, lnM_CELT, lnM_IMGS, lnM_IMGF, lnM_IMGX, lnM_ISMA]; omega) ?_ | (refine And.intro ?_ (by intro hz; exfalso; omega); intro hz9))
  repeat (first | (exact loop (n - j).toNat 0 _ (by omega) (by omega) (fun _ => rfl) (fun x x0 x1 => by omega) (by rw [show j + 0 = j by omega]; exact hL)) | refine wtA (by decide) ?_ | refine wtM ?_ | refine wtL ?_ | refine step ?_ | refine Exists.intro _ (And.intro (congrFun hM _) ?_) | refine Exists.intro _ (And.intro rfl ?_) | refine And.intro rfl ?_ | refine And.intro trivial ?_ | (refine And.intro (by intro hz; exfalso; omega) ?_; intro hz9) | refine And.intro (by omega) ?_ | refine And.intro (by simp only [lnM_TAPE, lnM_SIGN, lnM_LENG, lnM_CLAU, lnM_CLSS, lnM_READ, lnM_OPEN, lnM_STCK, lnM_WORD, lnM_SAID, lnM_WASS, lnM_KEPT, lnM_FAR, lnM_WASI, lnM_OUTO, lnM_HASB, lnM_WHER, lnM_ISFI, lnM_CELT, lnM_IMGS, lnM_IMGF, lnM_IMGX, lnM_ISMA]; omega) ?_ | (refine And.intro ?_ (by intro hz; exfalso; omega); intro hz9))
