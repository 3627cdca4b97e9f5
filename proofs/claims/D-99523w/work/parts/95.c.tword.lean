-- NEEDS: 95
/-! THE TWIN'S READER: which word stands here -/
def WL : List Nat := [1735353714, 1667591276, 7499639, 109330212154734, 439720568179, 1718579044, 120265298635118, 495874698853, 1751478885, 1650812270, 1937007984]
theorem skF_idem {T : Int → Int} {n : Int} : ∀ (k : Nat) (i : Int), i + k = n → skF T n (n - skF T n k i).toNat (skF T n k i) = skF T n k i := by
  intro k
  induction k with
  | zero =>
    intro i h
    show skF T n (n - i).toNat i = i
    rw [show (n - i).toNat = 0 by omega]
    rfl
  | succ k ih =>
    intro i h
    have u : ∀ m, skF T n (m + 1) i = if i < n ∧ T i = 32 then skF T n m (i + 1) else i := fun _ => rfl
    by_cases hc : i < n ∧ T i = 32
    · rw [u k, if_pos hc]
      exact ih (i + 1) (by omega)
    · have e : skF T n (k + 1) i = i := by rw [u k, if_neg hc]
      rw [e, show (n - i).toNat = k + 1 by omega]
      exact e
theorem skp_idem {T : Int → Int} {n i : Int} (h : i ≤ n) : skp T n (skp T n i) = skp T n i := skF_idem (n - i).toNat i (by omega)
/-- r is the number of the word that stands at j, -1 if it is none of the eleven -/
def whP (T : Int → Int) (n j r : Int) : Prop := (r = -1 ∧ ∀ W ∈ WL, ¬ wdP T n j W) ∨ ∃ (k : Nat) (W : Nat), WL[k]? = some W ∧ r = k ∧ wdP T n j W
theorem t_wordHere {d : Nat} {h : AH} {Φ : OUT → AH → Prop} {T : Int → Int} {n i : Int} (H : RX h T n i)
    (K : ∀ p r, whP T n (skp T n i) r → -1 ≤ r → r ≤ 10 → RX p T n (skp T n i) → TA [] [8] h p → Φ (.inl (some (vi r))) p) : CT (d + 3) 0 0 J_X4_wordHere [vo M] h Φ := by
  refine e_X4_wordHere ?_; intro k step keep
  have hM := H.1
  have sk := skp_ok (T := T) H.2.2.2.2.1.2
  have id := skp_idem (T := T) H.2.2.2.2.1.2
  generalize hJ : skp T n i = j at *
  repeat (first | refine wtA (by decide) ?_ | refine wtM ?_ | refine wtL ?_ | refine step ?_ | refine Exists.intro _ (And.intro (congrFun hM _) ?_) | refine Exists.intro _ (And.intro rfl ?_) | refine And.intro rfl ?_ | refine And.intro trivial ?_ | (refine And.intro (by intro hz; exfalso; omega) ?_; intro hz9) | refine And.intro (by omega) ?_ | refine And.intro (by simp only [lnM_TAPE, lnM_SIGN, lnM_LENG, lnM_CLAU, lnM_CLSS, lnM_READ, lnM_OPEN, lnM_STCK, lnM_WORD, lnM_SAID, lnM_WASS, lnM_KEPT, lnM_FAR, lnM_WASI, lnM_OUTO, lnM_HASB, lnM_WHER, lnM_ISFI, lnM_CELT, lnM_IMGS, lnM_IMGF, lnM_IMGX, lnM_ISMA]; omega) ?_ | (refine And.intro ?_ (by intro hz; exfalso; omega); intro hz9))
  refine Or.inl (t_isWordR (W := 1735353714) H (by omega) (fun p0 r0 hr0 H0 X0 => ?_))
  rw [hJ] at hr0 H0
  have hM := H0.1
  have X0 := X0
  have hit0 : r0 ≠ 0 → whP T n j 0 := fun z => Or.inr ⟨0, 1735353714, rfl, rfl, hr0.elim (fun q => q.2) (fun q => absurd q.1 z)⟩
  have no0 : r0 = 0 → ¬ wdP T n j 1735353714 := fun z => hr0.elim (fun q => absurd (z.symm.trans q.1) (by decide)) (fun q => q.2)
  repeat (first | refine wtA (by decide) ?_ | refine wtM ?_ | refine wtL ?_ | refine step ?_ | refine Exists.intro _ (And.intro (congrFun hM _) ?_) | refine Exists.intro _ (And.intro rfl ?_) | refine And.intro rfl ?_ | refine And.intro trivial ?_ | (refine And.intro (by intro hz; exfalso; omega) ?_; intro hz9) | refine And.intro (by omega) ?_ | refine And.intro (by simp only [lnM_TAPE, lnM_SIGN, lnM_LENG, lnM_CLAU, lnM_CLSS, lnM_READ, lnM_OPEN, lnM_STCK, lnM_WORD, lnM_SAID, lnM_WASS, lnM_KEPT, lnM_FAR, lnM_WASI, lnM_OUTO, lnM_HASB, lnM_WHER, lnM_ISFI, lnM_CELT, lnM_IMGS, lnM_IMGF, lnM_IMGX, lnM_ISMA]; omega) ?_ | (refine And.intro ?_ (by intro hz; exfalso; omega); intro hz9))
  refine And.intro (fun hc0 => ?_) (fun hc0 => ?_)
  · have n0 := no0 hc0
    repeat (first | refine wtA (by decide) ?_ | refine wtM ?_ | refine wtL ?_ | refine step ?_ | refine Exists.intro _ (And.intro (congrFun hM _) ?_) | refine Exists.intro _ (And.intro rfl ?_) | refine And.intro rfl ?_ | refine And.intro trivial ?_ | (refine And.intro (by intro hz; exfalso; omega) ?_; intro hz9) | refine And.intro (by omega) ?_ | refine And.intro (by simp only [lnM_TAPE, lnM_SIGN, lnM_LENG, lnM_CLAU, lnM_CLSS, lnM_READ, lnM_OPEN, lnM_STCK, lnM_WORD, lnM_SAID, lnM_WASS, lnM_KEPT, lnM_FAR, lnM_WASI, lnM_OUTO, lnM_HASB, lnM_WHER, lnM_ISFI, lnM_CELT, lnM_IMGS, lnM_IMGF, lnM_IMGX, lnM_ISMA]; omega) ?_ | (refine And.intro ?_ (by intro hz; exfalso; omega); intro hz9))
    refine Or.inl (t_isWordR (W := 1667591276) H0 (by omega) (fun p1 r1 hr1 H1 X1 => ?_))
    rw [id] at hr1 H1
    have hM := H1.1
    have X1 := X0.tr X1
    have hit1 : r1 ≠ 0 → whP T n j 1 := fun z => Or.inr ⟨1, 1667591276, rfl, rfl, hr1.elim (fun q => q.2) (fun q => absurd q.1 z)⟩
    have no1 : r1 = 0 → ¬ wdP T n j 1667591276 := fun z => hr1.elim (fun q => absurd (z.symm.trans q.1) (by decide)) (fun q => q.2)
    repeat (first | refine wtA (by decide) ?_ | refine wtM ?_ | refine wtL ?_ | refine step ?_ | refine Exists.intro _ (And.intro (congrFun hM _) ?_) | refine Exists.intro _ (And.intro rfl ?_) | refine And.intro rfl ?_ | refine And.intro trivial ?_ | (refine And.intro (by intro hz; exfalso; omega) ?_; intro hz9) | refine And.intro (by omega) ?_ | refine And.intro (by simp only [lnM_TAPE, lnM_SIGN, lnM_LENG, lnM_CLAU, lnM_CLSS, lnM_READ, lnM_OPEN, lnM_STCK, lnM_WORD, lnM_SAID, lnM_WASS, lnM_KEPT, lnM_FAR, lnM_WASI, lnM_OUTO, lnM_HASB, lnM_WHER, lnM_ISFI, lnM_CELT, lnM_IMGS, lnM_IMGF, lnM_IMGX, lnM_ISMA]; omega) ?_ | (refine And.intro ?_ (by intro hz; exfalso; omega); intro hz9))
    refine And.intro (fun hc1 => ?_) (fun hc1 => ?_)
    · have n1 := no1 hc1
      repeat (first | refine wtA (by decide) ?_ | refine wtM ?_ | refine wtL ?_ | refine step ?_ | refine Exists.intro _ (And.intro (congrFun hM _) ?_) | refine Exists.intro _ (And.intro rfl ?_) | refine And.intro rfl ?_ | refine And.intro trivial ?_ | (refine And.intro (by intro hz; exfalso; omega) ?_; intro hz9) | refine And.intro (by omega) ?_ | refine And.intro (by simp only [lnM_TAPE, lnM_SIGN, lnM_LENG, lnM_CLAU, lnM_CLSS, lnM_READ, lnM_OPEN, lnM_STCK, lnM_WORD, lnM_SAID, lnM_WASS, lnM_KEPT, lnM_FAR, lnM_WASI, lnM_OUTO, lnM_HASB, lnM_WHER, lnM_ISFI, lnM_CELT, lnM_IMGS, lnM_IMGF, lnM_IMGX, lnM_ISMA]; omega) ?_ | (refine And.intro ?_ (by intro hz; exfalso; omega); intro hz9))
      refine Or.inl (t_isWordR (W := 7499639) H1 (by omega) (fun p2 r2 hr2 H2 X2 => ?_))
      rw [id] at hr2 H2
      have hM := H2.1
      have X2 := X1.tr X2
      have hit2 : r2 ≠ 0 → whP T n j 2 := fun z => Or.inr ⟨2, 7499639, rfl, rfl, hr2.elim (fun q => q.2) (fun q => absurd q.1 z)⟩
      have no2 : r2 = 0 → ¬ wdP T n j 7499639 := fun z => hr2.elim (fun q => absurd (z.symm.trans q.1) (by decide)) (fun q => q.2)
      repeat (first | refine wtA (by decide) ?_ | refine wtM ?_ | refine wtL ?_ | refine step ?_ | refine Exists.intro _ (And.intro (congrFun hM _) ?_) | refine Exists.intro _ (And.intro rfl ?_) | refine And.intro rfl ?_ | refine And.intro trivial ?_ | (refine And.intro (by intro hz; exfalso; omega) ?_; intro hz9) | refine And.intro (by omega) ?_ | refine And.intro (by simp only [lnM_TAPE, lnM_SIGN, lnM_LENG, lnM_CLAU, lnM_CLSS, lnM_READ, lnM_OPEN, lnM_STCK, lnM_WORD, lnM_SAID, lnM_WASS, lnM_KEPT, lnM_FAR, lnM_WASI, lnM_OUTO, lnM_HASB, lnM_WHER, lnM_ISFI, lnM_CELT, lnM_IMGS, lnM_IMGF, lnM_IMGX, lnM_ISMA]; omega) ?_ | (refine And.intro ?_ (by intro hz; exfalso; omega); intro hz9))
      refine And.intro (fun hc2 => ?_) (fun hc2 => ?_)
      · have n2 := no2 hc2
        repeat (first | refine wtA (by decide) ?_ | refine wtM ?_ | refine wtL ?_ | refine step ?_ | refine Exists.intro _ (And.intro (congrFun hM _) ?_) | refine Exists.intro _ (And.intro rfl ?_) | refine And.intro rfl ?_ | refine And.intro trivial ?_ | (refine And.intro (by intro hz; exfalso; omega) ?_; intro hz9) | refine And.intro (by omega) ?_ | refine And.intro (by simp only [lnM_TAPE, lnM_SIGN, lnM_LENG, lnM_CLAU, lnM_CLSS, lnM_READ, lnM_OPEN, lnM_STCK, lnM_WORD, lnM_SAID, lnM_WASS, lnM_KEPT, lnM_FAR, lnM_WASI, lnM_OUTO, lnM_HASB, lnM_WHER, lnM_ISFI, lnM_CELT, lnM_IMGS, lnM_IMGF, lnM_IMGX, lnM_ISMA]; omega) ?_ | (refine And.intro ?_ (by intro hz; exfalso; omega); intro hz9))
        refine Or.inl (t_isWordR (W := 109330212154734) H2 (by omega) (fun p3 r3 hr3 H3 X3 => ?_))
        rw [id] at hr3 H3
        have hM := H3.1
        have X3 := X2.tr X3
        have hit3 : r3 ≠ 0 → whP T n j 3 := fun z => Or.inr ⟨3, 109330212154734, rfl, rfl, hr3.elim (fun q => q.2) (fun q => absurd q.1 z)⟩
        have no3 : r3 = 0 → ¬ wdP T n j 109330212154734 := fun z => hr3.elim (fun q => absurd (z.symm.trans q.1) (by decide)) (fun q => q.2)
        repeat (first | refine wtA (by decide) ?_ | refine wtM ?_ | refine wtL ?_ | refine step ?_ | refine Exists.intro _ (And.intro (congrFun hM _) ?_) | refine Exists.intro _ (And.intro rfl ?_) | refine And.intro rfl ?_ | refine And.intro trivial ?_ | (refine And.intro (by intro hz; exfalso; omega) ?_; intro hz9) | refine And.intro (by omega) ?_ | refine And.intro (by simp only [lnM_TAPE, lnM_SIGN, lnM_LENG, lnM_CLAU, lnM_CLSS, lnM_READ, lnM_OPEN, lnM_STCK, lnM_WORD, lnM_SAID, lnM_WASS, lnM_KEPT, lnM_FAR, lnM_WASI, lnM_OUTO, lnM_HASB, lnM_WHER, lnM_ISFI, lnM_CELT, lnM_IMGS, lnM_IMGF, lnM_IMGX, lnM_ISMA]; omega) ?_ | (refine And.intro ?_ (by intro hz; exfalso; omega); intro hz9))
        refine And.intro (fun hc3 => ?_) (fun hc3 => ?_)
        · have n3 := no3 hc3
          repeat (first | refine wtA (by decide) ?_ | refine wtM ?_ | refine wtL ?_ | refine step ?_ | refine Exists.intro _ (And.intro (congrFun hM _) ?_) | refine Exists.intro _ (And.intro rfl ?_) | refine And.intro rfl ?_ | refine And.intro trivial ?_ | (refine And.intro (by intro hz; exfalso; omega) ?_; intro hz9) | refine And.intro (by omega) ?_ | refine And.intro (by simp only [lnM_TAPE, lnM_SIGN, lnM_LENG, lnM_CLAU, lnM_CLSS, lnM_READ, lnM_OPEN, lnM_STCK, lnM_WORD, lnM_SAID, lnM_WASS, lnM_KEPT, lnM_FAR, lnM_WASI, lnM_OUTO, lnM_HASB, lnM_WHER, lnM_ISFI, lnM_CELT, lnM_IMGS, lnM_IMGF, lnM_IMGX, lnM_ISMA]; omega) ?_ | (refine And.intro ?_ (by intro hz; exfalso; omega); intro hz9))
          refine Or.inl (t_isWordR (W := 439720568179) H3 (by omega) (fun p4 r4 hr4 H4 X4 => ?_))
          rw [id] at hr4 H4
          have hM := H4.1
          have X4 := X3.tr X4
          have hit4 : r4 ≠ 0 → whP T n j 4 := fun z => Or.inr ⟨4, 439720568179, rfl, rfl, hr4.elim (fun q => q.2) (fun q => absurd q.1 z)⟩
          have no4 : r4 = 0 → ¬ wdP T n j 439720568179 := fun z => hr4.elim (fun q => absurd (z.symm.trans q.1) (by decide)) (fun q => q.2)
          repeat (first | refine wtA (by decide) ?_ | refine wtM ?_ | refine wtL ?_ | refine step ?_ | refine Exists.intro _ (And.intro (congrFun hM _) ?_) | refine Exists.intro _ (And.intro rfl ?_) | refine And.intro rfl ?_ | refine And.intro trivial ?_ | (refine And.intro (by intro hz; exfalso; omega) ?_; intro hz9) | refine And.intro (by omega) ?_ | refine And.intro (by simp only [lnM_TAPE, lnM_SIGN, lnM_LENG, lnM_CLAU, lnM_CLSS, lnM_READ, lnM_OPEN, lnM_STCK, lnM_WORD, lnM_SAID, lnM_WASS, lnM_KEPT, lnM_FAR, lnM_WASI, lnM_OUTO, lnM_HASB, lnM_WHER, lnM_ISFI, lnM_CELT, lnM_IMGS, lnM_IMGF, lnM_IMGX, lnM_ISMA]; omega) ?_ | (refine And.intro ?_ (by intro hz; exfalso; omega); intro hz9))
          refine And.intro (fun hc4 => ?_) (fun hc4 => ?_)
          · have n4 := no4 hc4
            repeat (first | refine wtA (by decide) ?_ | refine wtM ?_ | refine wtL ?_ | refine step ?_ | refine Exists.intro _ (And.intro (congrFun hM _) ?_) | refine Exists.intro _ (And.intro rfl ?_) | refine And.intro rfl ?_ | refine And.intro trivial ?_ | (refine And.intro (by intro hz; exfalso; omega) ?_; intro hz9) | refine And.intro (by omega) ?_ | refine And.intro (by simp only [lnM_TAPE, lnM_SIGN, lnM_LENG, lnM_CLAU, lnM_CLSS, lnM_READ, lnM_OPEN, lnM_STCK, lnM_WORD, lnM_SAID, lnM_WASS, lnM_KEPT, lnM_FAR, lnM_WASI, lnM_OUTO, lnM_HASB, lnM_WHER, lnM_ISFI, lnM_CELT, lnM_IMGS, lnM_IMGF, lnM_IMGX, lnM_ISMA]; omega) ?_ | (refine And.intro ?_ (by intro hz; exfalso; omega); intro hz9))
            refine Or.inl (t_isWordR (W := 1718579044) H4 (by omega) (fun p5 r5 hr5 H5 X5 => ?_))
            rw [id] at hr5 H5
            have hM := H5.1
            have X5 := X4.tr X5
            have hit5 : r5 ≠ 0 → whP T n j 5 := fun z => Or.inr ⟨5, 1718579044, rfl, rfl, hr5.elim (fun q => q.2) (fun q => absurd q.1 z)⟩
            have no5 : r5 = 0 → ¬ wdP T n j 1718579044 := fun z => hr5.elim (fun q => absurd (z.symm.trans q.1) (by decide)) (fun q => q.2)
            repeat (first | refine wtA (by decide) ?_ | refine wtM ?_ | refine wtL ?_ | refine step ?_ | refine Exists.intro _ (And.intro (congrFun hM _) ?_) | refine Exists.intro _ (And.intro rfl ?_) | refine And.intro rfl ?_ | refine And.intro trivial ?_ | (refine And.intro (by intro hz; exfalso; omega) ?_; intro hz9) | refine And.intro (by omega) ?_ | refine And.intro (by simp only [lnM_TAPE, lnM_SIGN, lnM_LENG, lnM_CLAU, lnM_CLSS, lnM_READ, lnM_OPEN, lnM_STCK, lnM_WORD, lnM_SAID, lnM_WASS, lnM_KEPT, lnM_FAR, lnM_WASI, lnM_OUTO, lnM_HASB, lnM_WHER, lnM_ISFI, lnM_CELT, lnM_IMGS, lnM_IMGF, lnM_IMGX, lnM_ISMA]; omega) ?_ | (refine And.intro ?_ (by intro hz; exfalso; omega); intro hz9))
            refine And.intro (fun hc5 => ?_) (fun hc5 => ?_)
            · have n5 := no5 hc5
              repeat (first | refine wtA (by decide) ?_ | refine wtM ?_ | refine wtL ?_ | refine step ?_ | refine Exists.intro _ (And.intro (congrFun hM _) ?_) | refine Exists.intro _ (And.intro rfl ?_) | refine And.intro rfl ?_ | refine And.intro trivial ?_ | (refine And.intro (by intro hz; exfalso; omega) ?_; intro hz9) | refine And.intro (by omega) ?_ | refine And.intro (by simp only [lnM_TAPE, lnM_SIGN, lnM_LENG, lnM_CLAU, lnM_CLSS, lnM_READ, lnM_OPEN, lnM_STCK, lnM_WORD, lnM_SAID, lnM_WASS, lnM_KEPT, lnM_FAR, lnM_WASI, lnM_OUTO, lnM_HASB, lnM_WHER, lnM_ISFI, lnM_CELT, lnM_IMGS, lnM_IMGF, lnM_IMGX, lnM_ISMA]; omega) ?_ | (refine And.intro ?_ (by intro hz; exfalso; omega); intro hz9))
              refine Or.inl (t_isWordR (W := 120265298635118) H5 (by omega) (fun p6 r6 hr6 H6 X6 => ?_))
              rw [id] at hr6 H6
              have hM := H6.1
              have X6 := X5.tr X6
              have hit6 : r6 ≠ 0 → whP T n j 6 := fun z => Or.inr ⟨6, 120265298635118, rfl, rfl, hr6.elim (fun q => q.2) (fun q => absurd q.1 z)⟩
              have no6 : r6 = 0 → ¬ wdP T n j 120265298635118 := fun z => hr6.elim (fun q => absurd (z.symm.trans q.1) (by decide)) (fun q => q.2)
              repeat (first | refine wtA (by decide) ?_ | refine wtM ?_ | refine wtL ?_ | refine step ?_ | refine Exists.intro _ (And.intro (congrFun hM _) ?_) | refine Exists.intro _ (And.intro rfl ?_) | refine And.intro rfl ?_ | refine And.intro trivial ?_ | (refine And.intro (by intro hz; exfalso; omega) ?_; intro hz9) | refine And.intro (by omega) ?_ | refine And.intro (by simp only [lnM_TAPE, lnM_SIGN, lnM_LENG, lnM_CLAU, lnM_CLSS, lnM_READ, lnM_OPEN, lnM_STCK, lnM_WORD, lnM_SAID, lnM_WASS, lnM_KEPT, lnM_FAR, lnM_WASI, lnM_OUTO, lnM_HASB, lnM_WHER, lnM_ISFI, lnM_CELT, lnM_IMGS, lnM_IMGF, lnM_IMGX, lnM_ISMA]; omega) ?_ | (refine And.intro ?_ (by intro hz; exfalso; omega); intro hz9))
              refine And.intro (fun hc6 => ?_) (fun hc6 => ?_)
              · have n6 := no6 hc6
                repeat (first | refine wtA (by decide) ?_ | refine wtM ?_ | refine wtL ?_ | refine step ?_ | refine Exists.intro _ (And.intro (congrFun hM _) ?_) | refine Exists.intro _ (And.intro rfl ?_) | refine And.intro rfl ?_ | refine And.intro trivial ?_ | (refine And.intro (by intro hz; exfalso; omega) ?_; intro hz9) | refine And.intro (by omega) ?_ | refine And.intro (by simp only [lnM_TAPE, lnM_SIGN, lnM_LENG, lnM_CLAU, lnM_CLSS, lnM_READ, lnM_OPEN, lnM_STCK, lnM_WORD, lnM_SAID, lnM_WASS, lnM_KEPT, lnM_FAR, lnM_WASI, lnM_OUTO, lnM_HASB, lnM_WHER, lnM_ISFI, lnM_CELT, lnM_IMGS, lnM_IMGF, lnM_IMGX, lnM_ISMA]; omega) ?_ | (refine And.intro ?_ (by intro hz; exfalso; omega); intro hz9))
                refine Or.inl (t_isWordR (W := 495874698853) H6 (by omega) (fun p7 r7 hr7 H7 X7 => ?_))
                rw [id] at hr7 H7
                have hM := H7.1
                have X7 := X6.tr X7
                have hit7 : r7 ≠ 0 → whP T n j 7 := fun z => Or.inr ⟨7, 495874698853, rfl, rfl, hr7.elim (fun q => q.2) (fun q => absurd q.1 z)⟩
                have no7 : r7 = 0 → ¬ wdP T n j 495874698853 := fun z => hr7.elim (fun q => absurd (z.symm.trans q.1) (by decide)) (fun q => q.2)
                repeat (first | refine wtA (by decide) ?_ | refine wtM ?_ | refine wtL ?_ | refine step ?_ | refine Exists.intro _ (And.intro (congrFun hM _) ?_) | refine Exists.intro _ (And.intro rfl ?_) | refine And.intro rfl ?_ | refine And.intro trivial ?_ | (refine And.intro (by intro hz; exfalso; omega) ?_; intro hz9) | refine And.intro (by omega) ?_ | refine And.intro (by simp only [lnM_TAPE, lnM_SIGN, lnM_LENG, lnM_CLAU, lnM_CLSS, lnM_READ, lnM_OPEN, lnM_STCK, lnM_WORD, lnM_SAID, lnM_WASS, lnM_KEPT, lnM_FAR, lnM_WASI, lnM_OUTO, lnM_HASB, lnM_WHER, lnM_ISFI, lnM_CELT, lnM_IMGS, lnM_IMGF, lnM_IMGX, lnM_ISMA]; omega) ?_ | (refine And.intro ?_ (by intro hz; exfalso; omega); intro hz9))
                refine And.intro (fun hc7 => ?_) (fun hc7 => ?_)
                · have n7 := no7 hc7
                  repeat (first | refine wtA (by decide) ?_ | refine wtM ?_ | refine wtL ?_ | refine step ?_ | refine Exists.intro _ (And.intro (congrFun hM _) ?_) | refine Exists.intro _ (And.intro rfl ?_) | refine And.intro rfl ?_ | refine And.intro trivial ?_ | (refine And.intro (by intro hz; exfalso; omega) ?_; intro hz9) | refine And.intro (by omega) ?_ | refine And.intro (by simp only [lnM_TAPE, lnM_SIGN, lnM_LENG, lnM_CLAU, lnM_CLSS, lnM_READ, lnM_OPEN, lnM_STCK, lnM_WORD, lnM_SAID, lnM_WASS, lnM_KEPT, lnM_FAR, lnM_WASI, lnM_OUTO, lnM_HASB, lnM_WHER, lnM_ISFI, lnM_CELT, lnM_IMGS, lnM_IMGF, lnM_IMGX, lnM_ISMA]; omega) ?_ | (refine And.intro ?_ (by intro hz; exfalso; omega); intro hz9))
                  refine Or.inl (t_isWordR (W := 1751478885) H7 (by omega) (fun p8 r8 hr8 H8 X8 => ?_))
                  rw [id] at hr8 H8
                  have hM := H8.1
                  have X8 := X7.tr X8
                  have hit8 : r8 ≠ 0 → whP T n j 8 := fun z => Or.inr ⟨8, 1751478885, rfl, rfl, hr8.elim (fun q => q.2) (fun q => absurd q.1 z)⟩
                  have no8 : r8 = 0 → ¬ wdP T n j 1751478885 := fun z => hr8.elim (fun q => absurd (z.symm.trans q.1) (by decide)) (fun q => q.2)
                  repeat (first | refine wtA (by decide) ?_ | refine wtM ?_ | refine wtL ?_ | refine step ?_ | refine Exists.intro _ (And.intro (congrFun hM _) ?_) | refine Exists.intro _ (And.intro rfl ?_) | refine And.intro rfl ?_ | refine And.intro trivial ?_ | (refine And.intro (by intro hz; exfalso; omega) ?_; intro hz9) | refine And.intro (by omega) ?_ | refine And.intro (by simp only [lnM_TAPE, lnM_SIGN, lnM_LENG, lnM_CLAU, lnM_CLSS, lnM_READ, lnM_OPEN, lnM_STCK, lnM_WORD, lnM_SAID, lnM_WASS, lnM_KEPT, lnM_FAR, lnM_WASI, lnM_OUTO, lnM_HASB, lnM_WHER, lnM_ISFI, lnM_CELT, lnM_IMGS, lnM_IMGF, lnM_IMGX, lnM_ISMA]; omega) ?_ | (refine And.intro ?_ (by intro hz; exfalso; omega); intro hz9))
                  refine And.intro (fun hc8 => ?_) (fun hc8 => ?_)
                  · have n8 := no8 hc8
                    repeat (first | refine wtA (by decide) ?_ | refine wtM ?_ | refine wtL ?_ | refine step ?_ | refine Exists.intro _ (And.intro (congrFun hM _) ?_) | refine Exists.intro _ (And.intro rfl ?_) | refine And.intro rfl ?_ | refine And.intro trivial ?_ | (refine And.intro (by intro hz; exfalso; omega) ?_; intro hz9) | refine And.intro (by omega) ?_ | refine And.intro (by simp only [lnM_TAPE, lnM_SIGN, lnM_LENG, lnM_CLAU, lnM_CLSS, lnM_READ, lnM_OPEN, lnM_STCK, lnM_WORD, lnM_SAID, lnM_WASS, lnM_KEPT, lnM_FAR, lnM_WASI, lnM_OUTO, lnM_HASB, lnM_WHER, lnM_ISFI, lnM_CELT, lnM_IMGS, lnM_IMGF, lnM_IMGX, lnM_ISMA]; omega) ?_ | (refine And.intro ?_ (by intro hz; exfalso; omega); intro hz9))
                    refine Or.inl (t_isWordR (W := 1650812270) H8 (by omega) (fun p9 r9 hr9 H9 X9 => ?_))
                    rw [id] at hr9 H9
                    have hM := H9.1
                    have X9 := X8.tr X9
                    have hit9 : r9 ≠ 0 → whP T n j 9 := fun z => Or.inr ⟨9, 1650812270, rfl, rfl, hr9.elim (fun q => q.2) (fun q => absurd q.1 z)⟩
                    have no9 : r9 = 0 → ¬ wdP T n j 1650812270 := fun z => hr9.elim (fun q => absurd (z.symm.trans q.1) (by decide)) (fun q => q.2)
                    repeat (first | refine wtA (by decide) ?_ | refine wtM ?_ | refine wtL ?_ | refine step ?_ | refine Exists.intro _ (And.intro (congrFun hM _) ?_) | refine Exists.intro _ (And.intro rfl ?_) | refine And.intro rfl ?_ | refine And.intro trivial ?_ | (refine And.intro (by intro hz; exfalso; omega) ?_; intro hz9) | refine And.intro (by omega) ?_ | refine And.intro (by simp only [lnM_TAPE, lnM_SIGN, lnM_LENG, lnM_CLAU, lnM_CLSS, lnM_READ, lnM_OPEN, lnM_STCK, lnM_WORD, lnM_SAID, lnM_WASS, lnM_KEPT, lnM_FAR, lnM_WASI, lnM_OUTO, lnM_HASB, lnM_WHER, lnM_ISFI, lnM_CELT, lnM_IMGS, lnM_IMGF, lnM_IMGX, lnM_ISMA]; omega) ?_ | (refine And.intro ?_ (by intro hz; exfalso; omega); intro hz9))
                    refine And.intro (fun hc9 => ?_) (fun hc9 => ?_)
                    · have n9 := no9 hc9
                      repeat (first | refine wtA (by decide) ?_ | refine wtM ?_ | refine wtL ?_ | refine step ?_ | refine Exists.intro _ (And.intro (congrFun hM _) ?_) | refine Exists.intro _ (And.intro rfl ?_) | refine And.intro rfl ?_ | refine And.intro trivial ?_ | (refine And.intro (by intro hz; exfalso; omega) ?_; intro hz9) | refine And.intro (by omega) ?_ | refine And.intro (by simp only [lnM_TAPE, lnM_SIGN, lnM_LENG, lnM_CLAU, lnM_CLSS, lnM_READ, lnM_OPEN, lnM_STCK, lnM_WORD, lnM_SAID, lnM_WASS, lnM_KEPT, lnM_FAR, lnM_WASI, lnM_OUTO, lnM_HASB, lnM_WHER, lnM_ISFI, lnM_CELT, lnM_IMGS, lnM_IMGF, lnM_IMGX, lnM_ISMA]; omega) ?_ | (refine And.intro ?_ (by intro hz; exfalso; omega); intro hz9))
                      refine Or.inl (t_isWordR (W := 1937007984) H9 (by omega) (fun p10 r10 hr10 H10 X10 => ?_))
                      rw [id] at hr10 H10
                      have hM := H10.1
                      have X10 := X9.tr X10
                      have hit10 : r10 ≠ 0 → whP T n j 10 := fun z => Or.inr ⟨10, 1937007984, rfl, rfl, hr10.elim (fun q => q.2) (fun q => absurd q.1 z)⟩
                      have no10 : r10 = 0 → ¬ wdP T n j 1937007984 := fun z => hr10.elim (fun q => absurd (z.symm.trans q.1) (by decide)) (fun q => q.2)
                      repeat (first | refine wtA (by decide) ?_ | refine wtM ?_ | refine wtL ?_ | refine step ?_ | refine Exists.intro _ (And.intro (congrFun hM _) ?_) | refine Exists.intro _ (And.intro rfl ?_) | refine And.intro rfl ?_ | refine And.intro trivial ?_ | (refine And.intro (by intro hz; exfalso; omega) ?_; intro hz9) | refine And.intro (by omega) ?_ | refine And.intro (by simp only [lnM_TAPE, lnM_SIGN, lnM_LENG, lnM_CLAU, lnM_CLSS, lnM_READ, lnM_OPEN, lnM_STCK, lnM_WORD, lnM_SAID, lnM_WASS, lnM_KEPT, lnM_FAR, lnM_WASI, lnM_OUTO, lnM_HASB, lnM_WHER, lnM_ISFI, lnM_CELT, lnM_IMGS, lnM_IMGF, lnM_IMGX, lnM_ISMA]; omega) ?_ | (refine And.intro ?_ (by intro hz; exfalso; omega); intro hz9))
                      refine And.intro (fun hc10 => ?_) (fun hc10 => ?_)
                      · have n10 := no10 hc10
                        repeat (first | refine wtA (by decide) ?_ | refine wtM ?_ | refine wtL ?_ | refine step ?_ | refine Exists.intro _ (And.intro (congrFun hM _) ?_) | refine Exists.intro _ (And.intro rfl ?_) | refine And.intro rfl ?_ | refine And.intro trivial ?_ | (refine And.intro (by intro hz; exfalso; omega) ?_; intro hz9) | refine And.intro (by omega) ?_ | refine And.intro (by simp only [lnM_TAPE, lnM_SIGN, lnM_LENG, lnM_CLAU, lnM_CLSS, lnM_READ, lnM_OPEN, lnM_STCK, lnM_WORD, lnM_SAID, lnM_WASS, lnM_KEPT, lnM_FAR, lnM_WASI, lnM_OUTO, lnM_HASB, lnM_WHER, lnM_ISFI, lnM_CELT, lnM_IMGS, lnM_IMGF, lnM_IMGX, lnM_ISMA]; omega) ?_ | (refine And.intro ?_ (by intro hz; exfalso; omega); intro hz9))
                        refine K _ _ (Or.inl ⟨rfl, fun W hw => ?_⟩) (by omega) (by omega) H10 X10
                        simp only [WL, List.mem_cons, List.not_mem_nil, or_false] at hw
                        rcases hw with z | z | z | z | z | z | z | z | z | z | z <;> subst z <;> assumption
                      · repeat (first | refine wtA (by decide) ?_ | refine wtM ?_ | refine wtL ?_ | refine step ?_ | refine Exists.intro _ (And.intro (congrFun hM _) ?_) | refine Exists.intro _ (And.intro rfl ?_) | refine And.intro rfl ?_ | refine And.intro trivial ?_ | (refine And.intro (by intro hz; exfalso; omega) ?_; intro hz9) | refine And.intro (by omega) ?_ | refine And.intro (by simp only [lnM_TAPE, lnM_SIGN, lnM_LENG, lnM_CLAU, lnM_CLSS, lnM_READ, lnM_OPEN, lnM_STCK, lnM_WORD, lnM_SAID, lnM_WASS, lnM_KEPT, lnM_FAR, lnM_WASI, lnM_OUTO, lnM_HASB, lnM_WHER, lnM_ISFI, lnM_CELT, lnM_IMGS, lnM_IMGF, lnM_IMGX, lnM_ISMA]; omega) ?_ | (refine And.intro ?_ (by intro hz; exfalso; omega); intro hz9))
                        exact K _ _ (hit10 hc10) (by omega) (by omega) H10 X10
                    · repeat (first | refine wtA (by decide) ?_ | refine wtM ?_ | refine wtL ?_ | refine step ?_ | refine Exists.intro _ (And.intro (congrFun hM _) ?_) | refine Exists.intro _ (And.intro rfl ?_) | refine And.intro rfl ?_ | refine And.intro trivial ?_ | (refine And.intro (by intro hz; exfalso; omega) ?_; intro hz9) | refine And.intro (by omega) ?_ | refine And.intro (by simp only [lnM_TAPE, lnM_SIGN, lnM_LENG, lnM_CLAU, lnM_CLSS, lnM_READ, lnM_OPEN, lnM_STCK, lnM_WORD, lnM_SAID, lnM_WASS, lnM_KEPT, lnM_FAR, lnM_WASI, lnM_OUTO, lnM_HASB, lnM_WHER, lnM_ISFI, lnM_CELT, lnM_IMGS, lnM_IMGF, lnM_IMGX, lnM_ISMA]; omega) ?_ | (refine And.intro ?_ (by intro hz; exfalso; omega); intro hz9))
                      exact K _ _ (hit9 hc9) (by omega) (by omega) H9 X9
                  · repeat (first | refine wtA (by decide) ?_ | refine wtM ?_ | refine wtL ?_ | refine step ?_ | refine Exists.intro _ (And.intro (congrFun hM _) ?_) | refine Exists.intro _ (And.intro rfl ?_) | refine And.intro rfl ?_ | refine And.intro trivial ?_ | (refine And.intro (by intro hz; exfalso; omega) ?_; intro hz9) | refine And.intro (by omega) ?_ | refine And.intro (by simp only [lnM_TAPE, lnM_SIGN, lnM_LENG, lnM_CLAU, lnM_CLSS, lnM_READ, lnM_OPEN, lnM_STCK, lnM_WORD, lnM_SAID, lnM_WASS, lnM_KEPT, lnM_FAR, lnM_WASI, lnM_OUTO, lnM_HASB, lnM_WHER, lnM_ISFI, lnM_CELT, lnM_IMGS, lnM_IMGF, lnM_IMGX, lnM_ISMA]; omega) ?_ | (refine And.intro ?_ (by intro hz; exfalso; omega); intro hz9))
                    exact K _ _ (hit8 hc8) (by omega) (by omega) H8 X8
                · repeat (first | refine wtA (by decide) ?_ | refine wtM ?_ | refine wtL ?_ | refine step ?_ | refine Exists.intro _ (And.intro (congrFun hM _) ?_) | refine Exists.intro _ (And.intro rfl ?_) | refine And.intro rfl ?_ | refine And.intro trivial ?_ | (refine And.intro (by intro hz; exfalso; omega) ?_; intro hz9) | refine And.intro (by omega) ?_ | refine And.intro (by simp only [lnM_TAPE, lnM_SIGN, lnM_LENG, lnM_CLAU, lnM_CLSS, lnM_READ, lnM_OPEN, lnM_STCK, lnM_WORD, lnM_SAID, lnM_WASS, lnM_KEPT, lnM_FAR, lnM_WASI, lnM_OUTO, lnM_HASB, lnM_WHER, lnM_ISFI, lnM_CELT, lnM_IMGS, lnM_IMGF, lnM_IMGX, lnM_ISMA]; omega) ?_ | (refine And.intro ?_ (by intro hz; exfalso; omega); intro hz9))
                  exact K _ _ (hit7 hc7) (by omega) (by omega) H7 X7
              · repeat (first | refine wtA (by decide) ?_ | refine wtM ?_ | refine wtL ?_ | refine step ?_ | refine Exists.intro _ (And.intro (congrFun hM _) ?_) | refine Exists.intro _ (And.intro rfl ?_) | refine And.intro rfl ?_ | refine And.intro trivial ?_ | (refine And.intro (by intro hz; exfalso; omega) ?_; intro hz9) | refine And.intro (by omega) ?_ | refine And.intro (by simp only [lnM_TAPE, lnM_SIGN, lnM_LENG, lnM_CLAU, lnM_CLSS, lnM_READ, lnM_OPEN, lnM_STCK, lnM_WORD, lnM_SAID, lnM_WASS, lnM_KEPT, lnM_FAR, lnM_WASI, lnM_OUTO, lnM_HASB, lnM_WHER, lnM_ISFI, lnM_CELT, lnM_IMGS, lnM_IMGF, lnM_IMGX, lnM_ISMA]; omega) ?_ | (refine And.intro ?_ (by intro hz; exfalso; omega); intro hz9))
                exact K _ _ (hit6 hc6) (by omega) (by omega) H6 X6
            · repeat (first | refine wtA (by decide) ?_ | refine wtM ?_ | refine wtL ?_ | refine step ?_ | refine Exists.intro _ (And.intro (congrFun hM _) ?_) | refine Exists.intro _ (And.intro rfl ?_) | refine And.intro rfl ?_ | refine And.intro trivial ?_ | (refine And.intro (by intro hz; exfalso; omega) ?_; intro hz9) | refine And.intro (by omega) ?_ | refine And.intro (by simp only [lnM_TAPE, lnM_SIGN, lnM_LENG, lnM_CLAU, lnM_CLSS, lnM_READ, lnM_OPEN, lnM_STCK, lnM_WORD, lnM_SAID, lnM_WASS, lnM_KEPT, lnM_FAR, lnM_WASI, lnM_OUTO, lnM_HASB, lnM_WHER, lnM_ISFI, lnM_CELT, lnM_IMGS, lnM_IMGF, lnM_IMGX, lnM_ISMA]; omega) ?_ | (refine And.intro ?_ (by intro hz; exfalso; omega); intro hz9))
              exact K _ _ (hit5 hc5) (by omega) (by omega) H5 X5
          · repeat (first | refine wtA (by decide) ?_ | refine wtM ?_ | refine wtL ?_ | refine step ?_ | refine Exists.intro _ (And.intro (congrFun hM _) ?_) | refine Exists.intro _ (And.intro rfl ?_) | refine And.intro rfl ?_ | refine And.intro trivial ?_ | (refine And.intro (by intro hz; exfalso; omega) ?_; intro hz9) | refine And.intro (by omega) ?_ | refine And.intro (by simp only [lnM_TAPE, lnM_SIGN, lnM_LENG, lnM_CLAU, lnM_CLSS, lnM_READ, lnM_OPEN, lnM_STCK, lnM_WORD, lnM_SAID, lnM_WASS, lnM_KEPT, lnM_FAR, lnM_WASI, lnM_OUTO, lnM_HASB, lnM_WHER, lnM_ISFI, lnM_CELT, lnM_IMGS, lnM_IMGF, lnM_IMGX, lnM_ISMA]; omega) ?_ | (refine And.intro ?_ (by intro hz; exfalso; omega); intro hz9))
            exact K _ _ (hit4 hc4) (by omega) (by omega) H4 X4
        · repeat (first | refine wtA (by decide) ?_ | refine wtM ?_ | refine wtL ?_ | refine step ?_ | refine Exists.intro _ (And.intro (congrFun hM _) ?_) | refine Exists.intro _ (And.intro rfl ?_) | refine And.intro rfl ?_ | refine And.intro trivial ?_ | (refine And.intro (by intro hz; exfalso; omega) ?_; intro hz9) | refine And.intro (by omega) ?_ | refine And.intro (by simp only [lnM_TAPE, lnM_SIGN, lnM_LENG, lnM_CLAU, lnM_CLSS, lnM_READ, lnM_OPEN, lnM_STCK, lnM_WORD, lnM_SAID, lnM_WASS, lnM_KEPT, lnM_FAR, lnM_WASI, lnM_OUTO, lnM_HASB, lnM_WHER, lnM_ISFI, lnM_CELT, lnM_IMGS, lnM_IMGF, lnM_IMGX, lnM_ISMA]; omega) ?_ | (refine And.intro ?_ (by intro hz; exfalso; omega); intro hz9))
          exact K _ _ (hit3 hc3) (by omega) (by omega) H3 X3
      · repeat (first | refine wtA (by decide) ?_ | refine wtM ?_ | refine wtL ?_ | refine step ?_ | refine Exists.intro _ (And.intro (congrFun hM _) ?_) | refine Exists.intro _ (And.intro rfl ?_) | refine And.intro rfl ?_ | refine And.intro trivial ?_ | (refine And.intro (by intro hz; exfalso; omega) ?_; intro hz9) | refine And.intro (by omega) ?_ | refine And.intro (by simp only [lnM_TAPE, lnM_SIGN, lnM_LENG, lnM_CLAU, lnM_CLSS, lnM_READ, lnM_OPEN, lnM_STCK, lnM_WORD, lnM_SAID, lnM_WASS, lnM_KEPT, lnM_FAR, lnM_WASI, lnM_OUTO, lnM_HASB, lnM_WHER, lnM_ISFI, lnM_CELT, lnM_IMGS, lnM_IMGF, lnM_IMGX, lnM_ISMA]; omega) ?_ | (refine And.intro ?_ (by intro hz; exfalso; omega); intro hz9))
        exact K _ _ (hit2 hc2) (by omega) (by omega) H2 X2
    · repeat (first | refine wtA (by decide) ?_ | refine wtM ?_ | refine wtL ?_ | refine step ?_ | refine Exists.intro _ (And.intro (congrFun hM _) ?_) | refine Exists.intro _ (And.intro rfl ?_) | refine And.intro rfl ?_ | refine And.intro trivial ?_ | (refine And.intro (by intro hz; exfalso; omega) ?_; intro hz9) | refine And.intro (by omega) ?_ | refine And.intro (by simp only [lnM_TAPE, lnM_SIGN, lnM_LENG, lnM_CLAU, lnM_CLSS, lnM_READ, lnM_OPEN, lnM_STCK, lnM_WORD, lnM_SAID, lnM_WASS, lnM_KEPT, lnM_FAR, lnM_WASI, lnM_OUTO, lnM_HASB, lnM_WHER, lnM_ISFI, lnM_CELT, lnM_IMGS, lnM_IMGF, lnM_IMGX, lnM_ISMA]; omega) ?_ | (refine And.intro ?_ (by intro hz; exfalso; omega); intro hz9))
      exact K _ _ (hit1 hc1) (by omega) (by omega) H1 X1
  · repeat (first | refine wtA (by decide) ?_ | refine wtM ?_ | refine wtL ?_ | refine step ?_ | refine Exists.intro _ (And.intro (congrFun hM _) ?_) | refine Exists.intro _ (And.intro rfl ?_) | refine And.intro rfl ?_ | refine And.intro trivial ?_ | (refine And.intro (by intro hz; exfalso; omega) ?_; intro hz9) | refine And.intro (by omega) ?_ | refine And.intro (by simp only [lnM_TAPE, lnM_SIGN, lnM_LENG, lnM_CLAU, lnM_CLSS, lnM_READ, lnM_OPEN, lnM_STCK, lnM_WORD, lnM_SAID, lnM_WASS, lnM_KEPT, lnM_FAR, lnM_WASI, lnM_OUTO, lnM_HASB, lnM_WHER, lnM_ISFI, lnM_CELT, lnM_IMGS, lnM_IMGF, lnM_IMGX, lnM_ISMA]; omega) ?_ | (refine And.intro ?_ (by intro hz; exfalso; omega); intro hz9))
    exact K _ _ (hit0 hc0) (by omega) (by omega) H0 X0
