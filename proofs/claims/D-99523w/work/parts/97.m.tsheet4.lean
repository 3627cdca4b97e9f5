-- NEEDS: 62 97
/-! THE TWIN'S READER: a sheet, whole -/
abbrev SHA : List Nat := [mREAD, mLENG]
abbrev SHB : List Int := [1, 8, 9, 10, 11, 12, 14]
theorem t_sheet {d : Nat} {h : AH} {Φ : OUT → AH → Prop} {T : Int → Int} {n : Int} (hM : hP h M = MP) (hT : hI h mTAPE = T) (hn : hI h M 1 = n) (n0 : 0 ≤ n) (n1 : n ≤ 400) (hB : TB T)
    (K0 : ∀ e, sheS T n = .inl e → 1 ≤ e → e ≤ 4000 → ∀ p, hI p M 1 = 0 → TA SHA SHB h p → Φ (.inl (some (vi (-2 - e)))) p)
    (K : ∀ c r, sheS T n = .inr (c, r) → RDO r → ∀ p S, (∀ m, 0 ≤ m → m < 176 → S m = if m < 145 then r m else 0) → hI p mSAID = begP S 86 → hI p M 1 = 0 → hI p M 24 = 0 → TA (mSAID :: SHA) (24 :: SHB) h p → Φ (.inl (some (vi (r 2)))) p) : CT (d + 14) 0 0 J_X4_sheet [vo M] h Φ := by
  refine e_X4_sheet ?_; intro k step keep
  have main : ∀ (p : AH), hP p M = MP → hI p M 11 = 6 → EQR (hI p mREAD) rd0 → TA SHA [11] h p → k 0 0 51 [(0, vo M)] [] p := by
    intro p hM h11 hE T0
    repeat (first | refine wtA (by decide) ?_ | refine wtM ?_ | refine wtL ?_ | refine step ?_ | refine Exists.intro _ (And.intro (congrFun hM _) ?_) | refine Exists.intro _ (And.intro rfl ?_) | refine And.intro rfl ?_ | refine And.intro trivial ?_ | (refine And.intro (by intro hz; exfalso; omega) ?_; intro hz9) | refine And.intro (by omega) ?_ | refine And.intro (by simp only [lnM_TAPE, lnM_SIGN, lnM_LENG, lnM_CLAU, lnM_CLSS, lnM_READ, lnM_OPEN, lnM_STCK, lnM_WORD, lnM_SAID, lnM_WASS, lnM_KEPT, lnM_FAR, lnM_WASI, lnM_OUTO, lnM_HASB, lnM_WHER, lnM_ISFI, lnM_CELT, lnM_IMGS, lnM_IMGF, lnM_IMGX, lnM_ISMA]; omega) ?_ | (refine And.intro ?_ (by intro hz; exfalso; omega); intro hz9))
    refine Or.inl (t_readsAll (σ := Int × (Int → Int)) (s0 := ((0, rd0) : Int × (Int → Int))) (cl := sclS T n) (Inv := SI T n) (FF := TA SHA [8, 9, 10, 12, 14]) hM (by rw [T0.i (by decide) (by decide)]; exact hT) (by rw [T0.f (by decide)]; exact hn) n0 n1 hB h11 (by omega) (by omega) (fun q H0 g e14 e12 X => ?_) (fun q i s hi => hi.1) (fun q q2 i j s hi hij Hq Tq => hi.mv Tq Hq) (fun q i s Ψ hi k0 k1 => t_clauseS hi k0 k1) (fun q q2 X => X.up (by decide) (by decide)) (fun q r x y z => y.tr z) (fun e he e1 e2 q p1 hM h9 h1 f1 T1 => ?_) (fun s2 he q p1 i hM hi h1 f1 T1 => ?_))
    · refine ⟨⟨H0, by rw [X.f (by decide)]; exact h11, e14, ⟨by decide, by decide⟩, by rw [X.i (by decide) (by decide)]; exact hE, RDO_0⟩, X.up (by decide) (by decide)⟩
    · repeat (first | refine wtA (by decide) ?_ | refine wtM ?_ | refine wtL ?_ | refine step ?_ | refine Exists.intro _ (And.intro (congrFun hM _) ?_) | refine Exists.intro _ (And.intro rfl ?_) | refine And.intro rfl ?_ | refine And.intro trivial ?_ | (refine And.intro (by intro hz; exfalso; omega) ?_; intro hz9) | refine And.intro (by omega) ?_ | refine And.intro (by simp only [lnM_TAPE, lnM_SIGN, lnM_LENG, lnM_CLAU, lnM_CLSS, lnM_READ, lnM_OPEN, lnM_STCK, lnM_WORD, lnM_SAID, lnM_WASS, lnM_KEPT, lnM_FAR, lnM_WASI, lnM_OUTO, lnM_HASB, lnM_WHER, lnM_ISFI, lnM_CELT, lnM_IMGS, lnM_IMGF, lnM_IMGX, lnM_ISMA]; omega) ?_ | (refine And.intro ?_ (by intro hz; exfalso; omega); intro hz9))
      rw [h9]
      exact K0 e he e1 e2 q h1 (((T0.up (A' := SHA) (B' := SHB) (by decide) (by decide)).tr (f1.up (by decide) (by decide))).tr (T1.up (by decide) (by decide)))
    · obtain ⟨c, r⟩ := s2
      obtain ⟨-, -, -, -, hE1, hr⟩ := hi
      have hE1 : EQR (hI p1 mREAD) r := hE1
      have hr : RDO r := hr
      have hEq : EQR (hI q mREAD) r := by rw [T1.i (by decide) (by decide)]; exact hE1
      have TT := ((T0.up (A' := SHA) (B' := SHB) (by decide) (by decide)).tr (f1.up (by decide) (by decide))).tr (T1.up (A' := SHA) (B' := SHB) (by decide) (by decide))
      have loop : ∀ (x : Nat) (j : Int) (p2 : AH), hP p2 M = MP → 0 ≤ j → j + x = 176 → (∀ m, 0 ≤ m → m < j → hI p2 mSAID m = if m < 145 then r m else 0) → EQR (hI p2 mREAD) r → hI p2 M 1 = 0 → TA (mSAID :: SHA) SHB h p2 → k 0 0 68 [(0, vo M), (1, vi j)] [] p2 := by
        intro x
        induction x with
        | zero =>
          intro j p2 hM j0 hx hs hE2 h1 T2
          repeat (first | refine wtA (by decide) ?_ | refine wtM ?_ | refine wtL ?_ | refine step ?_ | refine Exists.intro _ (And.intro (congrFun hM _) ?_) | refine Exists.intro _ (And.intro rfl ?_) | refine And.intro rfl ?_ | refine And.intro trivial ?_ | (refine And.intro (by intro hz; exfalso; omega) ?_; intro hz9) | refine And.intro (by omega) ?_ | refine And.intro (by simp only [lnM_TAPE, lnM_SIGN, lnM_LENG, lnM_CLAU, lnM_CLSS, lnM_READ, lnM_OPEN, lnM_STCK, lnM_WORD, lnM_SAID, lnM_WASS, lnM_KEPT, lnM_FAR, lnM_WASI, lnM_OUTO, lnM_HASB, lnM_WHER, lnM_ISFI, lnM_CELT, lnM_IMGS, lnM_IMGF, lnM_IMGX, lnM_ISMA]; omega) ?_ | (refine And.intro ?_ (by intro hz; exfalso; omega); intro hz9))
          refine Or.inl (t_begins hM (fun p3 e3 T3 => ?_))
          have hM := T3.m hM
          repeat (first | refine wtA (by decide) ?_ | refine wtM ?_ | refine wtL ?_ | refine step ?_ | refine Exists.intro _ (And.intro (congrFun hM _) ?_) | refine Exists.intro _ (And.intro rfl ?_) | refine And.intro rfl ?_ | refine And.intro trivial ?_ | (refine And.intro (by intro hz; exfalso; omega) ?_; intro hz9) | refine And.intro (by omega) ?_ | refine And.intro (by simp only [lnM_TAPE, lnM_SIGN, lnM_LENG, lnM_CLAU, lnM_CLSS, lnM_READ, lnM_OPEN, lnM_STCK, lnM_WORD, lnM_SAID, lnM_WASS, lnM_KEPT, lnM_FAR, lnM_WASI, lnM_OUTO, lnM_HASB, lnM_WHER, lnM_ISFI, lnM_CELT, lnM_IMGS, lnM_IMGF, lnM_IMGX, lnM_ISMA]; omega) ?_ | (refine And.intro ?_ (by intro hz; exfalso; omega); intro hz9))
          intro p4 e4 T4; have hM := T4.m hM
          have s4 : hI p4 mSAID = begP (hI p2 mSAID) 86 := by rw [T4.i (by decide) (by decide)]; exact e3
          have s42 : hI p4 mSAID 2 = r 2 := by
            rw [s4]
            unfold begP
            rw [if_neg (by omega), hs 2 (by omega) (by omega), if_pos (by omega)]
          repeat (first | refine wtA (by decide) ?_ | refine wtM ?_ | refine wtL ?_ | refine step ?_ | refine Exists.intro _ (And.intro (congrFun hM _) ?_) | refine Exists.intro _ (And.intro rfl ?_) | refine And.intro rfl ?_ | refine And.intro trivial ?_ | (refine And.intro (by intro hz; exfalso; omega) ?_; intro hz9) | refine And.intro (by omega) ?_ | refine And.intro (by simp only [lnM_TAPE, lnM_SIGN, lnM_LENG, lnM_CLAU, lnM_CLSS, lnM_READ, lnM_OPEN, lnM_STCK, lnM_WORD, lnM_SAID, lnM_WASS, lnM_KEPT, lnM_FAR, lnM_WASI, lnM_OUTO, lnM_HASB, lnM_WHER, lnM_ISFI, lnM_CELT, lnM_IMGS, lnM_IMGF, lnM_IMGX, lnM_ISMA]; omega) ?_ | (refine And.intro ?_ (by intro hz; exfalso; omega); intro hz9))
          rw [s42]
          exact K c r he hr p4 (hI p2 mSAID) (fun m m0 m1 => hs m m0 (by omega)) s4 (by rw [T4.f (by decide), T3.f (by decide)]; exact h1) e4 (((T2.up (by decide) (by decide)).tr (T3.up (by decide) (by decide))).tr (T4.up (by decide) (by decide)))
        | succ x ih =>
          intro j p2 hM j0 hx hs hE2 h1 T2
          have nx : ∀ (p3 : AH) (v : Int), v = (if j < 145 then r j else 0) → hI p3 mSAID = upF (hI p2 mSAID) j v → TA [mSAID] [] p2 p3 → k 0 0 68 [(0, vo M), (1, vi (j + 1))] [] p3 := by
            intro p3 v hv e3 T3
            refine ih (j + 1) p3 (T3.m hM) (by omega) (by omega) (fun m m0 m1 => ?_) (by rw [T3.i (by decide) (by decide)]; exact hE2) (by rw [T3.f (by decide)]; exact h1) (T2.tr (T3.up (by decide) (by decide)))
            rw [e3]
            show (if m = j then v else hI p2 mSAID m) = _
            by_cases hm : m = j
            · rw [if_pos hm, hm]; exact hv
            · rw [if_neg hm]; exact hs m m0 (by omega)
          refine step ?_
          repeat (first | refine wtA (by decide) ?_ | refine wtM ?_ | refine wtL ?_ | refine step ?_ | refine Exists.intro _ (And.intro (congrFun hM _) ?_) | refine Exists.intro _ (And.intro rfl ?_) | refine And.intro rfl ?_ | refine And.intro trivial ?_ | (refine And.intro (by intro hz; exfalso; omega) ?_; intro hz9) | refine And.intro (by omega) ?_ | refine And.intro (by simp only [lnM_TAPE, lnM_SIGN, lnM_LENG, lnM_CLAU, lnM_CLSS, lnM_READ, lnM_OPEN, lnM_STCK, lnM_WORD, lnM_SAID, lnM_WASS, lnM_KEPT, lnM_FAR, lnM_WASI, lnM_OUTO, lnM_HASB, lnM_WHER, lnM_ISFI, lnM_CELT, lnM_IMGS, lnM_IMGF, lnM_IMGX, lnM_ISMA]; omega) ?_ | (refine And.intro ?_ (by intro hz; exfalso; omega); intro hz9))
          refine And.intro (fun hc => ?_) (fun hc => ?_)
          · repeat (first | refine wtA (by decide) ?_ | refine wtM ?_ | refine wtL ?_ | refine step ?_ | refine Exists.intro _ (And.intro (congrFun hM _) ?_) | refine Exists.intro _ (And.intro rfl ?_) | refine And.intro rfl ?_ | refine And.intro trivial ?_ | (refine And.intro (by intro hz; exfalso; omega) ?_; intro hz9) | refine And.intro (by omega) ?_ | refine And.intro (by simp only [lnM_TAPE, lnM_SIGN, lnM_LENG, lnM_CLAU, lnM_CLSS, lnM_READ, lnM_OPEN, lnM_STCK, lnM_WORD, lnM_SAID, lnM_WASS, lnM_KEPT, lnM_FAR, lnM_WASI, lnM_OUTO, lnM_HASB, lnM_WHER, lnM_ISFI, lnM_CELT, lnM_IMGS, lnM_IMGF, lnM_IMGX, lnM_ISMA]; omega) ?_ | (refine And.intro ?_ (by intro hz; exfalso; omega); intro hz9))
            intro p3 e3 T3
            repeat (first | (exact nx p3 _ (by rw [if_neg (by omega)]) e3 T3) | refine wtA (by decide) ?_ | refine wtM ?_ | refine wtL ?_ | refine step ?_ | refine Exists.intro _ (And.intro (congrFun hM _) ?_) | refine Exists.intro _ (And.intro rfl ?_) | refine And.intro rfl ?_ | refine And.intro trivial ?_ | (refine And.intro (by intro hz; exfalso; omega) ?_; intro hz9) | refine And.intro (by omega) ?_ | refine And.intro (by simp only [lnM_TAPE, lnM_SIGN, lnM_LENG, lnM_CLAU, lnM_CLSS, lnM_READ, lnM_OPEN, lnM_STCK, lnM_WORD, lnM_SAID, lnM_WASS, lnM_KEPT, lnM_FAR, lnM_WASI, lnM_OUTO, lnM_HASB, lnM_WHER, lnM_ISFI, lnM_CELT, lnM_IMGS, lnM_IMGF, lnM_IMGX, lnM_ISMA]; omega) ?_ | (refine And.intro ?_ (by intro hz; exfalso; omega); intro hz9))
          · repeat (first | refine wtA (by decide) ?_ | refine wtM ?_ | refine wtL ?_ | refine step ?_ | refine Exists.intro _ (And.intro (congrFun hM _) ?_) | refine Exists.intro _ (And.intro rfl ?_) | refine And.intro rfl ?_ | refine And.intro trivial ?_ | (refine And.intro (by intro hz; exfalso; omega) ?_; intro hz9) | refine And.intro (by omega) ?_ | refine And.intro (by simp only [lnM_TAPE, lnM_SIGN, lnM_LENG, lnM_CLAU, lnM_CLSS, lnM_READ, lnM_OPEN, lnM_STCK, lnM_WORD, lnM_SAID, lnM_WASS, lnM_KEPT, lnM_FAR, lnM_WASI, lnM_OUTO, lnM_HASB, lnM_WHER, lnM_ISFI, lnM_CELT, lnM_IMGS, lnM_IMGF, lnM_IMGX, lnM_ISMA]; omega) ?_ | (refine And.intro ?_ (by intro hz; exfalso; omega); intro hz9))
            intro p3 e3 T3
            repeat (first | (exact nx p3 _ (by rw [if_pos (by omega)]; exact hE2 j j0 (by omega)) e3 T3) | refine wtA (by decide) ?_ | refine wtM ?_ | refine wtL ?_ | refine step ?_ | refine Exists.intro _ (And.intro (congrFun hM _) ?_) | refine Exists.intro _ (And.intro rfl ?_) | refine And.intro rfl ?_ | refine And.intro trivial ?_ | (refine And.intro (by intro hz; exfalso; omega) ?_; intro hz9) | refine And.intro (by omega) ?_ | refine And.intro (by simp only [lnM_TAPE, lnM_SIGN, lnM_LENG, lnM_CLAU, lnM_CLSS, lnM_READ, lnM_OPEN, lnM_STCK, lnM_WORD, lnM_SAID, lnM_WASS, lnM_KEPT, lnM_FAR, lnM_WASI, lnM_OUTO, lnM_HASB, lnM_WHER, lnM_ISFI, lnM_CELT, lnM_IMGS, lnM_IMGF, lnM_IMGX, lnM_ISMA]; omega) ?_ | (refine And.intro ?_ (by intro hz; exfalso; omega); intro hz9))
      repeat (first | (exact loop 176 0 q hM (by omega) (by omega) (fun m m0 m1 => by omega) hEq h1 (TT.up (by decide) (by decide))) | refine wtA (by decide) ?_ | refine wtM ?_ | refine wtL ?_ | refine step ?_ | refine Exists.intro _ (And.intro (congrFun hM _) ?_) | refine Exists.intro _ (And.intro rfl ?_) | refine And.intro rfl ?_ | refine And.intro trivial ?_ | (refine And.intro (by intro hz; exfalso; omega) ?_; intro hz9) | refine And.intro (by omega) ?_ | refine And.intro (by simp only [lnM_TAPE, lnM_SIGN, lnM_LENG, lnM_CLAU, lnM_CLSS, lnM_READ, lnM_OPEN, lnM_STCK, lnM_WORD, lnM_SAID, lnM_WASS, lnM_KEPT, lnM_FAR, lnM_WASI, lnM_OUTO, lnM_HASB, lnM_WHER, lnM_ISFI, lnM_CELT, lnM_IMGS, lnM_IMGF, lnM_IMGX, lnM_ISMA]; omega) ?_ | (refine And.intro ?_ (by intro hz; exfalso; omega); intro hz9))
  have L2 : ∀ (x : Nat) (j : Int) (p : AH), hP p M = MP → hI p M 11 = 6 → 0 ≤ j → j + x = 4 → (∀ m, 0 ≤ m → m < 145 → hI p mREAD m = if 105 ≤ m ∧ m < 105 + j then m - 105 else 0) → TA SHA [11] h p → k 0 0 30 [(0, vo M), (1, vi j)] [] p := by
    intro x
    induction x with
    | zero =>
      intro j p hM h11 j0 hx hs T0
      repeat (first | (exact keep [0] (main p hM h11 (fun m m0 m1 => by rw [hs m m0 m1]; unfold rd0; rw [show (105 : Int) + j = 109 by omega]) T0)) | refine wtA (by decide) ?_ | refine wtM ?_ | refine wtL ?_ | refine step ?_ | refine Exists.intro _ (And.intro (congrFun hM _) ?_) | refine Exists.intro _ (And.intro rfl ?_) | refine And.intro rfl ?_ | refine And.intro trivial ?_ | (refine And.intro (by intro hz; exfalso; omega) ?_; intro hz9) | refine And.intro (by omega) ?_ | refine And.intro (by simp only [lnM_TAPE, lnM_SIGN, lnM_LENG, lnM_CLAU, lnM_CLSS, lnM_READ, lnM_OPEN, lnM_STCK, lnM_WORD, lnM_SAID, lnM_WASS, lnM_KEPT, lnM_FAR, lnM_WASI, lnM_OUTO, lnM_HASB, lnM_WHER, lnM_ISFI, lnM_CELT, lnM_IMGS, lnM_IMGF, lnM_IMGX, lnM_ISMA]; omega) ?_ | (refine And.intro ?_ (by intro hz; exfalso; omega); intro hz9))
    | succ x ih =>
      intro j p hM h11 j0 hx hs T0
      refine step ?_
      repeat (first | refine wtA (by decide) ?_ | refine wtM ?_ | refine wtL ?_ | refine step ?_ | refine Exists.intro _ (And.intro (congrFun hM _) ?_) | refine Exists.intro _ (And.intro rfl ?_) | refine And.intro rfl ?_ | refine And.intro trivial ?_ | (refine And.intro (by intro hz; exfalso; omega) ?_; intro hz9) | refine And.intro (by omega) ?_ | refine And.intro (by simp only [lnM_TAPE, lnM_SIGN, lnM_LENG, lnM_CLAU, lnM_CLSS, lnM_READ, lnM_OPEN, lnM_STCK, lnM_WORD, lnM_SAID, lnM_WASS, lnM_KEPT, lnM_FAR, lnM_WASI, lnM_OUTO, lnM_HASB, lnM_WHER, lnM_ISFI, lnM_CELT, lnM_IMGS, lnM_IMGF, lnM_IMGX, lnM_ISMA]; omega) ?_ | (refine And.intro ?_ (by intro hz; exfalso; omega); intro hz9))
      intro p1 e1 T1; have hM := T1.m hM
      repeat (first | (exact ih (j + 1) p1 hM (by rw [T1.f (by decide)]; exact h11) (by omega) (by omega) (fun m m0 m1 => by
        rw [e1]
        show (if m = 105 + j then j else hI p mREAD m) = _
        by_cases hm : m = 105 + j
        · rw [if_pos hm, if_pos (by omega)]; omega
        · rw [if_neg hm, hs m m0 m1]
          by_cases hz : 105 ≤ m ∧ m < 105 + j
          · rw [if_pos hz, if_pos (by omega)]
          · rw [if_neg hz, if_neg (by omega)]) (T0.tr (T1.up (by decide) (by decide)))) | refine wtA (by decide) ?_ | refine wtM ?_ | refine wtL ?_ | refine step ?_ | refine Exists.intro _ (And.intro (congrFun hM _) ?_) | refine Exists.intro _ (And.intro rfl ?_) | refine And.intro rfl ?_ | refine And.intro trivial ?_ | (refine And.intro (by intro hz; exfalso; omega) ?_; intro hz9) | refine And.intro (by omega) ?_ | refine And.intro (by simp only [lnM_TAPE, lnM_SIGN, lnM_LENG, lnM_CLAU, lnM_CLSS, lnM_READ, lnM_OPEN, lnM_STCK, lnM_WORD, lnM_SAID, lnM_WASS, lnM_KEPT, lnM_FAR, lnM_WASI, lnM_OUTO, lnM_HASB, lnM_WHER, lnM_ISFI, lnM_CELT, lnM_IMGS, lnM_IMGF, lnM_IMGX, lnM_ISMA]; omega) ?_ | (refine And.intro ?_ (by intro hz; exfalso; omega); intro hz9))
  have L1 : ∀ (x : Nat) (j : Int) (p : AH), hP p M = MP → hI p M 11 = 6 → 0 ≤ j → j + x = 145 → (∀ m, 0 ≤ m → m < j → hI p mREAD m = 0) → TA SHA [11] h p → k 0 0 8 [(0, vo M), (1, vi j)] [] p := by
    intro x
    induction x with
    | zero =>
      intro j p hM h11 j0 hx hs T0
      repeat (first | (exact L2 4 0 p hM h11 (by omega) (by omega) (fun m m0 m1 => by rw [hs m m0 (by omega), if_neg (by omega)]) T0) | refine wtA (by decide) ?_ | refine wtM ?_ | refine wtL ?_ | refine step ?_ | refine Exists.intro _ (And.intro (congrFun hM _) ?_) | refine Exists.intro _ (And.intro rfl ?_) | refine And.intro rfl ?_ | refine And.intro trivial ?_ | (refine And.intro (by intro hz; exfalso; omega) ?_; intro hz9) | refine And.intro (by omega) ?_ | refine And.intro (by simp only [lnM_TAPE, lnM_SIGN, lnM_LENG, lnM_CLAU, lnM_CLSS, lnM_READ, lnM_OPEN, lnM_STCK, lnM_WORD, lnM_SAID, lnM_WASS, lnM_KEPT, lnM_FAR, lnM_WASI, lnM_OUTO, lnM_HASB, lnM_WHER, lnM_ISFI, lnM_CELT, lnM_IMGS, lnM_IMGF, lnM_IMGX, lnM_ISMA]; omega) ?_ | (refine And.intro ?_ (by intro hz; exfalso; omega); intro hz9))
    | succ x ih =>
      intro j p hM h11 j0 hx hs T0
      refine step ?_
      repeat (first | refine wtA (by decide) ?_ | refine wtM ?_ | refine wtL ?_ | refine step ?_ | refine Exists.intro _ (And.intro (congrFun hM _) ?_) | refine Exists.intro _ (And.intro rfl ?_) | refine And.intro rfl ?_ | refine And.intro trivial ?_ | (refine And.intro (by intro hz; exfalso; omega) ?_; intro hz9) | refine And.intro (by omega) ?_ | refine And.intro (by simp only [lnM_TAPE, lnM_SIGN, lnM_LENG, lnM_CLAU, lnM_CLSS, lnM_READ, lnM_OPEN, lnM_STCK, lnM_WORD, lnM_SAID, lnM_WASS, lnM_KEPT, lnM_FAR, lnM_WASI, lnM_OUTO, lnM_HASB, lnM_WHER, lnM_ISFI, lnM_CELT, lnM_IMGS, lnM_IMGF, lnM_IMGX, lnM_ISMA]; omega) ?_ | (refine And.intro ?_ (by intro hz; exfalso; omega); intro hz9))
      intro p1 e1 T1; have hM := T1.m hM
      repeat (first | (exact ih (j + 1) p1 hM (by rw [T1.f (by decide)]; exact h11) (by omega) (by omega) (fun m m0 m1 => by
        rw [e1]
        show (if m = j then 0 else hI p mREAD m) = _
        by_cases hm : m = j
        · rw [if_pos hm]
        · rw [if_neg hm]; exact hs m m0 (by omega)) (T0.tr (T1.up (by decide) (by decide)))) | refine wtA (by decide) ?_ | refine wtM ?_ | refine wtL ?_ | refine step ?_ | refine Exists.intro _ (And.intro (congrFun hM _) ?_) | refine Exists.intro _ (And.intro rfl ?_) | refine And.intro rfl ?_ | refine And.intro trivial ?_ | (refine And.intro (by intro hz; exfalso; omega) ?_; intro hz9) | refine And.intro (by omega) ?_ | refine And.intro (by simp only [lnM_TAPE, lnM_SIGN, lnM_LENG, lnM_CLAU, lnM_CLSS, lnM_READ, lnM_OPEN, lnM_STCK, lnM_WORD, lnM_SAID, lnM_WASS, lnM_KEPT, lnM_FAR, lnM_WASI, lnM_OUTO, lnM_HASB, lnM_WHER, lnM_ISFI, lnM_CELT, lnM_IMGS, lnM_IMGF, lnM_IMGX, lnM_ISMA]; omega) ?_ | (refine And.intro ?_ (by intro hz; exfalso; omega); intro hz9))
  repeat (first | refine wtA (by decide) ?_ | refine wtM ?_ | refine wtL ?_ | refine step ?_ | refine Exists.intro _ (And.intro (congrFun hM _) ?_) | refine Exists.intro _ (And.intro rfl ?_) | refine And.intro rfl ?_ | refine And.intro trivial ?_ | (refine And.intro (by intro hz; exfalso; omega) ?_; intro hz9) | refine And.intro (by omega) ?_ | refine And.intro (by simp only [lnM_TAPE, lnM_SIGN, lnM_LENG, lnM_CLAU, lnM_CLSS, lnM_READ, lnM_OPEN, lnM_STCK, lnM_WORD, lnM_SAID, lnM_WASS, lnM_KEPT, lnM_FAR, lnM_WASI, lnM_OUTO, lnM_HASB, lnM_WHER, lnM_ISFI, lnM_CELT, lnM_IMGS, lnM_IMGF, lnM_IMGX, lnM_ISMA]; omega) ?_ | (refine And.intro ?_ (by intro hz; exfalso; omega); intro hz9))
  intro p1 e1 T1; have hM := T1.m hM
  repeat (first | (exact L1 145 0 p1 hM e1 (by omega) (by omega) (fun m m0 m1 => by omega) (T1.up (by decide) (by decide))) | refine wtA (by decide) ?_ | refine wtM ?_ | refine wtL ?_ | refine step ?_ | refine Exists.intro _ (And.intro (congrFun hM _) ?_) | refine Exists.intro _ (And.intro rfl ?_) | refine And.intro rfl ?_ | refine And.intro trivial ?_ | (refine And.intro (by intro hz; exfalso; omega) ?_; intro hz9) | refine And.intro (by omega) ?_ | refine And.intro (by simp only [lnM_TAPE, lnM_SIGN, lnM_LENG, lnM_CLAU, lnM_CLSS, lnM_READ, lnM_OPEN, lnM_STCK, lnM_WORD, lnM_SAID, lnM_WASS, lnM_KEPT, lnM_FAR, lnM_WASI, lnM_OUTO, lnM_HASB, lnM_WHER, lnM_ISFI, lnM_CELT, lnM_IMGS, lnM_IMGF, lnM_IMGX, lnM_ISMA]; omega) ?_ | (refine And.intro ?_ (by intro hz; exfalso; omega); intro hz9))
