-- NEEDS: 62 97
/-! THE TWIN'S READER: the clauses of a sheet, told apart -/
theorem t_isJoinHere {d : Nat} {h : AH} {Φ : OUT → AH → Prop} {T : Int → Int} {n i : Int} {r : Int → Int} (hX : RX h T n i) (hE : EQR (hI h mREAD) r)
    (K0 : ∀ e, (bN (numS T n (lep T n i) 0 3) (fun j1 v1 => bN (numS T n j1 0 3) (fun j2 v2 => bN (numS T n j2 0 9) (fun j3 v3 => .inr (j3, v1, v2, v3)))) : Int ⊕ (Int × Int × Int × Int)) = .inl e → ∀ p, hP p M = MP → hI p M 9 = e → TA SA [8, 9, 10] h p → Φ (.inl (some (vi 0))) p)
    (K : ∀ j v1 v2 v3, (bN (numS T n (lep T n i) 0 3) (fun j1 v1 => bN (numS T n j1 0 3) (fun j2 v2 => bN (numS T n j2 0 9) (fun j3 v3 => .inr (j3, v1, v2, v3)))) : Int ⊕ (Int × Int × Int × Int)) = .inr (j, v1, v2, v3) → ∀ p, RX p T n j → EQR (hI p mREAD) (upF (upF r (105 + v1) v2) (86 + v1) v3) → TA SA [8, 9, 10] h p → Φ (.inl (some (vi 1))) p) : CT (d + 4) 0 0 J_X4_isJoinHere [vo M] h Φ := by
  refine e_X4_isJoinHere ?_; intro k step keep
  have hM := hX.1
  have lp := lep_ok (T := T) hX.2.2.2.2.1.2
  have i0 := hX.2.2.2.2.1.1
  repeat (first | refine wtA (by decide) ?_ | refine wtM ?_ | refine wtL ?_ | refine step ?_ | refine Exists.intro _ (And.intro (congrFun hM _) ?_) | refine Exists.intro _ (And.intro rfl ?_) | refine And.intro rfl ?_ | refine And.intro trivial ?_ | (refine And.intro (by intro hz; exfalso; omega) ?_; intro hz9) | refine And.intro (by omega) ?_ | refine And.intro (by simp only [lnM_TAPE, lnM_SIGN, lnM_LENG, lnM_CLAU, lnM_CLSS, lnM_READ, lnM_OPEN, lnM_STCK, lnM_WORD, lnM_SAID, lnM_WASS, lnM_KEPT, lnM_FAR, lnM_WASI, lnM_OUTO, lnM_HASB, lnM_WHER, lnM_ISFI, lnM_CELT, lnM_IMGS, lnM_IMGF, lnM_IMGX, lnM_ISMA]; omega) ?_ | (refine And.intro ?_ (by intro hz; exfalso; omega); intro hz9))
  refine Or.inl (t_passWordR hX (fun p1 H1 T1 => ?_))
  have hM := H1.1
  have s1 : hI p1 mREAD = hI h mREAD := T1.i (by decide) (by decide)
  have nk := numS_ok (T := T) (n := n) (i := lep T n i) (lo := 0) (hi := 3) (by omega) lp.2
  repeat (first | refine wtA (by decide) ?_ | refine wtM ?_ | refine wtL ?_ | refine step ?_ | refine Exists.intro _ (And.intro (congrFun hM _) ?_) | refine Exists.intro _ (And.intro rfl ?_) | refine And.intro rfl ?_ | refine And.intro trivial ?_ | (refine And.intro (by intro hz; exfalso; omega) ?_; intro hz9) | refine And.intro (by omega) ?_ | refine And.intro (by simp only [lnM_TAPE, lnM_SIGN, lnM_LENG, lnM_CLAU, lnM_CLSS, lnM_READ, lnM_OPEN, lnM_STCK, lnM_WORD, lnM_SAID, lnM_WASS, lnM_KEPT, lnM_FAR, lnM_WASI, lnM_OUTO, lnM_HASB, lnM_WHER, lnM_ISFI, lnM_CELT, lnM_IMGS, lnM_IMGF, lnM_IMGX, lnM_ISMA]; omega) ?_ | (refine And.intro ?_ (by intro hz; exfalso; omega); intro hz9))
  refine Or.inl (t_numR H1 (by omega) (by omega) (fun e he p2 hM e9 T2 => ?_) (fun j1 v1 hv p2 H2 e10 T2 => ?_))
  · rw [he] at K0
    repeat (first | refine wtA (by decide) ?_ | refine wtM ?_ | refine wtL ?_ | refine step ?_ | refine Exists.intro _ (And.intro (congrFun hM _) ?_) | refine Exists.intro _ (And.intro rfl ?_) | refine And.intro rfl ?_ | refine And.intro trivial ?_ | (refine And.intro (by intro hz; exfalso; omega) ?_; intro hz9) | refine And.intro (by omega) ?_ | refine And.intro (by simp only [lnM_TAPE, lnM_SIGN, lnM_LENG, lnM_CLAU, lnM_CLSS, lnM_READ, lnM_OPEN, lnM_STCK, lnM_WORD, lnM_SAID, lnM_WASS, lnM_KEPT, lnM_FAR, lnM_WASI, lnM_OUTO, lnM_HASB, lnM_WHER, lnM_ISFI, lnM_CELT, lnM_IMGS, lnM_IMGF, lnM_IMGX, lnM_ISMA]; omega) ?_ | (refine And.intro ?_ (by intro hz; exfalso; omega); intro hz9))
    exact K0 e rfl p2 hM e9 ((T1.up (by decide) (by decide)).tr (T2.up (by decide) (by decide)))
  · rw [hv] at K0 K nk
    have hM := H2.1
    have nk : lep T n i < j1 ∧ j1 ≤ n ∧ 0 ≤ v1 ∧ v1 ≤ 3 := nk
    have TT2 := (T1.up (A' := SA) (B' := [8, 9, 10]) (by decide) (by decide)).tr (T2.up (by decide) (by decide))
    have s2 : hI p2 mREAD = hI p1 mREAD := T2.i (by decide) (by decide)
    have K0 : ∀ e, (bN (numS T n j1 0 3) (fun j2 v2 => bN (numS T n j2 0 9) (fun j3 v3 => .inr (j3, v1, v2, v3))) : Int ⊕ (Int × Int × Int × Int)) = .inl e → ∀ p, hP p M = MP → hI p M 9 = e → TA SA [8, 9, 10] h p → Φ (.inl (some (vi 0))) p := K0
    have K : ∀ j v1' v2 v3, (bN (numS T n j1 0 3) (fun j2 v2 => bN (numS T n j2 0 9) (fun j3 v3 => .inr (j3, v1, v2, v3))) : Int ⊕ (Int × Int × Int × Int)) = .inr (j, v1', v2, v3) → ∀ p, RX p T n j → EQR (hI p mREAD) (upF (upF r (105 + v1') v2) (86 + v1') v3) → TA SA [8, 9, 10] h p → Φ (.inl (some (vi 1))) p := K
    repeat (first | refine wtA (by decide) ?_ | refine wtM ?_ | refine wtL ?_ | refine step ?_ | refine Exists.intro _ (And.intro (congrFun hM _) ?_) | refine Exists.intro _ (And.intro rfl ?_) | refine And.intro rfl ?_ | refine And.intro trivial ?_ | (refine And.intro (by intro hz; exfalso; omega) ?_; intro hz9) | refine And.intro (by omega) ?_ | refine And.intro (by simp only [lnM_TAPE, lnM_SIGN, lnM_LENG, lnM_CLAU, lnM_CLSS, lnM_READ, lnM_OPEN, lnM_STCK, lnM_WORD, lnM_SAID, lnM_WASS, lnM_KEPT, lnM_FAR, lnM_WASI, lnM_OUTO, lnM_HASB, lnM_WHER, lnM_ISFI, lnM_CELT, lnM_IMGS, lnM_IMGF, lnM_IMGX, lnM_ISMA]; omega) ?_ | (refine And.intro ?_ (by intro hz; exfalso; omega); intro hz9))
    rw [e10]
    refine Or.inl (t_cellHere H2 (by omega) (by omega) (by omega) (by omega) (fun e he p3 hM e9 T3 => ?_) (fun j2 v2 hv2 p3 H3 u3 T3 => ?_))
    · rw [he] at K0
      repeat (first | refine wtA (by decide) ?_ | refine wtM ?_ | refine wtL ?_ | refine step ?_ | refine Exists.intro _ (And.intro (congrFun hM _) ?_) | refine Exists.intro _ (And.intro rfl ?_) | refine And.intro rfl ?_ | refine And.intro trivial ?_ | (refine And.intro (by intro hz; exfalso; omega) ?_; intro hz9) | refine And.intro (by omega) ?_ | refine And.intro (by simp only [lnM_TAPE, lnM_SIGN, lnM_LENG, lnM_CLAU, lnM_CLSS, lnM_READ, lnM_OPEN, lnM_STCK, lnM_WORD, lnM_SAID, lnM_WASS, lnM_KEPT, lnM_FAR, lnM_WASI, lnM_OUTO, lnM_HASB, lnM_WHER, lnM_ISFI, lnM_CELT, lnM_IMGS, lnM_IMGF, lnM_IMGX, lnM_ISMA]; omega) ?_ | (refine And.intro ?_ (by intro hz; exfalso; omega); intro hz9))
      exact K0 e rfl p3 hM e9 (TT2.tr (T3.up (by decide) (by decide)))
    · rw [hv2] at K0 K
      have hM := H3.1
      have TT3 := TT2.tr (T3.up (by decide) (by decide))
      have K0 : ∀ e, (bN (numS T n j2 0 9) (fun j3 v3 => .inr (j3, v1, v2, v3)) : Int ⊕ (Int × Int × Int × Int)) = .inl e → ∀ p, hP p M = MP → hI p M 9 = e → TA SA [8, 9, 10] h p → Φ (.inl (some (vi 0))) p := K0
      have K : ∀ j v1' v2' v3, (bN (numS T n j2 0 9) (fun j3 v3 => .inr (j3, v1, v2, v3)) : Int ⊕ (Int × Int × Int × Int)) = .inr (j, v1', v2', v3) → ∀ p, RX p T n j → EQR (hI p mREAD) (upF (upF r (105 + v1') v2') (86 + v1') v3) → TA SA [8, 9, 10] h p → Φ (.inl (some (vi 1))) p := K
      repeat (first | refine wtA (by decide) ?_ | refine wtM ?_ | refine wtL ?_ | refine step ?_ | refine Exists.intro _ (And.intro (congrFun hM _) ?_) | refine Exists.intro _ (And.intro rfl ?_) | refine And.intro rfl ?_ | refine And.intro trivial ?_ | (refine And.intro (by intro hz; exfalso; omega) ?_; intro hz9) | refine And.intro (by omega) ?_ | refine And.intro (by simp only [lnM_TAPE, lnM_SIGN, lnM_LENG, lnM_CLAU, lnM_CLSS, lnM_READ, lnM_OPEN, lnM_STCK, lnM_WORD, lnM_SAID, lnM_WASS, lnM_KEPT, lnM_FAR, lnM_WASI, lnM_OUTO, lnM_HASB, lnM_WHER, lnM_ISFI, lnM_CELT, lnM_IMGS, lnM_IMGF, lnM_IMGX, lnM_ISMA]; omega) ?_ | (refine And.intro ?_ (by intro hz; exfalso; omega); intro hz9))
      refine Or.inl (t_cellHere H3 (by omega) (by omega) (by omega) (by omega) (fun e he p4 hM e9 T4 => ?_) (fun j3 v3 hv3 p4 H4 u4 T4 => ?_))
      · rw [he] at K0
        repeat (first | refine wtA (by decide) ?_ | refine wtM ?_ | refine wtL ?_ | refine step ?_ | refine Exists.intro _ (And.intro (congrFun hM _) ?_) | refine Exists.intro _ (And.intro rfl ?_) | refine And.intro rfl ?_ | refine And.intro trivial ?_ | (refine And.intro (by intro hz; exfalso; omega) ?_; intro hz9) | refine And.intro (by omega) ?_ | refine And.intro (by simp only [lnM_TAPE, lnM_SIGN, lnM_LENG, lnM_CLAU, lnM_CLSS, lnM_READ, lnM_OPEN, lnM_STCK, lnM_WORD, lnM_SAID, lnM_WASS, lnM_KEPT, lnM_FAR, lnM_WASI, lnM_OUTO, lnM_HASB, lnM_WHER, lnM_ISFI, lnM_CELT, lnM_IMGS, lnM_IMGF, lnM_IMGX, lnM_ISMA]; omega) ?_ | (refine And.intro ?_ (by intro hz; exfalso; omega); intro hz9))
        exact K0 e rfl p4 hM e9 (TT3.tr (T4.up (by decide) (by decide)))
      · rw [hv3] at K
        have hM := H4.1
        have TT4 := TT3.tr (T4.up (by decide) (by decide))
        have K : ∀ p, RX p T n j3 → EQR (hI p mREAD) (upF (upF r (105 + v1) v2) (86 + v1) v3) → TA SA [8, 9, 10] h p → Φ (.inl (some (vi 1))) p := K j3 v1 v2 v3 rfl
        repeat (first | refine wtA (by decide) ?_ | refine wtM ?_ | refine wtL ?_ | refine step ?_ | refine Exists.intro _ (And.intro (congrFun hM _) ?_) | refine Exists.intro _ (And.intro rfl ?_) | refine And.intro rfl ?_ | refine And.intro trivial ?_ | (refine And.intro (by intro hz; exfalso; omega) ?_; intro hz9) | refine And.intro (by omega) ?_ | refine And.intro (by simp only [lnM_TAPE, lnM_SIGN, lnM_LENG, lnM_CLAU, lnM_CLSS, lnM_READ, lnM_OPEN, lnM_STCK, lnM_WORD, lnM_SAID, lnM_WASS, lnM_KEPT, lnM_FAR, lnM_WASI, lnM_OUTO, lnM_HASB, lnM_WHER, lnM_ISFI, lnM_CELT, lnM_IMGS, lnM_IMGF, lnM_IMGX, lnM_ISMA]; omega) ?_ | (refine And.intro ?_ (by intro hz; exfalso; omega); intro hz9))
        refine K p4 H4 ?_ TT4
        rw [u4, u3, s2, s1]
        exact hE.up.up
theorem t_isStoneHere {d : Nat} {h : AH} {Φ : OUT → AH → Prop} {T : Int → Int} {n i : Int} {r : Int → Int} (hX : RX h T n i) (hE : EQR (hI h mREAD) r) (hr : RDO r)
    (K0 : ∀ e, numS T n (lep T n i) 0 (r 1 * r 1 - 1) = .inl e → ∀ p, hP p M = MP → hI p M 9 = e → TA SA [8, 9, 10] h p → Φ (.inl (some (vi 0))) p)
    (K : ∀ j v, numS T n (lep T n i) 0 (r 1 * r 1 - 1) = .inr (j, v) → ∀ p, RX p T n j → EQR (hI p mREAD) (upF r (109 + v) 1) → TA SA [8, 9, 10] h p → Φ (.inl (some (vi 1))) p) : CT (d + 4) 0 0 J_X4_isStoneHere [vo M] h Φ := by
  refine e_X4_isStoneHere ?_; intro k step keep
  have hM := hX.1
  have lp := lep_ok (T := T) hX.2.2.2.2.1.2
  have i0 := hX.2.2.2.2.1.1
  have e1 := hE 1 (by omega) (by omega)
  have sq : 0 ≤ r 1 * r 1 ∧ r 1 * r 1 ≤ 36 := by
    rcases hr.1 with z | z
    · rw [(hr.2.1 z).1]; omega
    · have := sq_lb (hr.2.2.1 z).1 (hr.2.2.1 z).2; omega
  repeat (first | refine wtA (by decide) ?_ | refine wtM ?_ | refine wtL ?_ | refine step ?_ | refine Exists.intro _ (And.intro (congrFun hM _) ?_) | refine Exists.intro _ (And.intro rfl ?_) | refine And.intro rfl ?_ | refine And.intro trivial ?_ | (refine And.intro (by intro hz; exfalso; omega) ?_; intro hz9) | refine And.intro (by omega) ?_ | refine And.intro (by simp only [lnM_TAPE, lnM_SIGN, lnM_LENG, lnM_CLAU, lnM_CLSS, lnM_READ, lnM_OPEN, lnM_STCK, lnM_WORD, lnM_SAID, lnM_WASS, lnM_KEPT, lnM_FAR, lnM_WASI, lnM_OUTO, lnM_HASB, lnM_WHER, lnM_ISFI, lnM_CELT, lnM_IMGS, lnM_IMGF, lnM_IMGX, lnM_ISMA]; omega) ?_ | (refine And.intro ?_ (by intro hz; exfalso; omega); intro hz9))
  refine Or.inl (t_passWordR hX (fun p1 H1 T1 => ?_))
  have hM := H1.1
  have s1 : hI p1 mREAD = hI h mREAD := T1.i (by decide) (by decide)
  have s11 : hI p1 mREAD 1 = r 1 := by rw [s1]; exact e1
  have nk := numS_ok (T := T) (n := n) (i := lep T n i) (lo := 0) (hi := r 1 * r 1 - 1) (by omega) lp.2
  repeat (first | refine wtA (by decide) ?_ | refine wtM ?_ | refine wtL ?_ | refine step ?_ | refine Exists.intro _ (And.intro (congrFun hM _) ?_) | refine Exists.intro _ (And.intro rfl ?_) | refine And.intro rfl ?_ | refine And.intro trivial ?_ | (refine And.intro (by intro hz; exfalso; omega) ?_; intro hz9) | refine And.intro (by omega) ?_ | refine And.intro (by simp only [lnM_TAPE, lnM_SIGN, lnM_LENG, lnM_CLAU, lnM_CLSS, lnM_READ, lnM_OPEN, lnM_STCK, lnM_WORD, lnM_SAID, lnM_WASS, lnM_KEPT, lnM_FAR, lnM_WASI, lnM_OUTO, lnM_HASB, lnM_WHER, lnM_ISFI, lnM_CELT, lnM_IMGS, lnM_IMGF, lnM_IMGX, lnM_ISMA]; omega) ?_ | (refine And.intro ?_ (by intro hz; exfalso; omega); intro hz9))
  refine Or.inl (t_lastCell hM ?_)
  rw [s11]
  repeat (first | refine wtA (by decide) ?_ | refine wtM ?_ | refine wtL ?_ | refine step ?_ | refine Exists.intro _ (And.intro (congrFun hM _) ?_) | refine Exists.intro _ (And.intro rfl ?_) | refine And.intro rfl ?_ | refine And.intro trivial ?_ | (refine And.intro (by intro hz; exfalso; omega) ?_; intro hz9) | refine And.intro (by omega) ?_ | refine And.intro (by simp only [lnM_TAPE, lnM_SIGN, lnM_LENG, lnM_CLAU, lnM_CLSS, lnM_READ, lnM_OPEN, lnM_STCK, lnM_WORD, lnM_SAID, lnM_WASS, lnM_KEPT, lnM_FAR, lnM_WASI, lnM_OUTO, lnM_HASB, lnM_WHER, lnM_ISFI, lnM_CELT, lnM_IMGS, lnM_IMGF, lnM_IMGX, lnM_ISMA]; omega) ?_ | (refine And.intro ?_ (by intro hz; exfalso; omega); intro hz9))
  refine Or.inl (t_numR H1 (by omega) (by omega) (fun e he p2 hM e9 T2 => ?_) (fun j1 v1 hv p2 H2 e10 T2 => ?_))
  · repeat (first | refine wtA (by decide) ?_ | refine wtM ?_ | refine wtL ?_ | refine step ?_ | refine Exists.intro _ (And.intro (congrFun hM _) ?_) | refine Exists.intro _ (And.intro rfl ?_) | refine And.intro rfl ?_ | refine And.intro trivial ?_ | (refine And.intro (by intro hz; exfalso; omega) ?_; intro hz9) | refine And.intro (by omega) ?_ | refine And.intro (by simp only [lnM_TAPE, lnM_SIGN, lnM_LENG, lnM_CLAU, lnM_CLSS, lnM_READ, lnM_OPEN, lnM_STCK, lnM_WORD, lnM_SAID, lnM_WASS, lnM_KEPT, lnM_FAR, lnM_WASI, lnM_OUTO, lnM_HASB, lnM_WHER, lnM_ISFI, lnM_CELT, lnM_IMGS, lnM_IMGF, lnM_IMGX, lnM_ISMA]; omega) ?_ | (refine And.intro ?_ (by intro hz; exfalso; omega); intro hz9))
    exact K0 e he p2 hM e9 ((T1.up (by decide) (by decide)).tr (T2.up (by decide) (by decide)))
  · rw [hv] at nk
    have hM := H2.1
    have nk : lep T n i < j1 ∧ j1 ≤ n ∧ 0 ≤ v1 ∧ v1 ≤ r 1 * r 1 - 1 := nk
    have TT2 := (T1.up (A' := SA) (B' := [8, 9, 10]) (by decide) (by decide)).tr (T2.up (by decide) (by decide))
    repeat (first | refine wtA (by decide) ?_ | refine wtM ?_ | refine wtL ?_ | refine step ?_ | refine Exists.intro _ (And.intro (congrFun hM _) ?_) | refine Exists.intro _ (And.intro rfl ?_) | refine And.intro rfl ?_ | refine And.intro trivial ?_ | (refine And.intro (by intro hz; exfalso; omega) ?_; intro hz9) | refine And.intro (by omega) ?_ | refine And.intro (by simp only [lnM_TAPE, lnM_SIGN, lnM_LENG, lnM_CLAU, lnM_CLSS, lnM_READ, lnM_OPEN, lnM_STCK, lnM_WORD, lnM_SAID, lnM_WASS, lnM_KEPT, lnM_FAR, lnM_WASI, lnM_OUTO, lnM_HASB, lnM_WHER, lnM_ISFI, lnM_CELT, lnM_IMGS, lnM_IMGF, lnM_IMGX, lnM_ISMA]; omega) ?_ | (refine And.intro ?_ (by intro hz; exfalso; omega); intro hz9))
    rw [e10]
    repeat (first | refine wtA (by decide) ?_ | refine wtM ?_ | refine wtL ?_ | refine step ?_ | refine Exists.intro _ (And.intro (congrFun hM _) ?_) | refine Exists.intro _ (And.intro rfl ?_) | refine And.intro rfl ?_ | refine And.intro trivial ?_ | (refine And.intro (by intro hz; exfalso; omega) ?_; intro hz9) | refine And.intro (by omega) ?_ | refine And.intro (by simp only [lnM_TAPE, lnM_SIGN, lnM_LENG, lnM_CLAU, lnM_CLSS, lnM_READ, lnM_OPEN, lnM_STCK, lnM_WORD, lnM_SAID, lnM_WASS, lnM_KEPT, lnM_FAR, lnM_WASI, lnM_OUTO, lnM_HASB, lnM_WHER, lnM_ISFI, lnM_CELT, lnM_IMGS, lnM_IMGF, lnM_IMGX, lnM_ISMA]; omega) ?_ | (refine And.intro ?_ (by intro hz; exfalso; omega); intro hz9))
    intro p3 e3 T3; have hM := T3.m hM
    repeat (first | refine wtA (by decide) ?_ | refine wtM ?_ | refine wtL ?_ | refine step ?_ | refine Exists.intro _ (And.intro (congrFun hM _) ?_) | refine Exists.intro _ (And.intro rfl ?_) | refine And.intro rfl ?_ | refine And.intro trivial ?_ | (refine And.intro (by intro hz; exfalso; omega) ?_; intro hz9) | refine And.intro (by omega) ?_ | refine And.intro (by simp only [lnM_TAPE, lnM_SIGN, lnM_LENG, lnM_CLAU, lnM_CLSS, lnM_READ, lnM_OPEN, lnM_STCK, lnM_WORD, lnM_SAID, lnM_WASS, lnM_KEPT, lnM_FAR, lnM_WASI, lnM_OUTO, lnM_HASB, lnM_WHER, lnM_ISFI, lnM_CELT, lnM_IMGS, lnM_IMGF, lnM_IMGX, lnM_ISMA]; omega) ?_ | (refine And.intro ?_ (by intro hz; exfalso; omega); intro hz9))
    refine K j1 v1 hv p3 (H2.to T3 (by decide) (by decide) (by decide) (by rw [T3.f (by decide)]; exact H2.2.2.2.1) H2.2.2.2.2.1.1 H2.2.2.2.2.1.2) ?_ (TT2.tr (T3.up (by decide) (by decide)))
    rw [e3, T2.i (by decide) (by decide), s1]
    exact hE.up
theorem wd_01 {T : Int → Int} {n j : Int} {W : Nat} {r : Int} (h : (r = 1 ∧ wdP T n j W) ∨ (r = 0 ∧ ¬ wdP T n j W)) : (r ≠ 0 → wdB T n j W = true) ∧ (r = 0 → ¬ wdB T n j W = true) := by
  rcases h with ⟨h1, h2⟩ | ⟨h1, h2⟩
  · exact ⟨fun _ => wdB_iff.mpr h2, fun z => by omega⟩
  · exact ⟨fun z => absurd h1 z, fun _ z => h2 (wdB_iff.mp z)⟩
theorem t_isSheetWord {d : Nat} {h : AH} {Φ : OUT → AH → Prop} {T : Int → Int} {n i : Int} (H : RX h T n i)
    (K : ∀ p r, (r = 1 ∧ (wdB T n (skp T n i) wSHEET = true ∨ wdB T n (skp T n i) wGOER = true ∨ wdB T n (skp T n i) wJOIN = true ∨ wdB T n (skp T n i) wSTONE = true)) ∨ (r = 0 ∧ ¬ wdB T n (skp T n i) wSHEET = true ∧ ¬ wdB T n (skp T n i) wGOER = true ∧ ¬ wdB T n (skp T n i) wJOIN = true ∧ ¬ wdB T n (skp T n i) wSTONE = true) → RX p T n (skp T n i) → TA [] [8] h p → Φ (.inl (some (vi r))) p) : CT (d + 3) 0 0 J_X4_isSheetWord [vo M] h Φ := by
  refine e_X4_isSheetWord ?_; intro k step keep
  have hM := H.1
  have id2 := skp_idem (T := T) H.2.2.2.2.1.2
  repeat (first | refine wtA (by decide) ?_ | refine wtM ?_ | refine wtL ?_ | refine step ?_ | refine Exists.intro _ (And.intro (congrFun hM _) ?_) | refine Exists.intro _ (And.intro rfl ?_) | refine And.intro rfl ?_ | refine And.intro trivial ?_ | (refine And.intro (by intro hz; exfalso; omega) ?_; intro hz9) | refine And.intro (by omega) ?_ | refine And.intro (by simp only [lnM_TAPE, lnM_SIGN, lnM_LENG, lnM_CLAU, lnM_CLSS, lnM_READ, lnM_OPEN, lnM_STCK, lnM_WORD, lnM_SAID, lnM_WASS, lnM_KEPT, lnM_FAR, lnM_WASI, lnM_OUTO, lnM_HASB, lnM_WHER, lnM_ISFI, lnM_CELT, lnM_IMGS, lnM_IMGF, lnM_IMGX, lnM_ISMA]; omega) ?_ | (refine And.intro ?_ (by intro hz; exfalso; omega); intro hz9))
  refine Or.inl (t_isWordR (W := wSHEET) H (by decide) (fun p1 r1 hr1 H1 T1 => ?_))
  have w1 := wd_01 hr1
  have hM := H1.1
  repeat (first | refine wtA (by decide) ?_ | refine wtM ?_ | refine wtL ?_ | refine step ?_ | refine Exists.intro _ (And.intro (congrFun hM _) ?_) | refine Exists.intro _ (And.intro rfl ?_) | refine And.intro rfl ?_ | refine And.intro trivial ?_ | (refine And.intro (by intro hz; exfalso; omega) ?_; intro hz9) | refine And.intro (by omega) ?_ | refine And.intro (by simp only [lnM_TAPE, lnM_SIGN, lnM_LENG, lnM_CLAU, lnM_CLSS, lnM_READ, lnM_OPEN, lnM_STCK, lnM_WORD, lnM_SAID, lnM_WASS, lnM_KEPT, lnM_FAR, lnM_WASI, lnM_OUTO, lnM_HASB, lnM_WHER, lnM_ISFI, lnM_CELT, lnM_IMGS, lnM_IMGF, lnM_IMGX, lnM_ISMA]; omega) ?_ | (refine And.intro ?_ (by intro hz; exfalso; omega); intro hz9))
  refine And.intro (fun h1 => ?_) (fun h1 => ?_)
  · repeat (first | refine wtA (by decide) ?_ | refine wtM ?_ | refine wtL ?_ | refine step ?_ | refine Exists.intro _ (And.intro (congrFun hM _) ?_) | refine Exists.intro _ (And.intro rfl ?_) | refine And.intro rfl ?_ | refine And.intro trivial ?_ | (refine And.intro (by intro hz; exfalso; omega) ?_; intro hz9) | refine And.intro (by omega) ?_ | refine And.intro (by simp only [lnM_TAPE, lnM_SIGN, lnM_LENG, lnM_CLAU, lnM_CLSS, lnM_READ, lnM_OPEN, lnM_STCK, lnM_WORD, lnM_SAID, lnM_WASS, lnM_KEPT, lnM_FAR, lnM_WASI, lnM_OUTO, lnM_HASB, lnM_WHER, lnM_ISFI, lnM_CELT, lnM_IMGS, lnM_IMGF, lnM_IMGX, lnM_ISMA]; omega) ?_ | (refine And.intro ?_ (by intro hz; exfalso; omega); intro hz9))
    exact K p1 1 (Or.inl ⟨rfl, Or.inl (w1.1 h1)⟩) H1 T1
  · repeat (first | refine wtA (by decide) ?_ | refine wtM ?_ | refine wtL ?_ | refine step ?_ | refine Exists.intro _ (And.intro (congrFun hM _) ?_) | refine Exists.intro _ (And.intro rfl ?_) | refine And.intro rfl ?_ | refine And.intro trivial ?_ | (refine And.intro (by intro hz; exfalso; omega) ?_; intro hz9) | refine And.intro (by omega) ?_ | refine And.intro (by simp only [lnM_TAPE, lnM_SIGN, lnM_LENG, lnM_CLAU, lnM_CLSS, lnM_READ, lnM_OPEN, lnM_STCK, lnM_WORD, lnM_SAID, lnM_WASS, lnM_KEPT, lnM_FAR, lnM_WASI, lnM_OUTO, lnM_HASB, lnM_WHER, lnM_ISFI, lnM_CELT, lnM_IMGS, lnM_IMGF, lnM_IMGX, lnM_ISMA]; omega) ?_ | (refine And.intro ?_ (by intro hz; exfalso; omega); intro hz9))
    refine Or.inl (t_isWordR (W := wGOER) H1 (by decide) (fun p2 r2 hr2 H2 T2 => ?_))
    rw [id2] at hr2 H2
    have w2 := wd_01 hr2
    have hM := H2.1
    have T2 := T1.tr T2
    repeat (first | refine wtA (by decide) ?_ | refine wtM ?_ | refine wtL ?_ | refine step ?_ | refine Exists.intro _ (And.intro (congrFun hM _) ?_) | refine Exists.intro _ (And.intro rfl ?_) | refine And.intro rfl ?_ | refine And.intro trivial ?_ | (refine And.intro (by intro hz; exfalso; omega) ?_; intro hz9) | refine And.intro (by omega) ?_ | refine And.intro (by simp only [lnM_TAPE, lnM_SIGN, lnM_LENG, lnM_CLAU, lnM_CLSS, lnM_READ, lnM_OPEN, lnM_STCK, lnM_WORD, lnM_SAID, lnM_WASS, lnM_KEPT, lnM_FAR, lnM_WASI, lnM_OUTO, lnM_HASB, lnM_WHER, lnM_ISFI, lnM_CELT, lnM_IMGS, lnM_IMGF, lnM_IMGX, lnM_ISMA]; omega) ?_ | (refine And.intro ?_ (by intro hz; exfalso; omega); intro hz9))
    refine And.intro (fun h2 => ?_) (fun h2 => ?_)
    · repeat (first | refine wtA (by decide) ?_ | refine wtM ?_ | refine wtL ?_ | refine step ?_ | refine Exists.intro _ (And.intro (congrFun hM _) ?_) | refine Exists.intro _ (And.intro rfl ?_) | refine And.intro rfl ?_ | refine And.intro trivial ?_ | (refine And.intro (by intro hz; exfalso; omega) ?_; intro hz9) | refine And.intro (by omega) ?_ | refine And.intro (by simp only [lnM_TAPE, lnM_SIGN, lnM_LENG, lnM_CLAU, lnM_CLSS, lnM_READ, lnM_OPEN, lnM_STCK, lnM_WORD, lnM_SAID, lnM_WASS, lnM_KEPT, lnM_FAR, lnM_WASI, lnM_OUTO, lnM_HASB, lnM_WHER, lnM_ISFI, lnM_CELT, lnM_IMGS, lnM_IMGF, lnM_IMGX, lnM_ISMA]; omega) ?_ | (refine And.intro ?_ (by intro hz; exfalso; omega); intro hz9))
      exact K p2 1 (Or.inl ⟨rfl, Or.inr (Or.inl (w2.1 h2))⟩) H2 T2
    · repeat (first | refine wtA (by decide) ?_ | refine wtM ?_ | refine wtL ?_ | refine step ?_ | refine Exists.intro _ (And.intro (congrFun hM _) ?_) | refine Exists.intro _ (And.intro rfl ?_) | refine And.intro rfl ?_ | refine And.intro trivial ?_ | (refine And.intro (by intro hz; exfalso; omega) ?_; intro hz9) | refine And.intro (by omega) ?_ | refine And.intro (by simp only [lnM_TAPE, lnM_SIGN, lnM_LENG, lnM_CLAU, lnM_CLSS, lnM_READ, lnM_OPEN, lnM_STCK, lnM_WORD, lnM_SAID, lnM_WASS, lnM_KEPT, lnM_FAR, lnM_WASI, lnM_OUTO, lnM_HASB, lnM_WHER, lnM_ISFI, lnM_CELT, lnM_IMGS, lnM_IMGF, lnM_IMGX, lnM_ISMA]; omega) ?_ | (refine And.intro ?_ (by intro hz; exfalso; omega); intro hz9))
      refine Or.inl (t_isWordR (W := wJOIN) H2 (by decide) (fun p3 r3 hr3 H3 T3 => ?_))
      rw [id2] at hr3 H3
      have w3 := wd_01 hr3
      have hM := H3.1
      have T3 := T2.tr T3
      repeat (first | refine wtA (by decide) ?_ | refine wtM ?_ | refine wtL ?_ | refine step ?_ | refine Exists.intro _ (And.intro (congrFun hM _) ?_) | refine Exists.intro _ (And.intro rfl ?_) | refine And.intro rfl ?_ | refine And.intro trivial ?_ | (refine And.intro (by intro hz; exfalso; omega) ?_; intro hz9) | refine And.intro (by omega) ?_ | refine And.intro (by simp only [lnM_TAPE, lnM_SIGN, lnM_LENG, lnM_CLAU, lnM_CLSS, lnM_READ, lnM_OPEN, lnM_STCK, lnM_WORD, lnM_SAID, lnM_WASS, lnM_KEPT, lnM_FAR, lnM_WASI, lnM_OUTO, lnM_HASB, lnM_WHER, lnM_ISFI, lnM_CELT, lnM_IMGS, lnM_IMGF, lnM_IMGX, lnM_ISMA]; omega) ?_ | (refine And.intro ?_ (by intro hz; exfalso; omega); intro hz9))
      refine And.intro (fun h3 => ?_) (fun h3 => ?_)
      · repeat (first | refine wtA (by decide) ?_ | refine wtM ?_ | refine wtL ?_ | refine step ?_ | refine Exists.intro _ (And.intro (congrFun hM _) ?_) | refine Exists.intro _ (And.intro rfl ?_) | refine And.intro rfl ?_ | refine And.intro trivial ?_ | (refine And.intro (by intro hz; exfalso; omega) ?_; intro hz9) | refine And.intro (by omega) ?_ | refine And.intro (by simp only [lnM_TAPE, lnM_SIGN, lnM_LENG, lnM_CLAU, lnM_CLSS, lnM_READ, lnM_OPEN, lnM_STCK, lnM_WORD, lnM_SAID, lnM_WASS, lnM_KEPT, lnM_FAR, lnM_WASI, lnM_OUTO, lnM_HASB, lnM_WHER, lnM_ISFI, lnM_CELT, lnM_IMGS, lnM_IMGF, lnM_IMGX, lnM_ISMA]; omega) ?_ | (refine And.intro ?_ (by intro hz; exfalso; omega); intro hz9))
        exact K p3 1 (Or.inl ⟨rfl, Or.inr (Or.inr (Or.inl (w3.1 h3)))⟩) H3 T3
      · repeat (first | refine wtA (by decide) ?_ | refine wtM ?_ | refine wtL ?_ | refine step ?_ | refine Exists.intro _ (And.intro (congrFun hM _) ?_) | refine Exists.intro _ (And.intro rfl ?_) | refine And.intro rfl ?_ | refine And.intro trivial ?_ | (refine And.intro (by intro hz; exfalso; omega) ?_; intro hz9) | refine And.intro (by omega) ?_ | refine And.intro (by simp only [lnM_TAPE, lnM_SIGN, lnM_LENG, lnM_CLAU, lnM_CLSS, lnM_READ, lnM_OPEN, lnM_STCK, lnM_WORD, lnM_SAID, lnM_WASS, lnM_KEPT, lnM_FAR, lnM_WASI, lnM_OUTO, lnM_HASB, lnM_WHER, lnM_ISFI, lnM_CELT, lnM_IMGS, lnM_IMGF, lnM_IMGX, lnM_ISMA]; omega) ?_ | (refine And.intro ?_ (by intro hz; exfalso; omega); intro hz9))
        refine Or.inl (t_isWordR (W := wSTONE) H3 (by decide) (fun p4 r4 hr4 H4 T4 => ?_))
        rw [id2] at hr4 H4
        have w4 := wd_01 hr4
        have hM := H4.1
        have T4 := T3.tr T4
        repeat (first | refine wtA (by decide) ?_ | refine wtM ?_ | refine wtL ?_ | refine step ?_ | refine Exists.intro _ (And.intro (congrFun hM _) ?_) | refine Exists.intro _ (And.intro rfl ?_) | refine And.intro rfl ?_ | refine And.intro trivial ?_ | (refine And.intro (by intro hz; exfalso; omega) ?_; intro hz9) | refine And.intro (by omega) ?_ | refine And.intro (by simp only [lnM_TAPE, lnM_SIGN, lnM_LENG, lnM_CLAU, lnM_CLSS, lnM_READ, lnM_OPEN, lnM_STCK, lnM_WORD, lnM_SAID, lnM_WASS, lnM_KEPT, lnM_FAR, lnM_WASI, lnM_OUTO, lnM_HASB, lnM_WHER, lnM_ISFI, lnM_CELT, lnM_IMGS, lnM_IMGF, lnM_IMGX, lnM_ISMA]; omega) ?_ | (refine And.intro ?_ (by intro hz; exfalso; omega); intro hz9))
        refine And.intro (fun h4 => ?_) (fun h4 => ?_)
        · repeat (first | refine wtA (by decide) ?_ | refine wtM ?_ | refine wtL ?_ | refine step ?_ | refine Exists.intro _ (And.intro (congrFun hM _) ?_) | refine Exists.intro _ (And.intro rfl ?_) | refine And.intro rfl ?_ | refine And.intro trivial ?_ | (refine And.intro (by intro hz; exfalso; omega) ?_; intro hz9) | refine And.intro (by omega) ?_ | refine And.intro (by simp only [lnM_TAPE, lnM_SIGN, lnM_LENG, lnM_CLAU, lnM_CLSS, lnM_READ, lnM_OPEN, lnM_STCK, lnM_WORD, lnM_SAID, lnM_WASS, lnM_KEPT, lnM_FAR, lnM_WASI, lnM_OUTO, lnM_HASB, lnM_WHER, lnM_ISFI, lnM_CELT, lnM_IMGS, lnM_IMGF, lnM_IMGX, lnM_ISMA]; omega) ?_ | (refine And.intro ?_ (by intro hz; exfalso; omega); intro hz9))
          exact K p4 0 (Or.inr ⟨rfl, w1.2 h1, w2.2 h2, w3.2 h3, w4.2 h4⟩) H4 T4
        · repeat (first | refine wtA (by decide) ?_ | refine wtM ?_ | refine wtL ?_ | refine step ?_ | refine Exists.intro _ (And.intro (congrFun hM _) ?_) | refine Exists.intro _ (And.intro rfl ?_) | refine And.intro rfl ?_ | refine And.intro trivial ?_ | (refine And.intro (by intro hz; exfalso; omega) ?_; intro hz9) | refine And.intro (by omega) ?_ | refine And.intro (by simp only [lnM_TAPE, lnM_SIGN, lnM_LENG, lnM_CLAU, lnM_CLSS, lnM_READ, lnM_OPEN, lnM_STCK, lnM_WORD, lnM_SAID, lnM_WASS, lnM_KEPT, lnM_FAR, lnM_WASI, lnM_OUTO, lnM_HASB, lnM_WHER, lnM_ISFI, lnM_CELT, lnM_IMGS, lnM_IMGF, lnM_IMGX, lnM_ISMA]; omega) ?_ | (refine And.intro ?_ (by intro hz; exfalso; omega); intro hz9))
          exact K p4 1 (Or.inl ⟨rfl, Or.inr (Or.inr (Or.inr (w4.1 h4)))⟩) H4 T4
theorem bN_inl {α β : Type} {r : Int ⊕ (Int × Int)} {K : Int → Int → Int ⊕ α} {K2 : Int → Int → Int ⊕ β} {e : Int} (hk : ∀ j v e, K j v = .inl e → K2 j v = .inl e) (h : bN r K = .inl e) : bN r K2 = .inl e := by
  rcases r with z | ⟨j, v⟩
  · have h : (Sum.inl z : Int ⊕ α) = .inl e := h
    cases h
    rfl
  · exact hk j v e h
theorem bN_inr {α β : Type} {r : Int ⊕ (Int × Int)} {K : Int → Int → Int ⊕ α} {K2 : Int → Int → Int ⊕ β} {a : α} {b : β} (hk : ∀ j v, K j v = .inr a → K2 j v = .inr b) (h : bN r K = .inr a) : bN r K2 = .inr b := by
  rcases r with z | ⟨j, v⟩
  · have h : (Sum.inl z : Int ⊕ α) = .inr a := h
    cases h
  · exact hk j v h
theorem t_sheetLine {d : Nat} {h : AH} {Φ : OUT → AH → Prop} {T : Int → Int} {n i c : Int} {r : Int → Int} {RR : Int ⊕ (Int × (Int × (Int → Int)))} (H : RX h T n (skp T n i)) (i1 : i ≤ n) (hE : EQR (hI h mREAD) r) (hr : RDO r) (hc : c ≠ 40) (hw : wdB T n (skp T n i) wSHEET = true ∨ wdB T n (skp T n i) wGOER = true ∨ wdB T n (skp T n i) wJOIN = true ∨ wdB T n (skp T n i) wSTONE = true) (hRR : sclS T n i (c, r) = RR)
    (K0 : ∀ e, RR = .inl e → ∀ p, hP p M = MP → hI p M 9 = e → TA SA [8, 9, 10] h p → Φ (.inl (some (vi 0))) p)
    (K : ∀ j r2, RR = .inr (j, (c + 1, r2)) → ∀ p, RX p T n j → EQR (hI p mREAD) r2 → TA SA [8, 9, 10] h p → Φ (.inl (some (vi 1))) p) : CT (d + 5) 0 0 J_X4_sheetLineHere [vo M, vi (skp T n i)] h Φ := by
  have sk := skp_ok (T := T) i1
  have id2 := skp_idem (T := T) i1
  have r01 := hr.1
  have r25 := hr.2.2.2.1
  unfold sclS at hRR
  have hRR : (if wdB T n (skp T n i) wSHEET = true then (if c = 40 ∨ 0 < r 0 then .inl (1 + 8 * skp T n i + 4) else bN (numS T n (lep T n (skp T n i)) 2 6) (fun j v => .inr (j, (c + 1, upF (upF r 1 v) 0 1))))
  else if wdB T n (skp T n i) wGOER = true then (if c = 40 ∨ r 0 = 0 ∨ r 2 = 5 then .inl (1 + 8 * skp T n i + 4) else bN (numS T n (lep T n (skp T n i)) 0 (r 1 * r 1 - 1)) (fun j1 v1 => bN (numS T n j1 0 3) (fun j2 v2 => bN (numS T n j2 0 60) (fun j3 v3 => .inr (j3, (c + 1, goeF r v1 v2 v3))))))
  else if wdB T n (skp T n i) wJOIN = true then (if c = 40 ∨ r 0 = 0 then .inl (1 + 8 * skp T n i + 4) else bN (numS T n (lep T n (skp T n i)) 0 3) (fun j1 v1 => bN (numS T n j1 0 3) (fun j2 v2 => bN (numS T n j2 0 9) (fun j3 v3 => .inr (j3, (c + 1, upF (upF r (105 + v1) v2) (86 + v1) v3))))))
  else if wdB T n (skp T n i) wSTONE = true then (if c = 40 ∨ r 0 = 0 then .inl (1 + 8 * skp T n i + 4) else bN (numS T n (lep T n (skp T n i)) 0 (r 1 * r 1 - 1)) (fun j v => .inr (j, (c + 1, upF r (109 + v) 1))))
  else .inl (1 + 8 * skp T n i + 0)) = RR := hRR
  have bad : ∀ {d : Nat} {q : AH} {Ψ : OUT → AH → Prop}, RX q T n (skp T n i) → TA [] [8] h q → RR = .inl (1 + 8 * skp T n i + 4) → (∀ q2, Φ (.inl (some (vi 0))) q2 → Ψ (.inl (some (vi 0))) q2) → CT (d + 1) 0 0 J_X4_fails [vo M, vi 4, vi (skp T n i)] q Ψ := by
    intro d q Ψ Hq Tq he hΨ
    refine t_fails (by have := Hq.2.2.2.2.2.2.2; omega) (fun p e9 T => ?_)
    rw [if_pos Hq.2.2.2.2.2.2.2] at e9
    exact hΨ p (K0 _ he p (T.m Hq.1) e9 ((Tq.up (by decide) (by decide)).tr (T.up (by decide) (by decide))))
  refine e_X4_sheetLineHere ?_; intro k step keep
  have hM := H.1
  repeat (first | refine wtA (by decide) ?_ | refine wtM ?_ | refine wtL ?_ | refine step ?_ | refine Exists.intro _ (And.intro (congrFun hM _) ?_) | refine Exists.intro _ (And.intro rfl ?_) | refine And.intro rfl ?_ | refine And.intro trivial ?_ | (refine And.intro (by intro hz; exfalso; omega) ?_; intro hz9) | refine And.intro (by omega) ?_ | refine And.intro (by simp only [lnM_TAPE, lnM_SIGN, lnM_LENG, lnM_CLAU, lnM_CLSS, lnM_READ, lnM_OPEN, lnM_STCK, lnM_WORD, lnM_SAID, lnM_WASS, lnM_KEPT, lnM_FAR, lnM_WASI, lnM_OUTO, lnM_HASB, lnM_WHER, lnM_ISFI, lnM_CELT, lnM_IMGS, lnM_IMGF, lnM_IMGX, lnM_ISMA]; omega) ?_ | (refine And.intro ?_ (by intro hz; exfalso; omega); intro hz9))
  refine Or.inl (t_isWordR (W := wSHEET) H (by decide) (fun p4 r4 hr4 H4 T4 => ?_))
  rw [id2] at hr4 H4
  have w4 := wd_01 hr4
  have hM := H4.1
  have hE4 : EQR (hI p4 mREAD) r := by rw [T4.i (by decide) (by decide)]; exact hE
  have z4 := hE4 0 (by omega) (by omega)
  have z2 := hE4 2 (by omega) (by omega)
  repeat (first | refine wtA (by decide) ?_ | refine wtM ?_ | refine wtL ?_ | refine step ?_ | refine Exists.intro _ (And.intro (congrFun hM _) ?_) | refine Exists.intro _ (And.intro rfl ?_) | refine And.intro rfl ?_ | refine And.intro trivial ?_ | (refine And.intro (by intro hz; exfalso; omega) ?_; intro hz9) | refine And.intro (by omega) ?_ | refine And.intro (by simp only [lnM_TAPE, lnM_SIGN, lnM_LENG, lnM_CLAU, lnM_CLSS, lnM_READ, lnM_OPEN, lnM_STCK, lnM_WORD, lnM_SAID, lnM_WASS, lnM_KEPT, lnM_FAR, lnM_WASI, lnM_OUTO, lnM_HASB, lnM_WHER, lnM_ISFI, lnM_CELT, lnM_IMGS, lnM_IMGF, lnM_IMGX, lnM_ISMA]; omega) ?_ | (refine And.intro ?_ (by intro hz; exfalso; omega); intro hz9))
  refine And.intro (fun h4 => ?_) (fun h4 => ?_)
  · rw [if_neg (w4.2 h4)] at hRR
    have hw := hw.resolve_left (w4.2 h4)
    repeat (first | refine wtA (by decide) ?_ | refine wtM ?_ | refine wtL ?_ | refine step ?_ | refine Exists.intro _ (And.intro (congrFun hM _) ?_) | refine Exists.intro _ (And.intro rfl ?_) | refine And.intro rfl ?_ | refine And.intro trivial ?_ | (refine And.intro (by intro hz; exfalso; omega) ?_; intro hz9) | refine And.intro (by omega) ?_ | refine And.intro (by simp only [lnM_TAPE, lnM_SIGN, lnM_LENG, lnM_CLAU, lnM_CLSS, lnM_READ, lnM_OPEN, lnM_STCK, lnM_WORD, lnM_SAID, lnM_WASS, lnM_KEPT, lnM_FAR, lnM_WASI, lnM_OUTO, lnM_HASB, lnM_WHER, lnM_ISFI, lnM_CELT, lnM_IMGS, lnM_IMGF, lnM_IMGX, lnM_ISMA]; omega) ?_ | (refine And.intro ?_ (by intro hz; exfalso; omega); intro hz9))
    refine And.intro (fun h0 => ?_) (fun h0 => ?_)
    · have r0 : ¬ r 0 = 0 := by omega
      repeat (first | refine wtA (by decide) ?_ | refine wtM ?_ | refine wtL ?_ | refine step ?_ | refine Exists.intro _ (And.intro (congrFun hM _) ?_) | refine Exists.intro _ (And.intro rfl ?_) | refine And.intro rfl ?_ | refine And.intro trivial ?_ | (refine And.intro (by intro hz; exfalso; omega) ?_; intro hz9) | refine And.intro (by omega) ?_ | refine And.intro (by simp only [lnM_TAPE, lnM_SIGN, lnM_LENG, lnM_CLAU, lnM_CLSS, lnM_READ, lnM_OPEN, lnM_STCK, lnM_WORD, lnM_SAID, lnM_WASS, lnM_KEPT, lnM_FAR, lnM_WASI, lnM_OUTO, lnM_HASB, lnM_WHER, lnM_ISFI, lnM_CELT, lnM_IMGS, lnM_IMGF, lnM_IMGX, lnM_ISMA]; omega) ?_ | (refine And.intro ?_ (by intro hz; exfalso; omega); intro hz9))
      refine Or.inl (t_isWordR (W := wGOER) H4 (by decide) (fun p5 r5 hr5 H5 T5 => ?_))
      rw [id2] at hr5 H5
      have w5 := wd_01 hr5
      have hM := H5.1
      have hE5 : EQR (hI p5 mREAD) r := by rw [T5.i (by decide) (by decide)]; exact hE4
      have z25 := hE5 2 (by omega) (by omega)
      have T5 := T4.tr T5
      have u5 : ∀ q, TA SA [8, 9, 10] p5 q → TA SA [8, 9, 10] h q := fun q Y => (T5.up (by decide) (by decide)).tr Y
      repeat (first | refine wtA (by decide) ?_ | refine wtM ?_ | refine wtL ?_ | refine step ?_ | refine Exists.intro _ (And.intro (congrFun hM _) ?_) | refine Exists.intro _ (And.intro rfl ?_) | refine And.intro rfl ?_ | refine And.intro trivial ?_ | (refine And.intro (by intro hz; exfalso; omega) ?_; intro hz9) | refine And.intro (by omega) ?_ | refine And.intro (by simp only [lnM_TAPE, lnM_SIGN, lnM_LENG, lnM_CLAU, lnM_CLSS, lnM_READ, lnM_OPEN, lnM_STCK, lnM_WORD, lnM_SAID, lnM_WASS, lnM_KEPT, lnM_FAR, lnM_WASI, lnM_OUTO, lnM_HASB, lnM_WHER, lnM_ISFI, lnM_CELT, lnM_IMGS, lnM_IMGF, lnM_IMGX, lnM_ISMA]; omega) ?_ | (refine And.intro ?_ (by intro hz; exfalso; omega); intro hz9))
      refine And.intro (fun h5 => ?_) (fun h5 => ?_)
      · rw [if_neg (w5.2 h5)] at hRR
        have hw := hw.resolve_left (w5.2 h5)
        repeat (first | refine wtA (by decide) ?_ | refine wtM ?_ | refine wtL ?_ | refine step ?_ | refine Exists.intro _ (And.intro (congrFun hM _) ?_) | refine Exists.intro _ (And.intro rfl ?_) | refine And.intro rfl ?_ | refine And.intro trivial ?_ | (refine And.intro (by intro hz; exfalso; omega) ?_; intro hz9) | refine And.intro (by omega) ?_ | refine And.intro (by simp only [lnM_TAPE, lnM_SIGN, lnM_LENG, lnM_CLAU, lnM_CLSS, lnM_READ, lnM_OPEN, lnM_STCK, lnM_WORD, lnM_SAID, lnM_WASS, lnM_KEPT, lnM_FAR, lnM_WASI, lnM_OUTO, lnM_HASB, lnM_WHER, lnM_ISFI, lnM_CELT, lnM_IMGS, lnM_IMGF, lnM_IMGX, lnM_ISMA]; omega) ?_ | (refine And.intro ?_ (by intro hz; exfalso; omega); intro hz9))
        refine Or.inl (t_isWordR (W := wJOIN) H5 (by decide) (fun p6 r6 hr6 H6 T6 => ?_))
        rw [id2] at hr6 H6
        have w6 := wd_01 hr6
        have hM := H6.1
        have hE6 : EQR (hI p6 mREAD) r := by rw [T6.i (by decide) (by decide)]; exact hE5
        have T6 := T5.tr T6
        have u6 : ∀ q, TA SA [8, 9, 10] p6 q → TA SA [8, 9, 10] h q := fun q Y => (T6.up (by decide) (by decide)).tr Y
        have n40 : ¬ (c = 40 ∨ r 0 = 0) := by omega
        repeat (first | refine wtA (by decide) ?_ | refine wtM ?_ | refine wtL ?_ | refine step ?_ | refine Exists.intro _ (And.intro (congrFun hM _) ?_) | refine Exists.intro _ (And.intro rfl ?_) | refine And.intro rfl ?_ | refine And.intro trivial ?_ | (refine And.intro (by intro hz; exfalso; omega) ?_; intro hz9) | refine And.intro (by omega) ?_ | refine And.intro (by simp only [lnM_TAPE, lnM_SIGN, lnM_LENG, lnM_CLAU, lnM_CLSS, lnM_READ, lnM_OPEN, lnM_STCK, lnM_WORD, lnM_SAID, lnM_WASS, lnM_KEPT, lnM_FAR, lnM_WASI, lnM_OUTO, lnM_HASB, lnM_WHER, lnM_ISFI, lnM_CELT, lnM_IMGS, lnM_IMGF, lnM_IMGX, lnM_ISMA]; omega) ?_ | (refine And.intro ?_ (by intro hz; exfalso; omega); intro hz9))
        refine And.intro (fun h6 => ?_) (fun h6 => ?_)
        · rw [if_neg (w6.2 h6)] at hRR
          have hw := hw.resolve_left (w6.2 h6)
          rw [if_pos hw, if_neg n40] at hRR
          repeat (first | refine wtA (by decide) ?_ | refine wtM ?_ | refine wtL ?_ | refine step ?_ | refine Exists.intro _ (And.intro (congrFun hM _) ?_) | refine Exists.intro _ (And.intro rfl ?_) | refine And.intro rfl ?_ | refine And.intro trivial ?_ | (refine And.intro (by intro hz; exfalso; omega) ?_; intro hz9) | refine And.intro (by omega) ?_ | refine And.intro (by simp only [lnM_TAPE, lnM_SIGN, lnM_LENG, lnM_CLAU, lnM_CLSS, lnM_READ, lnM_OPEN, lnM_STCK, lnM_WORD, lnM_SAID, lnM_WASS, lnM_KEPT, lnM_FAR, lnM_WASI, lnM_OUTO, lnM_HASB, lnM_WHER, lnM_ISFI, lnM_CELT, lnM_IMGS, lnM_IMGF, lnM_IMGX, lnM_ISMA]; omega) ?_ | (refine And.intro ?_ (by intro hz; exfalso; omega); intro hz9))
          refine Or.inl (t_isStoneHere H6 hE6 hr (fun e he q hM e9 X => ?_) (fun j v he q Hq hq X => ?_))
          · rw [he] at hRR
            repeat (first | refine wtA (by decide) ?_ | refine wtM ?_ | refine wtL ?_ | refine step ?_ | refine Exists.intro _ (And.intro (congrFun hM _) ?_) | refine Exists.intro _ (And.intro rfl ?_) | refine And.intro rfl ?_ | refine And.intro trivial ?_ | (refine And.intro (by intro hz; exfalso; omega) ?_; intro hz9) | refine And.intro (by omega) ?_ | refine And.intro (by simp only [lnM_TAPE, lnM_SIGN, lnM_LENG, lnM_CLAU, lnM_CLSS, lnM_READ, lnM_OPEN, lnM_STCK, lnM_WORD, lnM_SAID, lnM_WASS, lnM_KEPT, lnM_FAR, lnM_WASI, lnM_OUTO, lnM_HASB, lnM_WHER, lnM_ISFI, lnM_CELT, lnM_IMGS, lnM_IMGF, lnM_IMGX, lnM_ISMA]; omega) ?_ | (refine And.intro ?_ (by intro hz; exfalso; omega); intro hz9))
            exact K0 e hRR.symm q hM e9 (u6 q X)
          · rw [he] at hRR
            repeat (first | refine wtA (by decide) ?_ | refine wtM ?_ | refine wtL ?_ | refine step ?_ | refine Exists.intro _ (And.intro (congrFun hM _) ?_) | refine Exists.intro _ (And.intro rfl ?_) | refine And.intro rfl ?_ | refine And.intro trivial ?_ | (refine And.intro (by intro hz; exfalso; omega) ?_; intro hz9) | refine And.intro (by omega) ?_ | refine And.intro (by simp only [lnM_TAPE, lnM_SIGN, lnM_LENG, lnM_CLAU, lnM_CLSS, lnM_READ, lnM_OPEN, lnM_STCK, lnM_WORD, lnM_SAID, lnM_WASS, lnM_KEPT, lnM_FAR, lnM_WASI, lnM_OUTO, lnM_HASB, lnM_WHER, lnM_ISFI, lnM_CELT, lnM_IMGS, lnM_IMGF, lnM_IMGX, lnM_ISMA]; omega) ?_ | (refine And.intro ?_ (by intro hz; exfalso; omega); intro hz9))
            exact K j _ hRR.symm q Hq hq (u6 q X)
        · rw [if_pos (w6.1 h6), if_neg n40] at hRR
          repeat (first | refine wtA (by decide) ?_ | refine wtM ?_ | refine wtL ?_ | refine step ?_ | refine Exists.intro _ (And.intro (congrFun hM _) ?_) | refine Exists.intro _ (And.intro rfl ?_) | refine And.intro rfl ?_ | refine And.intro trivial ?_ | (refine And.intro (by intro hz; exfalso; omega) ?_; intro hz9) | refine And.intro (by omega) ?_ | refine And.intro (by simp only [lnM_TAPE, lnM_SIGN, lnM_LENG, lnM_CLAU, lnM_CLSS, lnM_READ, lnM_OPEN, lnM_STCK, lnM_WORD, lnM_SAID, lnM_WASS, lnM_KEPT, lnM_FAR, lnM_WASI, lnM_OUTO, lnM_HASB, lnM_WHER, lnM_ISFI, lnM_CELT, lnM_IMGS, lnM_IMGF, lnM_IMGX, lnM_ISMA]; omega) ?_ | (refine And.intro ?_ (by intro hz; exfalso; omega); intro hz9))
          refine Or.inl (t_isJoinHere H6 hE6 (fun e he q hM e9 X => ?_) (fun j v1 v2 v3 he q Hq hq X => ?_))
          · have hz := bN_inl (K2 := (fun j1 v1 => bN (numS T n j1 0 3) (fun j2 v2 => bN (numS T n j2 0 9) (fun j3 v3 => .inr (j3, (c + 1, upF (upF r (105 + v1) v2) (86 + v1) v3)))))) (fun j v e h => bN_inl (fun j v e h => bN_inl (fun j v e h => by cases h) h) h) he
            repeat (first | refine wtA (by decide) ?_ | refine wtM ?_ | refine wtL ?_ | refine step ?_ | refine Exists.intro _ (And.intro (congrFun hM _) ?_) | refine Exists.intro _ (And.intro rfl ?_) | refine And.intro rfl ?_ | refine And.intro trivial ?_ | (refine And.intro (by intro hz; exfalso; omega) ?_; intro hz9) | refine And.intro (by omega) ?_ | refine And.intro (by simp only [lnM_TAPE, lnM_SIGN, lnM_LENG, lnM_CLAU, lnM_CLSS, lnM_READ, lnM_OPEN, lnM_STCK, lnM_WORD, lnM_SAID, lnM_WASS, lnM_KEPT, lnM_FAR, lnM_WASI, lnM_OUTO, lnM_HASB, lnM_WHER, lnM_ISFI, lnM_CELT, lnM_IMGS, lnM_IMGF, lnM_IMGX, lnM_ISMA]; omega) ?_ | (refine And.intro ?_ (by intro hz; exfalso; omega); intro hz9))
            exact K0 e (hRR.symm.trans hz) q hM e9 (u6 q X)
          · have hz := bN_inr (K2 := (fun j1 v1 => bN (numS T n j1 0 3) (fun j2 v2 => bN (numS T n j2 0 9) (fun j3 v3 => .inr (j3, (c + 1, upF (upF r (105 + v1) v2) (86 + v1) v3)))))) (b := (j, (c + 1, upF (upF r (105 + v1) v2) (86 + v1) v3))) (fun j v h => bN_inr (fun j v h => bN_inr (fun j v h => by cases h; rfl) h) h) he
            repeat (first | refine wtA (by decide) ?_ | refine wtM ?_ | refine wtL ?_ | refine step ?_ | refine Exists.intro _ (And.intro (congrFun hM _) ?_) | refine Exists.intro _ (And.intro rfl ?_) | refine And.intro rfl ?_ | refine And.intro trivial ?_ | (refine And.intro (by intro hz; exfalso; omega) ?_; intro hz9) | refine And.intro (by omega) ?_ | refine And.intro (by simp only [lnM_TAPE, lnM_SIGN, lnM_LENG, lnM_CLAU, lnM_CLSS, lnM_READ, lnM_OPEN, lnM_STCK, lnM_WORD, lnM_SAID, lnM_WASS, lnM_KEPT, lnM_FAR, lnM_WASI, lnM_OUTO, lnM_HASB, lnM_WHER, lnM_ISFI, lnM_CELT, lnM_IMGS, lnM_IMGF, lnM_IMGX, lnM_ISMA]; omega) ?_ | (refine And.intro ?_ (by intro hz; exfalso; omega); intro hz9))
            exact K j _ (hRR.symm.trans hz) q Hq hq (u6 q X)
      · rw [if_pos (w5.1 h5)] at hRR
        by_cases h55 : r 2 = 5
        · rw [if_pos (by omega)] at hRR
          repeat (first | refine wtA (by decide) ?_ | refine wtM ?_ | refine wtL ?_ | refine step ?_ | refine Exists.intro _ (And.intro (congrFun hM _) ?_) | refine Exists.intro _ (And.intro rfl ?_) | refine And.intro rfl ?_ | refine And.intro trivial ?_ | (refine And.intro (by intro hz; exfalso; omega) ?_; intro hz9) | refine And.intro (by omega) ?_ | refine And.intro (by simp only [lnM_TAPE, lnM_SIGN, lnM_LENG, lnM_CLAU, lnM_CLSS, lnM_READ, lnM_OPEN, lnM_STCK, lnM_WORD, lnM_SAID, lnM_WASS, lnM_KEPT, lnM_FAR, lnM_WASI, lnM_OUTO, lnM_HASB, lnM_WHER, lnM_ISFI, lnM_CELT, lnM_IMGS, lnM_IMGF, lnM_IMGX, lnM_ISMA]; omega) ?_ | (refine And.intro ?_ (by intro hz; exfalso; omega); intro hz9))
          have big : CT (d + 4) 0 0 J_X4_isGoerHere [vo M, vi (skp T n i)] p5 (aft Φ 0 (fun ls' st' h' pc' => k 0 0 pc' ls' st' h') 47 [(0, vo M), (1, vi (skp T n i))] []) := by
            refine e_X4_isGoerHere ?_
            intro k2 step2 keep2
            refine step2 ?_
            refine step2 ?_
            refine And.intro rfl ?_
            refine Exists.intro _ (And.intro (congrFun hM _) ?_)
            refine step2 ?_
            refine step2 ?_
            refine And.intro rfl ?_
            refine And.intro (by omega) ?_
            refine And.intro (by simp only [lnM_READ]; omega) ?_
            refine Exists.intro _ (And.intro rfl ?_)
            refine step2 ?_
            refine step2 ?_
            refine And.intro (by omega) ?_
            refine And.intro (by omega) ?_
            refine And.intro (fun z => ?_) (fun z => ?_)
            · exfalso; omega
            · refine step2 ?_
              refine step2 ?_
              refine step2 ?_
              refine step2 ?_
              refine And.intro rfl ?_
              refine And.intro rfl ?_
              refine Or.inl (bad H5 T5 hRR.symm (fun q2 hq => ?_))
              refine step2 ?_
              refine And.intro ⟨by decide, by decide⟩ ?_
              repeat (first | refine wtA (by decide) ?_ | refine wtM ?_ | refine wtL ?_ | refine step ?_ | refine Exists.intro _ (And.intro (congrFun hM _) ?_) | refine Exists.intro _ (And.intro rfl ?_) | refine And.intro rfl ?_ | refine And.intro trivial ?_ | (refine And.intro (by intro hz; exfalso; omega) ?_; intro hz9) | refine And.intro (by omega) ?_ | refine And.intro (by simp only [lnM_TAPE, lnM_SIGN, lnM_LENG, lnM_CLAU, lnM_CLSS, lnM_READ, lnM_OPEN, lnM_STCK, lnM_WORD, lnM_SAID, lnM_WASS, lnM_KEPT, lnM_FAR, lnM_WASI, lnM_OUTO, lnM_HASB, lnM_WHER, lnM_ISFI, lnM_CELT, lnM_IMGS, lnM_IMGF, lnM_IMGX, lnM_ISMA]; omega) ?_ | (refine And.intro ?_ (by intro hz; exfalso; omega); intro hz9))
              exact hq
          exact Or.inl big
        · rw [if_neg (by omega)] at hRR
          repeat (first | refine wtA (by decide) ?_ | refine wtM ?_ | refine wtL ?_ | refine step ?_ | refine Exists.intro _ (And.intro (congrFun hM _) ?_) | refine Exists.intro _ (And.intro rfl ?_) | refine And.intro rfl ?_ | refine And.intro trivial ?_ | (refine And.intro (by intro hz; exfalso; omega) ?_; intro hz9) | refine And.intro (by omega) ?_ | refine And.intro (by simp only [lnM_TAPE, lnM_SIGN, lnM_LENG, lnM_CLAU, lnM_CLSS, lnM_READ, lnM_OPEN, lnM_STCK, lnM_WORD, lnM_SAID, lnM_WASS, lnM_KEPT, lnM_FAR, lnM_WASI, lnM_OUTO, lnM_HASB, lnM_WHER, lnM_ISFI, lnM_CELT, lnM_IMGS, lnM_IMGF, lnM_IMGX, lnM_ISMA]; omega) ?_ | (refine And.intro ?_ (by intro hz; exfalso; omega); intro hz9))
          refine Or.inl (t_isGoerHere H5 hE5 hr h55 (fun e he q hM e9 X => ?_) (fun j v1 v2 v3 he q Hq hq X => ?_))
          · have hz := bN_inl (K2 := (fun j1 v1 => bN (numS T n j1 0 3) (fun j2 v2 => bN (numS T n j2 0 60) (fun j3 v3 => .inr (j3, (c + 1, goeF r v1 v2 v3)))))) (fun j v e h => bN_inl (fun j v e h => bN_inl (fun j v e h => by cases h) h) h) he
            repeat (first | refine wtA (by decide) ?_ | refine wtM ?_ | refine wtL ?_ | refine step ?_ | refine Exists.intro _ (And.intro (congrFun hM _) ?_) | refine Exists.intro _ (And.intro rfl ?_) | refine And.intro rfl ?_ | refine And.intro trivial ?_ | (refine And.intro (by intro hz; exfalso; omega) ?_; intro hz9) | refine And.intro (by omega) ?_ | refine And.intro (by simp only [lnM_TAPE, lnM_SIGN, lnM_LENG, lnM_CLAU, lnM_CLSS, lnM_READ, lnM_OPEN, lnM_STCK, lnM_WORD, lnM_SAID, lnM_WASS, lnM_KEPT, lnM_FAR, lnM_WASI, lnM_OUTO, lnM_HASB, lnM_WHER, lnM_ISFI, lnM_CELT, lnM_IMGS, lnM_IMGF, lnM_IMGX, lnM_ISMA]; omega) ?_ | (refine And.intro ?_ (by intro hz; exfalso; omega); intro hz9))
            exact K0 e (hRR.symm.trans hz) q hM e9 (u5 q X)
          · have hz := bN_inr (K2 := (fun j1 v1 => bN (numS T n j1 0 3) (fun j2 v2 => bN (numS T n j2 0 60) (fun j3 v3 => .inr (j3, (c + 1, goeF r v1 v2 v3)))))) (b := (j, (c + 1, goeF r v1 v2 v3))) (fun j v h => bN_inr (fun j v h => bN_inr (fun j v h => by cases h; rfl) h) h) he
            repeat (first | refine wtA (by decide) ?_ | refine wtM ?_ | refine wtL ?_ | refine step ?_ | refine Exists.intro _ (And.intro (congrFun hM _) ?_) | refine Exists.intro _ (And.intro rfl ?_) | refine And.intro rfl ?_ | refine And.intro trivial ?_ | (refine And.intro (by intro hz; exfalso; omega) ?_; intro hz9) | refine And.intro (by omega) ?_ | refine And.intro (by simp only [lnM_TAPE, lnM_SIGN, lnM_LENG, lnM_CLAU, lnM_CLSS, lnM_READ, lnM_OPEN, lnM_STCK, lnM_WORD, lnM_SAID, lnM_WASS, lnM_KEPT, lnM_FAR, lnM_WASI, lnM_OUTO, lnM_HASB, lnM_WHER, lnM_ISFI, lnM_CELT, lnM_IMGS, lnM_IMGF, lnM_IMGX, lnM_ISMA]; omega) ?_ | (refine And.intro ?_ (by intro hz; exfalso; omega); intro hz9))
            exact K j _ (hRR.symm.trans hz) q Hq hq (u5 q X)
    · have r0 : r 0 = 0 := by omega
      have he : RR = .inl (1 + 8 * skp T n i + 4) := by
        rcases hw with z | z | z
        · rw [if_pos z, if_pos (by omega)] at hRR; exact hRR.symm
        · rw [if_neg (wd_uni z (by decide)), if_pos z, if_pos (by omega)] at hRR; exact hRR.symm
        · rw [if_neg (wd_uni z (by decide)), if_neg (wd_uni z (by decide)), if_pos z, if_pos (by omega)] at hRR; exact hRR.symm
      repeat (first | refine wtA (by decide) ?_ | refine wtM ?_ | refine wtL ?_ | refine step ?_ | refine Exists.intro _ (And.intro (congrFun hM _) ?_) | refine Exists.intro _ (And.intro rfl ?_) | refine And.intro rfl ?_ | refine And.intro trivial ?_ | (refine And.intro (by intro hz; exfalso; omega) ?_; intro hz9) | refine And.intro (by omega) ?_ | refine And.intro (by simp only [lnM_TAPE, lnM_SIGN, lnM_LENG, lnM_CLAU, lnM_CLSS, lnM_READ, lnM_OPEN, lnM_STCK, lnM_WORD, lnM_SAID, lnM_WASS, lnM_KEPT, lnM_FAR, lnM_WASI, lnM_OUTO, lnM_HASB, lnM_WHER, lnM_ISFI, lnM_CELT, lnM_IMGS, lnM_IMGF, lnM_IMGX, lnM_ISMA]; omega) ?_ | (refine And.intro ?_ (by intro hz; exfalso; omega); intro hz9))
      refine Or.inl (bad H4 T4 he (fun q2 hq => ?_))
      repeat (first | refine wtA (by decide) ?_ | refine wtM ?_ | refine wtL ?_ | refine step ?_ | refine Exists.intro _ (And.intro (congrFun hM _) ?_) | refine Exists.intro _ (And.intro rfl ?_) | refine And.intro rfl ?_ | refine And.intro trivial ?_ | (refine And.intro (by intro hz; exfalso; omega) ?_; intro hz9) | refine And.intro (by omega) ?_ | refine And.intro (by simp only [lnM_TAPE, lnM_SIGN, lnM_LENG, lnM_CLAU, lnM_CLSS, lnM_READ, lnM_OPEN, lnM_STCK, lnM_WORD, lnM_SAID, lnM_WASS, lnM_KEPT, lnM_FAR, lnM_WASI, lnM_OUTO, lnM_HASB, lnM_WHER, lnM_ISFI, lnM_CELT, lnM_IMGS, lnM_IMGF, lnM_IMGX, lnM_ISMA]; omega) ?_ | (refine And.intro ?_ (by intro hz; exfalso; omega); intro hz9))
      exact hq
  · rw [if_pos (w4.1 h4)] at hRR
    by_cases h01 : 0 < r 0
    · rw [if_pos (by omega)] at hRR
      repeat (first | refine wtA (by decide) ?_ | refine wtM ?_ | refine wtL ?_ | refine step ?_ | refine Exists.intro _ (And.intro (congrFun hM _) ?_) | refine Exists.intro _ (And.intro rfl ?_) | refine And.intro rfl ?_ | refine And.intro trivial ?_ | (refine And.intro (by intro hz; exfalso; omega) ?_; intro hz9) | refine And.intro (by omega) ?_ | refine And.intro (by simp only [lnM_TAPE, lnM_SIGN, lnM_LENG, lnM_CLAU, lnM_CLSS, lnM_READ, lnM_OPEN, lnM_STCK, lnM_WORD, lnM_SAID, lnM_WASS, lnM_KEPT, lnM_FAR, lnM_WASI, lnM_OUTO, lnM_HASB, lnM_WHER, lnM_ISFI, lnM_CELT, lnM_IMGS, lnM_IMGF, lnM_IMGX, lnM_ISMA]; omega) ?_ | (refine And.intro ?_ (by intro hz; exfalso; omega); intro hz9))
      have big : CT (d + 4) 0 0 J_X4_isSheetHere [vo M, vi (skp T n i)] p4 (aft Φ 0 (fun ls' st' h' pc' => k 0 0 pc' ls' st' h') 15 [(0, vo M), (1, vi (skp T n i))] []) := by
        refine e_X4_isSheetHere ?_
        intro k2 step2 keep2
        refine step2 ?_
        refine step2 ?_
        refine And.intro rfl ?_
        refine Exists.intro _ (And.intro (congrFun hM _) ?_)
        refine step2 ?_
        refine step2 ?_
        refine And.intro rfl ?_
        refine And.intro (by omega) ?_
        refine And.intro (by simp only [lnM_READ]; omega) ?_
        refine Exists.intro _ (And.intro rfl ?_)
        refine step2 ?_
        refine And.intro (by omega) ?_
        refine And.intro (fun z => ?_) (fun z => ?_)
        · exfalso; omega
        · refine step2 ?_
          refine step2 ?_
          refine step2 ?_
          refine step2 ?_
          refine And.intro rfl ?_
          refine And.intro rfl ?_
          refine Or.inl (bad H4 T4 hRR.symm (fun q2 hq => ?_))
          refine step2 ?_
          refine And.intro ⟨by decide, by decide⟩ ?_
          repeat (first | refine wtA (by decide) ?_ | refine wtM ?_ | refine wtL ?_ | refine step ?_ | refine Exists.intro _ (And.intro (congrFun hM _) ?_) | refine Exists.intro _ (And.intro rfl ?_) | refine And.intro rfl ?_ | refine And.intro trivial ?_ | (refine And.intro (by intro hz; exfalso; omega) ?_; intro hz9) | refine And.intro (by omega) ?_ | refine And.intro (by simp only [lnM_TAPE, lnM_SIGN, lnM_LENG, lnM_CLAU, lnM_CLSS, lnM_READ, lnM_OPEN, lnM_STCK, lnM_WORD, lnM_SAID, lnM_WASS, lnM_KEPT, lnM_FAR, lnM_WASI, lnM_OUTO, lnM_HASB, lnM_WHER, lnM_ISFI, lnM_CELT, lnM_IMGS, lnM_IMGF, lnM_IMGX, lnM_ISMA]; omega) ?_ | (refine And.intro ?_ (by intro hz; exfalso; omega); intro hz9))
          exact hq
      exact Or.inl big
    · rw [if_neg (by omega)] at hRR
      repeat (first | refine wtA (by decide) ?_ | refine wtM ?_ | refine wtL ?_ | refine step ?_ | refine Exists.intro _ (And.intro (congrFun hM _) ?_) | refine Exists.intro _ (And.intro rfl ?_) | refine And.intro rfl ?_ | refine And.intro trivial ?_ | (refine And.intro (by intro hz; exfalso; omega) ?_; intro hz9) | refine And.intro (by omega) ?_ | refine And.intro (by simp only [lnM_TAPE, lnM_SIGN, lnM_LENG, lnM_CLAU, lnM_CLSS, lnM_READ, lnM_OPEN, lnM_STCK, lnM_WORD, lnM_SAID, lnM_WASS, lnM_KEPT, lnM_FAR, lnM_WASI, lnM_OUTO, lnM_HASB, lnM_WHER, lnM_ISFI, lnM_CELT, lnM_IMGS, lnM_IMGF, lnM_IMGX, lnM_ISMA]; omega) ?_ | (refine And.intro ?_ (by intro hz; exfalso; omega); intro hz9))
      refine Or.inl (t_isSheetHere H4 hE4 hr h01 (fun e he q hM e9 X => ?_) (fun j v he q Hq hq X => ?_))
      · rw [he] at hRR
        repeat (first | refine wtA (by decide) ?_ | refine wtM ?_ | refine wtL ?_ | refine step ?_ | refine Exists.intro _ (And.intro (congrFun hM _) ?_) | refine Exists.intro _ (And.intro rfl ?_) | refine And.intro rfl ?_ | refine And.intro trivial ?_ | (refine And.intro (by intro hz; exfalso; omega) ?_; intro hz9) | refine And.intro (by omega) ?_ | refine And.intro (by simp only [lnM_TAPE, lnM_SIGN, lnM_LENG, lnM_CLAU, lnM_CLSS, lnM_READ, lnM_OPEN, lnM_STCK, lnM_WORD, lnM_SAID, lnM_WASS, lnM_KEPT, lnM_FAR, lnM_WASI, lnM_OUTO, lnM_HASB, lnM_WHER, lnM_ISFI, lnM_CELT, lnM_IMGS, lnM_IMGF, lnM_IMGX, lnM_ISMA]; omega) ?_ | (refine And.intro ?_ (by intro hz; exfalso; omega); intro hz9))
        exact K0 e hRR.symm q hM e9 ((T4.up (by decide) (by decide)).tr X)
      · rw [he] at hRR
        repeat (first | refine wtA (by decide) ?_ | refine wtM ?_ | refine wtL ?_ | refine step ?_ | refine Exists.intro _ (And.intro (congrFun hM _) ?_) | refine Exists.intro _ (And.intro rfl ?_) | refine And.intro rfl ?_ | refine And.intro trivial ?_ | (refine And.intro (by intro hz; exfalso; omega) ?_; intro hz9) | refine And.intro (by omega) ?_ | refine And.intro (by simp only [lnM_TAPE, lnM_SIGN, lnM_LENG, lnM_CLAU, lnM_CLSS, lnM_READ, lnM_OPEN, lnM_STCK, lnM_WORD, lnM_SAID, lnM_WASS, lnM_KEPT, lnM_FAR, lnM_WASI, lnM_OUTO, lnM_HASB, lnM_WHER, lnM_ISFI, lnM_CELT, lnM_IMGS, lnM_IMGF, lnM_IMGX, lnM_ISMA]; omega) ?_ | (refine And.intro ?_ (by intro hz; exfalso; omega); intro hz9))
        exact K j _ hRR.symm q Hq hq ((T4.up (by decide) (by decide)).tr X)
theorem t_clauseS {d : Nat} {h : AH} {Φ : OUT → AH → Prop} {T : Int → Int} {n i : Int} {s : Int × (Int → Int)} (H : SI T n h i s)
    (K0 : ∀ e, sclS T n i s = .inl e → 1 ≤ e → e ≤ 4000 → ∀ p, hP p M = MP → hI p M 9 = e → TA SA SBb h p → Φ (.inl (some (vi 0))) p)
    (K : ∀ j s2, sclS T n i s = .inr (j, s2) → i < j → ∀ p, SI T n p j s2 → TA SA SBb h p → Φ (.inl (some (vi 1))) p) : CT (d + 12) 0 0 J_X4_clauseHere [vo M] h Φ := by
  obtain ⟨hRX, t11, l14, ⟨c0, c1⟩, hE, hr⟩ := H
  obtain ⟨c, r⟩ := s
  obtain ⟨hM, -, -, -, ⟨i0, i1⟩, n1, hB, -⟩ := id hRX
  have c0 : 0 ≤ c := c0
  have c1 : c ≤ 40 := c1
  have l14 : hI h M 14 = c := l14
  have hE : EQR (hI h mREAD) r := hE
  have hr : RDO r := hr
  have sk := skp_ok (T := T) i1
  have id2 := skp_idem (T := T) i1
  have ok := sclS_ok (T := T) (n := n) (i := i) (s := (c, r)) i0 i1 c0 c1 hr
  obtain ⟨RR, hRR⟩ : ∃ RR, sclS T n i (c, r) = RR := ⟨_, rfl⟩
  rw [hRR] at K0 K ok
  have K0 : ∀ e, RR = .inl e → ∀ p, hP p M = MP → hI p M 9 = e → TA SA SBb h p → Φ (.inl (some (vi 0))) p := fun e he => by
    rw [he] at ok
    exact K0 e he ok.1 (by have : e ≤ 1 + 8 * n + 4 := ok.2; omega)
  have K : ∀ j r2, RR = .inr (j, (c + 1, r2)) → ∀ p, RX p T n j → hI p M 14 = c + 1 → EQR (hI p mREAD) r2 → TA SA SBb h p → Φ (.inl (some (vi 1))) p := fun j r2 he p hX h14 hq X => by
    rw [he] at ok
    exact K j (c + 1, r2) he ok.1 p ⟨hX, by rw [X.f (by decide)]; exact t11, h14, ⟨by show 0 ≤ c + 1; omega, ok.2.2.2.1⟩, hq, ok.2.2.2.2⟩ X
  refine e_X4_clauseHere ?_; intro k step keep
  repeat (first | refine wtA (by decide) ?_ | refine wtM ?_ | refine wtL ?_ | refine step ?_ | refine Exists.intro _ (And.intro (congrFun hM _) ?_) | refine Exists.intro _ (And.intro rfl ?_) | refine And.intro rfl ?_ | refine And.intro trivial ?_ | (refine And.intro (by intro hz; exfalso; omega) ?_; intro hz9) | refine And.intro (by omega) ?_ | refine And.intro (by simp only [lnM_TAPE, lnM_SIGN, lnM_LENG, lnM_CLAU, lnM_CLSS, lnM_READ, lnM_OPEN, lnM_STCK, lnM_WORD, lnM_SAID, lnM_WASS, lnM_KEPT, lnM_FAR, lnM_WASI, lnM_OUTO, lnM_HASB, lnM_WHER, lnM_ISFI, lnM_CELT, lnM_IMGS, lnM_IMGF, lnM_IMGX, lnM_ISMA]; omega) ?_ | (refine And.intro ?_ (by intro hz; exfalso; omega); intro hz9))
  refine Or.inl (t_seeR hRX (fun p1 H1 T1 => ?_))
  obtain ⟨hM, -, -, h8, -, -, -, h9⟩ := id H1
  have t1 : hI p1 M 11 = 6 := by rw [T1.f (by decide)]; exact t11
  repeat (first | refine wtA (by decide) ?_ | refine wtM ?_ | refine wtL ?_ | refine step ?_ | refine Exists.intro _ (And.intro (congrFun hM _) ?_) | refine Exists.intro _ (And.intro rfl ?_) | refine And.intro rfl ?_ | refine And.intro trivial ?_ | (refine And.intro (by intro hz; exfalso; omega) ?_; intro hz9) | refine And.intro (by omega) ?_ | refine And.intro (by simp only [lnM_TAPE, lnM_SIGN, lnM_LENG, lnM_CLAU, lnM_CLSS, lnM_READ, lnM_OPEN, lnM_STCK, lnM_WORD, lnM_SAID, lnM_WASS, lnM_KEPT, lnM_FAR, lnM_WASI, lnM_OUTO, lnM_HASB, lnM_WHER, lnM_ISFI, lnM_CELT, lnM_IMGS, lnM_IMGF, lnM_IMGX, lnM_ISMA]; omega) ?_ | (refine And.intro ?_ (by intro hz; exfalso; omega); intro hz9))
  rw [h8]
  refine Or.inl (t_isSheetWord H1 (fun p2 r2 hr2 H2 T2 => ?_))
  rw [id2] at hr2 H2
  obtain ⟨hM, -, -, h8, -, -, -, h9⟩ := id H2
  have T12 := T1.tr T2
  have w14 : hI p2 M 14 = c := by rw [T12.f (by decide)]; exact l14
  have TT2 : TA SA SBb h p2 := T12.up (by decide) (by decide)
  repeat (first | refine wtA (by decide) ?_ | refine wtM ?_ | refine wtL ?_ | refine step ?_ | refine Exists.intro _ (And.intro (congrFun hM _) ?_) | refine Exists.intro _ (And.intro rfl ?_) | refine And.intro rfl ?_ | refine And.intro trivial ?_ | (refine And.intro (by intro hz; exfalso; omega) ?_; intro hz9) | refine And.intro (by omega) ?_ | refine And.intro (by simp only [lnM_TAPE, lnM_SIGN, lnM_LENG, lnM_CLAU, lnM_CLSS, lnM_READ, lnM_OPEN, lnM_STCK, lnM_WORD, lnM_SAID, lnM_WASS, lnM_KEPT, lnM_FAR, lnM_WASI, lnM_OUTO, lnM_HASB, lnM_WHER, lnM_ISFI, lnM_CELT, lnM_IMGS, lnM_IMGF, lnM_IMGX, lnM_ISMA]; omega) ?_ | (refine And.intro ?_ (by intro hz; exfalso; omega); intro hz9))
  refine And.intro (fun hc => ?_) (fun hc => ?_)
  · have hw : ¬ r2 = 0 := hc
    have hw := hr2.resolve_right (fun z => hw z.1)
    have hw := hw.2
    repeat (first | refine wtA (by decide) ?_ | refine wtM ?_ | refine wtL ?_ | refine step ?_ | refine Exists.intro _ (And.intro (congrFun hM _) ?_) | refine Exists.intro _ (And.intro rfl ?_) | refine And.intro rfl ?_ | refine And.intro trivial ?_ | (refine And.intro (by intro hz; exfalso; omega) ?_; intro hz9) | refine And.intro (by omega) ?_ | refine And.intro (by simp only [lnM_TAPE, lnM_SIGN, lnM_LENG, lnM_CLAU, lnM_CLSS, lnM_READ, lnM_OPEN, lnM_STCK, lnM_WORD, lnM_SAID, lnM_WASS, lnM_KEPT, lnM_FAR, lnM_WASI, lnM_OUTO, lnM_HASB, lnM_WHER, lnM_ISFI, lnM_CELT, lnM_IMGS, lnM_IMGF, lnM_IMGX, lnM_ISMA]; omega) ?_ | (refine And.intro ?_ (by intro hz; exfalso; omega); intro hz9))
    rw [w14]
    repeat (first | refine wtA (by decide) ?_ | refine wtM ?_ | refine wtL ?_ | refine step ?_ | refine Exists.intro _ (And.intro (congrFun hM _) ?_) | refine Exists.intro _ (And.intro rfl ?_) | refine And.intro rfl ?_ | refine And.intro trivial ?_ | (refine And.intro (by intro hz; exfalso; omega) ?_; intro hz9) | refine And.intro (by omega) ?_ | refine And.intro (by simp only [lnM_TAPE, lnM_SIGN, lnM_LENG, lnM_CLAU, lnM_CLSS, lnM_READ, lnM_OPEN, lnM_STCK, lnM_WORD, lnM_SAID, lnM_WASS, lnM_KEPT, lnM_FAR, lnM_WASI, lnM_OUTO, lnM_HASB, lnM_WHER, lnM_ISFI, lnM_CELT, lnM_IMGS, lnM_IMGF, lnM_IMGX, lnM_ISMA]; omega) ?_ | (refine And.intro ?_ (by intro hz; exfalso; omega); intro hz9))
    refine And.intro (fun hd => ?_) (fun hd => ?_)
    · repeat (first | refine wtA (by decide) ?_ | refine wtM ?_ | refine wtL ?_ | refine step ?_ | refine Exists.intro _ (And.intro (congrFun hM _) ?_) | refine Exists.intro _ (And.intro rfl ?_) | refine And.intro rfl ?_ | refine And.intro trivial ?_ | (refine And.intro (by intro hz; exfalso; omega) ?_; intro hz9) | refine And.intro (by omega) ?_ | refine And.intro (by simp only [lnM_TAPE, lnM_SIGN, lnM_LENG, lnM_CLAU, lnM_CLSS, lnM_READ, lnM_OPEN, lnM_STCK, lnM_WORD, lnM_SAID, lnM_WASS, lnM_KEPT, lnM_FAR, lnM_WASI, lnM_OUTO, lnM_HASB, lnM_WHER, lnM_ISFI, lnM_CELT, lnM_IMGS, lnM_IMGF, lnM_IMGX, lnM_ISMA]; omega) ?_ | (refine And.intro ?_ (by intro hz; exfalso; omega); intro hz9))
      intro p3 e3 T3; have hM := T3.m hM
      rw [w14] at e3
      have H3 : RX p3 T n (skp T n i) := H2.to T3 (by decide) (by decide) (by decide) (by rw [T3.f (by decide)]; exact h8) (by omega) sk.2
      have TT3 : TA SA SBb h p3 := TT2.tr (T3.up (by decide) (by decide))
      have hE3 : EQR (hI p3 mREAD) r := by rw [T3.i (by decide) (by decide), T12.i (by decide) (by decide)]; exact hE
      repeat (first | refine wtA (by decide) ?_ | refine wtM ?_ | refine wtL ?_ | refine step ?_ | refine Exists.intro _ (And.intro (congrFun hM _) ?_) | refine Exists.intro _ (And.intro rfl ?_) | refine And.intro rfl ?_ | refine And.intro trivial ?_ | (refine And.intro (by intro hz; exfalso; omega) ?_; intro hz9) | refine And.intro (by omega) ?_ | refine And.intro (by simp only [lnM_TAPE, lnM_SIGN, lnM_LENG, lnM_CLAU, lnM_CLSS, lnM_READ, lnM_OPEN, lnM_STCK, lnM_WORD, lnM_SAID, lnM_WASS, lnM_KEPT, lnM_FAR, lnM_WASI, lnM_OUTO, lnM_HASB, lnM_WHER, lnM_ISFI, lnM_CELT, lnM_IMGS, lnM_IMGF, lnM_IMGX, lnM_ISMA]; omega) ?_ | (refine And.intro ?_ (by intro hz; exfalso; omega); intro hz9))
      refine Or.inl (t_sheetLine (c := c) (r := r) H3 i1 hE3 hr hd hw hRR (fun e he q hM e9 X => ?_) (fun j r2 he q Hq hq X => ?_))
      · repeat (first | refine wtA (by decide) ?_ | refine wtM ?_ | refine wtL ?_ | refine step ?_ | refine Exists.intro _ (And.intro (congrFun hM _) ?_) | refine Exists.intro _ (And.intro rfl ?_) | refine And.intro rfl ?_ | refine And.intro trivial ?_ | (refine And.intro (by intro hz; exfalso; omega) ?_; intro hz9) | refine And.intro (by omega) ?_ | refine And.intro (by simp only [lnM_TAPE, lnM_SIGN, lnM_LENG, lnM_CLAU, lnM_CLSS, lnM_READ, lnM_OPEN, lnM_STCK, lnM_WORD, lnM_SAID, lnM_WASS, lnM_KEPT, lnM_FAR, lnM_WASI, lnM_OUTO, lnM_HASB, lnM_WHER, lnM_ISFI, lnM_CELT, lnM_IMGS, lnM_IMGF, lnM_IMGX, lnM_ISMA]; omega) ?_ | (refine And.intro ?_ (by intro hz; exfalso; omega); intro hz9))
        exact K0 e he q hM e9 (TT3.tr (X.up (by decide) (by decide)))
      · repeat (first | refine wtA (by decide) ?_ | refine wtM ?_ | refine wtL ?_ | refine step ?_ | refine Exists.intro _ (And.intro (congrFun hM _) ?_) | refine Exists.intro _ (And.intro rfl ?_) | refine And.intro rfl ?_ | refine And.intro trivial ?_ | (refine And.intro (by intro hz; exfalso; omega) ?_; intro hz9) | refine And.intro (by omega) ?_ | refine And.intro (by simp only [lnM_TAPE, lnM_SIGN, lnM_LENG, lnM_CLAU, lnM_CLSS, lnM_READ, lnM_OPEN, lnM_STCK, lnM_WORD, lnM_SAID, lnM_WASS, lnM_KEPT, lnM_FAR, lnM_WASI, lnM_OUTO, lnM_HASB, lnM_WHER, lnM_ISFI, lnM_CELT, lnM_IMGS, lnM_IMGF, lnM_IMGX, lnM_ISMA]; omega) ?_ | (refine And.intro ?_ (by intro hz; exfalso; omega); intro hz9))
        exact K j r2 he q Hq (by rw [X.f (by decide)]; exact e3) hq (TT3.tr (X.up (by decide) (by decide)))
    · have he : RR = .inl (1 + 8 * skp T n i + 4) := by
        unfold sclS at hRR
        have hd : c = 40 := hd
        rcases hw with z | z | z | z
        · rw [if_pos z, if_pos (Or.inl hd)] at hRR; exact hRR.symm
        · rw [if_neg (wd_uni z (by decide)), if_pos z, if_pos (Or.inl hd)] at hRR; exact hRR.symm
        · rw [if_neg (wd_uni z (by decide)), if_neg (wd_uni z (by decide)), if_pos z, if_pos (Or.inl hd)] at hRR; exact hRR.symm
        · rw [if_neg (wd_uni z (by decide)), if_neg (wd_uni z (by decide)), if_neg (wd_uni z (by decide)), if_pos z, if_pos (Or.inl hd)] at hRR; exact hRR.symm
      repeat (first | refine wtA (by decide) ?_ | refine wtM ?_ | refine wtL ?_ | refine step ?_ | refine Exists.intro _ (And.intro (congrFun hM _) ?_) | refine Exists.intro _ (And.intro rfl ?_) | refine And.intro rfl ?_ | refine And.intro trivial ?_ | (refine And.intro (by intro hz; exfalso; omega) ?_; intro hz9) | refine And.intro (by omega) ?_ | refine And.intro (by simp only [lnM_TAPE, lnM_SIGN, lnM_LENG, lnM_CLAU, lnM_CLSS, lnM_READ, lnM_OPEN, lnM_STCK, lnM_WORD, lnM_SAID, lnM_WASS, lnM_KEPT, lnM_FAR, lnM_WASI, lnM_OUTO, lnM_HASB, lnM_WHER, lnM_ISFI, lnM_CELT, lnM_IMGS, lnM_IMGF, lnM_IMGX, lnM_ISMA]; omega) ?_ | (refine And.intro ?_ (by intro hz; exfalso; omega); intro hz9))
      refine Or.inl (t_fails (by omega) (fun p3 e9 T3 => ?_))
      rw [if_pos h9] at e9
      repeat (first | refine wtA (by decide) ?_ | refine wtM ?_ | refine wtL ?_ | refine step ?_ | refine Exists.intro _ (And.intro (congrFun hM _) ?_) | refine Exists.intro _ (And.intro rfl ?_) | refine And.intro rfl ?_ | refine And.intro trivial ?_ | (refine And.intro (by intro hz; exfalso; omega) ?_; intro hz9) | refine And.intro (by omega) ?_ | refine And.intro (by simp only [lnM_TAPE, lnM_SIGN, lnM_LENG, lnM_CLAU, lnM_CLSS, lnM_READ, lnM_OPEN, lnM_STCK, lnM_WORD, lnM_SAID, lnM_WASS, lnM_KEPT, lnM_FAR, lnM_WASI, lnM_OUTO, lnM_HASB, lnM_WHER, lnM_ISFI, lnM_CELT, lnM_IMGS, lnM_IMGF, lnM_IMGX, lnM_ISMA]; omega) ?_ | (refine And.intro ?_ (by intro hz; exfalso; omega); intro hz9))
      exact K0 _ he p3 (T3.m hM) e9 (TT2.tr (T3.up (by decide) (by decide)))
  · have hw := hr2.resolve_left (fun z => by omega)
    obtain ⟨-, w1, w2, w3, w4⟩ := hw
    have he : RR = .inl (1 + 8 * skp T n i + 0) := by
      unfold sclS at hRR
      rw [if_neg w1, if_neg w2, if_neg w3, if_neg w4] at hRR
      exact hRR.symm
    repeat (first | refine wtA (by decide) ?_ | refine wtM ?_ | refine wtL ?_ | refine step ?_ | refine Exists.intro _ (And.intro (congrFun hM _) ?_) | refine Exists.intro _ (And.intro rfl ?_) | refine And.intro rfl ?_ | refine And.intro trivial ?_ | (refine And.intro (by intro hz; exfalso; omega) ?_; intro hz9) | refine And.intro (by omega) ?_ | refine And.intro (by simp only [lnM_TAPE, lnM_SIGN, lnM_LENG, lnM_CLAU, lnM_CLSS, lnM_READ, lnM_OPEN, lnM_STCK, lnM_WORD, lnM_SAID, lnM_WASS, lnM_KEPT, lnM_FAR, lnM_WASI, lnM_OUTO, lnM_HASB, lnM_WHER, lnM_ISFI, lnM_CELT, lnM_IMGS, lnM_IMGF, lnM_IMGX, lnM_ISMA]; omega) ?_ | (refine And.intro ?_ (by intro hz; exfalso; omega); intro hz9))
    refine Or.inl (t_fails (by omega) (fun p3 e9 T3 => ?_))
    rw [if_pos h9] at e9
    repeat (first | refine wtA (by decide) ?_ | refine wtM ?_ | refine wtL ?_ | refine step ?_ | refine Exists.intro _ (And.intro (congrFun hM _) ?_) | refine Exists.intro _ (And.intro rfl ?_) | refine And.intro rfl ?_ | refine And.intro trivial ?_ | (refine And.intro (by intro hz; exfalso; omega) ?_; intro hz9) | refine And.intro (by omega) ?_ | refine And.intro (by simp only [lnM_TAPE, lnM_SIGN, lnM_LENG, lnM_CLAU, lnM_CLSS, lnM_READ, lnM_OPEN, lnM_STCK, lnM_WORD, lnM_SAID, lnM_WASS, lnM_KEPT, lnM_FAR, lnM_WASI, lnM_OUTO, lnM_HASB, lnM_WHER, lnM_ISFI, lnM_CELT, lnM_IMGS, lnM_IMGF, lnM_IMGX, lnM_ISMA]; omega) ?_ | (refine And.intro ?_ (by intro hz; exfalso; omega); intro hz9))
    exact K0 _ he p3 (T3.m hM) e9 (TT2.tr (T3.up (by decide) (by decide)))
