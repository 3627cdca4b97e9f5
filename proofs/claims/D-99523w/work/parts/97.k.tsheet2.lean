-- NEEDS: 62 97
/-! THE TWIN'S READER: the clauses of a sheet -/
abbrev SA : List Nat := [mREAD, mLENG]
abbrev SBb : List Int := [8, 9, 10, 12, 14]
theorem SI.mv {T : Int → Int} {n i j : Int} {p q : AH} {s : Int × (Int → Int)} (H : SI T n p i s) (X : TA [] [8] p q) (hR : RX q T n j) : SI T n q j s := ⟨hR, by rw [X.f (by decide)]; exact H.2.1, by rw [X.f (by decide)]; exact H.2.2.1, H.2.2.2.1, by rw [X.i (by decide) (by decide)]; exact H.2.2.2.2.1, H.2.2.2.2.2⟩
theorem t_isSheetHere {d : Nat} {h : AH} {Φ : OUT → AH → Prop} {T : Int → Int} {n i at0 : Int} {r : Int → Int} (hX : RX h T n i) (hE : EQR (hI h mREAD) r) (hr : RDO r) (h0 : ¬ 0 < r 0)
    (K0 : ∀ e, numS T n (lep T n i) 2 6 = .inl e → ∀ p, hP p M = MP → hI p M 9 = e → TA SA [8, 9, 10] h p → Φ (.inl (some (vi 0))) p)
    (K : ∀ j v, numS T n (lep T n i) 2 6 = .inr (j, v) → ∀ p, RX p T n j → EQR (hI p mREAD) (upF (upF r 1 v) 0 1) → TA SA [8, 9, 10] h p → Φ (.inl (some (vi 1))) p) : CT (d + 4) 0 0 J_X4_isSheetHere [vo M, vi at0] h Φ := by
  refine e_X4_isSheetHere ?_; intro k step keep
  have hM := hX.1
  have e0 := hE 0 (by omega) (by omega)
  have r01 := hr.1
  repeat (first | refine wtA (by decide) ?_ | refine wtM ?_ | refine wtL ?_ | refine step ?_ | refine Exists.intro _ (And.intro (congrFun hM _) ?_) | refine Exists.intro _ (And.intro rfl ?_) | refine And.intro rfl ?_ | refine And.intro trivial ?_ | (refine And.intro (by intro hz; exfalso; omega) ?_; intro hz9) | refine And.intro (by omega) ?_ | refine And.intro (by simp only [lnM_TAPE, lnM_SIGN, lnM_LENG, lnM_CLAU, lnM_CLSS, lnM_READ, lnM_OPEN, lnM_STCK, lnM_WORD, lnM_SAID, lnM_WASS, lnM_KEPT, lnM_FAR, lnM_WASI, lnM_OUTO, lnM_HASB, lnM_WHER, lnM_ISFI, lnM_CELT, lnM_IMGS, lnM_IMGF, lnM_IMGX, lnM_ISMA]; omega) ?_ | (refine And.intro ?_ (by intro hz; exfalso; omega); intro hz9))
  refine Or.inl (t_passWordR hX (fun p1 H1 T1 => ?_))
  have hM := H1.1
  repeat (first | refine wtA (by decide) ?_ | refine wtM ?_ | refine wtL ?_ | refine step ?_ | refine Exists.intro _ (And.intro (congrFun hM _) ?_) | refine Exists.intro _ (And.intro rfl ?_) | refine And.intro rfl ?_ | refine And.intro trivial ?_ | (refine And.intro (by intro hz; exfalso; omega) ?_; intro hz9) | refine And.intro (by omega) ?_ | refine And.intro (by simp only [lnM_TAPE, lnM_SIGN, lnM_LENG, lnM_CLAU, lnM_CLSS, lnM_READ, lnM_OPEN, lnM_STCK, lnM_WORD, lnM_SAID, lnM_WASS, lnM_KEPT, lnM_FAR, lnM_WASI, lnM_OUTO, lnM_HASB, lnM_WHER, lnM_ISFI, lnM_CELT, lnM_IMGS, lnM_IMGF, lnM_IMGX, lnM_ISMA]; omega) ?_ | (refine And.intro ?_ (by intro hz; exfalso; omega); intro hz9))
  refine Or.inl (t_cellHere H1 (by omega) (by omega) (by omega) (by omega) (fun e he p2 hM e9 T2 => ?_) (fun j v hv p2 H2 e2 T2 => ?_))
  · repeat (first | refine wtA (by decide) ?_ | refine wtM ?_ | refine wtL ?_ | refine step ?_ | refine Exists.intro _ (And.intro (congrFun hM _) ?_) | refine Exists.intro _ (And.intro rfl ?_) | refine And.intro rfl ?_ | refine And.intro trivial ?_ | (refine And.intro (by intro hz; exfalso; omega) ?_; intro hz9) | refine And.intro (by omega) ?_ | refine And.intro (by simp only [lnM_TAPE, lnM_SIGN, lnM_LENG, lnM_CLAU, lnM_CLSS, lnM_READ, lnM_OPEN, lnM_STCK, lnM_WORD, lnM_SAID, lnM_WASS, lnM_KEPT, lnM_FAR, lnM_WASI, lnM_OUTO, lnM_HASB, lnM_WHER, lnM_ISFI, lnM_CELT, lnM_IMGS, lnM_IMGF, lnM_IMGX, lnM_ISMA]; omega) ?_ | (refine And.intro ?_ (by intro hz; exfalso; omega); intro hz9))
    exact K0 e he p2 hM e9 ((T1.up (by decide) (by decide)).tr (T2.up (by decide) (by decide)))
  · have hM := H2.1
    repeat (first | refine wtA (by decide) ?_ | refine wtM ?_ | refine wtL ?_ | refine step ?_ | refine Exists.intro _ (And.intro (congrFun hM _) ?_) | refine Exists.intro _ (And.intro rfl ?_) | refine And.intro rfl ?_ | refine And.intro trivial ?_ | (refine And.intro (by intro hz; exfalso; omega) ?_; intro hz9) | refine And.intro (by omega) ?_ | refine And.intro (by simp only [lnM_TAPE, lnM_SIGN, lnM_LENG, lnM_CLAU, lnM_CLSS, lnM_READ, lnM_OPEN, lnM_STCK, lnM_WORD, lnM_SAID, lnM_WASS, lnM_KEPT, lnM_FAR, lnM_WASI, lnM_OUTO, lnM_HASB, lnM_WHER, lnM_ISFI, lnM_CELT, lnM_IMGS, lnM_IMGF, lnM_IMGX, lnM_ISMA]; omega) ?_ | (refine And.intro ?_ (by intro hz; exfalso; omega); intro hz9))
    intro p3 e3 T3; have hM := T3.m hM
    repeat (first | refine wtA (by decide) ?_ | refine wtM ?_ | refine wtL ?_ | refine step ?_ | refine Exists.intro _ (And.intro (congrFun hM _) ?_) | refine Exists.intro _ (And.intro rfl ?_) | refine And.intro rfl ?_ | refine And.intro trivial ?_ | (refine And.intro (by intro hz; exfalso; omega) ?_; intro hz9) | refine And.intro (by omega) ?_ | refine And.intro (by simp only [lnM_TAPE, lnM_SIGN, lnM_LENG, lnM_CLAU, lnM_CLSS, lnM_READ, lnM_OPEN, lnM_STCK, lnM_WORD, lnM_SAID, lnM_WASS, lnM_KEPT, lnM_FAR, lnM_WASI, lnM_OUTO, lnM_HASB, lnM_WHER, lnM_ISFI, lnM_CELT, lnM_IMGS, lnM_IMGF, lnM_IMGX, lnM_ISMA]; omega) ?_ | (refine And.intro ?_ (by intro hz; exfalso; omega); intro hz9))
    refine K j v hv p3 (H2.to T3 (by decide) (by decide) (by decide) (by rw [T3.f (by decide)]; exact H2.2.2.2.1) H2.2.2.2.2.1.1 H2.2.2.2.2.1.2) ?_ (((T1.up (by decide) (by decide)).tr (T2.up (by decide) (by decide))).tr (T3.up (by decide) (by decide)))
    rw [e3, e2, T1.i (by decide) (by decide)]
    exact hE.up.up
theorem t_isGoerHere {d : Nat} {h : AH} {Φ : OUT → AH → Prop} {T : Int → Int} {n i at0 : Int} {r : Int → Int} (hX : RX h T n i) (hE : EQR (hI h mREAD) r) (hr : RDO r) (h2 : r 2 ≠ 5)
    (K0 : ∀ e, (bN (numS T n (lep T n i) 0 (r 1 * r 1 - 1)) (fun j1 v1 => bN (numS T n j1 0 3) (fun j2 v2 => bN (numS T n j2 0 60) (fun j3 v3 => .inr (j3, v1, v2, v3)))) : Int ⊕ (Int × Int × Int × Int)) = .inl e → ∀ p, hP p M = MP → hI p M 9 = e → TA SA [8, 9, 10] h p → Φ (.inl (some (vi 0))) p)
    (K : ∀ j v1 v2 v3, (bN (numS T n (lep T n i) 0 (r 1 * r 1 - 1)) (fun j1 v1 => bN (numS T n j1 0 3) (fun j2 v2 => bN (numS T n j2 0 60) (fun j3 v3 => .inr (j3, v1, v2, v3)))) : Int ⊕ (Int × Int × Int × Int)) = .inr (j, v1, v2, v3) → ∀ p, RX p T n j → EQR (hI p mREAD) (goeF r v1 v2 v3) → TA SA [8, 9, 10] h p → Φ (.inl (some (vi 1))) p) : CT (d + 4) 0 0 J_X4_isGoerHere [vo M, vi at0] h Φ := by
  refine e_X4_isGoerHere ?_; intro k step keep
  have hM := hX.1
  have e2 := hE 2 (by omega) (by omega)
  have e1 := hE 1 (by omega) (by omega)
  have rb := hr.2.2.2.1
  have sq : 0 ≤ r 1 * r 1 ∧ r 1 * r 1 ≤ 36 := by
    rcases hr.1 with z | z
    · rw [(hr.2.1 z).1]; omega
    · have := sq_lb (hr.2.2.1 z).1 (hr.2.2.1 z).2; omega
  have RR : ∀ j v1 v2 v3, (bN (numS T n (lep T n i) 0 (r 1 * r 1 - 1)) (fun j1 v1 => bN (numS T n j1 0 3) (fun j2 v2 => bN (numS T n j2 0 60) (fun j3 v3 => .inr (j3, v1, v2, v3)))) : Int ⊕ (Int × Int × Int × Int)) = .inr (j, v1, v2, v3) → True := fun _ _ _ _ _ => trivial
  repeat (first | refine wtA (by decide) ?_ | refine wtM ?_ | refine wtL ?_ | refine step ?_ | refine Exists.intro _ (And.intro (congrFun hM _) ?_) | refine Exists.intro _ (And.intro rfl ?_) | refine And.intro rfl ?_ | refine And.intro trivial ?_ | (refine And.intro (by intro hz; exfalso; omega) ?_; intro hz9) | refine And.intro (by omega) ?_ | refine And.intro (by simp only [lnM_TAPE, lnM_SIGN, lnM_LENG, lnM_CLAU, lnM_CLSS, lnM_READ, lnM_OPEN, lnM_STCK, lnM_WORD, lnM_SAID, lnM_WASS, lnM_KEPT, lnM_FAR, lnM_WASI, lnM_OUTO, lnM_HASB, lnM_WHER, lnM_ISFI, lnM_CELT, lnM_IMGS, lnM_IMGF, lnM_IMGX, lnM_ISMA]; omega) ?_ | (refine And.intro ?_ (by intro hz; exfalso; omega); intro hz9))
  refine Or.inl (t_passWordR hX (fun p1 H1 T1 => ?_))
  have hM := H1.1
  have s1 : hI p1 mREAD = hI h mREAD := T1.i (by decide) (by decide)
  have s12 : hI p1 mREAD 2 = r 2 := by rw [s1]; exact e2
  have s11 : hI p1 mREAD 1 = r 1 := by rw [s1]; exact e1
  generalize hN1 : numS T n (lep T n i) 0 (r 1 * r 1 - 1) = N1 at K0 K
  repeat (first | refine wtA (by decide) ?_ | refine wtM ?_ | refine wtL ?_ | refine step ?_ | refine Exists.intro _ (And.intro (congrFun hM _) ?_) | refine Exists.intro _ (And.intro rfl ?_) | refine And.intro rfl ?_ | refine And.intro trivial ?_ | (refine And.intro (by intro hz; exfalso; omega) ?_; intro hz9) | refine And.intro (by omega) ?_ | refine And.intro (by simp only [lnM_TAPE, lnM_SIGN, lnM_LENG, lnM_CLAU, lnM_CLSS, lnM_READ, lnM_OPEN, lnM_STCK, lnM_WORD, lnM_SAID, lnM_WASS, lnM_KEPT, lnM_FAR, lnM_WASI, lnM_OUTO, lnM_HASB, lnM_WHER, lnM_ISFI, lnM_CELT, lnM_IMGS, lnM_IMGF, lnM_IMGX, lnM_ISMA]; omega) ?_ | (refine And.intro ?_ (by intro hz; exfalso; omega); intro hz9))
  refine Or.inl (t_lastCell hM ?_)
  rw [s11, s12]
  repeat (first | refine wtA (by decide) ?_ | refine wtM ?_ | refine wtL ?_ | refine step ?_ | refine Exists.intro _ (And.intro (congrFun hM _) ?_) | refine Exists.intro _ (And.intro rfl ?_) | refine And.intro rfl ?_ | refine And.intro trivial ?_ | (refine And.intro (by intro hz; exfalso; omega) ?_; intro hz9) | refine And.intro (by omega) ?_ | refine And.intro (by simp only [lnM_TAPE, lnM_SIGN, lnM_LENG, lnM_CLAU, lnM_CLSS, lnM_READ, lnM_OPEN, lnM_STCK, lnM_WORD, lnM_SAID, lnM_WASS, lnM_KEPT, lnM_FAR, lnM_WASI, lnM_OUTO, lnM_HASB, lnM_WHER, lnM_ISFI, lnM_CELT, lnM_IMGS, lnM_IMGF, lnM_IMGX, lnM_ISMA]; omega) ?_ | (refine And.intro ?_ (by intro hz; exfalso; omega); intro hz9))
  refine Or.inl (t_cellHere H1 (by omega) (by omega) (by omega) (by omega) (fun e he p2 hM e9 T2 => ?_) (fun j1 v1 hv p2 H2 u2 T2 => ?_))
  · rw [hN1.symm.trans he] at K0
    repeat (first | refine wtA (by decide) ?_ | refine wtM ?_ | refine wtL ?_ | refine step ?_ | refine Exists.intro _ (And.intro (congrFun hM _) ?_) | refine Exists.intro _ (And.intro rfl ?_) | refine And.intro rfl ?_ | refine And.intro trivial ?_ | (refine And.intro (by intro hz; exfalso; omega) ?_; intro hz9) | refine And.intro (by omega) ?_ | refine And.intro (by simp only [lnM_TAPE, lnM_SIGN, lnM_LENG, lnM_CLAU, lnM_CLSS, lnM_READ, lnM_OPEN, lnM_STCK, lnM_WORD, lnM_SAID, lnM_WASS, lnM_KEPT, lnM_FAR, lnM_WASI, lnM_OUTO, lnM_HASB, lnM_WHER, lnM_ISFI, lnM_CELT, lnM_IMGS, lnM_IMGF, lnM_IMGX, lnM_ISMA]; omega) ?_ | (refine And.intro ?_ (by intro hz; exfalso; omega); intro hz9))
    exact K0 e rfl p2 hM e9 ((T1.up (by decide) (by decide)).tr (T2.up (by decide) (by decide)))
  · rw [hN1.symm.trans hv] at K0 K
    have hM := H2.1
    have TT2 := (T1.up (A' := SA) (B' := [8, 9, 10]) (by decide) (by decide)).tr (T2.up (by decide) (by decide))
    repeat (first | refine wtA (by decide) ?_ | refine wtM ?_ | refine wtL ?_ | refine step ?_ | refine Exists.intro _ (And.intro (congrFun hM _) ?_) | refine Exists.intro _ (And.intro rfl ?_) | refine And.intro rfl ?_ | refine And.intro trivial ?_ | (refine And.intro (by intro hz; exfalso; omega) ?_; intro hz9) | refine And.intro (by omega) ?_ | refine And.intro (by simp only [lnM_TAPE, lnM_SIGN, lnM_LENG, lnM_CLAU, lnM_CLSS, lnM_READ, lnM_OPEN, lnM_STCK, lnM_WORD, lnM_SAID, lnM_WASS, lnM_KEPT, lnM_FAR, lnM_WASI, lnM_OUTO, lnM_HASB, lnM_WHER, lnM_ISFI, lnM_CELT, lnM_IMGS, lnM_IMGF, lnM_IMGX, lnM_ISMA]; omega) ?_ | (refine And.intro ?_ (by intro hz; exfalso; omega); intro hz9))
    generalize hN2 : numS T n j1 0 3 = N2
    have K0 : ∀ e, (bN (numS T n j1 0 3) (fun j2 v2 => bN (numS T n j2 0 60) (fun j3 v3 => .inr (j3, v1, v2, v3))) : Int ⊕ (Int × Int × Int × Int)) = .inl e → ∀ p, hP p M = MP → hI p M 9 = e → TA SA [8, 9, 10] h p → Φ (.inl (some (vi 0))) p := K0
    have K : ∀ j v1' v2 v3, (bN (numS T n j1 0 3) (fun j2 v2 => bN (numS T n j2 0 60) (fun j3 v3 => .inr (j3, v1, v2, v3))) : Int ⊕ (Int × Int × Int × Int)) = .inr (j, v1', v2, v3) → ∀ p, RX p T n j → EQR (hI p mREAD) (goeF r v1' v2 v3) → TA SA [8, 9, 10] h p → Φ (.inl (some (vi 1))) p := K
    refine Or.inl (t_cellHere H2 (by omega) (by omega) (by omega) (by omega) (fun e he p3 hM e9 T3 => ?_) (fun j2 v2 hv2 p3 H3 u3 T3 => ?_))
    · rw [he] at K0
      repeat (first | refine wtA (by decide) ?_ | refine wtM ?_ | refine wtL ?_ | refine step ?_ | refine Exists.intro _ (And.intro (congrFun hM _) ?_) | refine Exists.intro _ (And.intro rfl ?_) | refine And.intro rfl ?_ | refine And.intro trivial ?_ | (refine And.intro (by intro hz; exfalso; omega) ?_; intro hz9) | refine And.intro (by omega) ?_ | refine And.intro (by simp only [lnM_TAPE, lnM_SIGN, lnM_LENG, lnM_CLAU, lnM_CLSS, lnM_READ, lnM_OPEN, lnM_STCK, lnM_WORD, lnM_SAID, lnM_WASS, lnM_KEPT, lnM_FAR, lnM_WASI, lnM_OUTO, lnM_HASB, lnM_WHER, lnM_ISFI, lnM_CELT, lnM_IMGS, lnM_IMGF, lnM_IMGX, lnM_ISMA]; omega) ?_ | (refine And.intro ?_ (by intro hz; exfalso; omega); intro hz9))
      exact K0 e rfl p3 hM e9 (TT2.tr (T3.up (by decide) (by decide)))
    · rw [hv2] at K0 K
      have hM := H3.1
      have TT3 := TT2.tr (T3.up (by decide) (by decide))
      have K0 : ∀ e, (bN (numS T n j2 0 60) (fun j3 v3 => .inr (j3, v1, v2, v3)) : Int ⊕ (Int × Int × Int × Int)) = .inl e → ∀ p, hP p M = MP → hI p M 9 = e → TA SA [8, 9, 10] h p → Φ (.inl (some (vi 0))) p := K0
      have K : ∀ j v1' v2' v3, (bN (numS T n j2 0 60) (fun j3 v3 => .inr (j3, v1, v2, v3)) : Int ⊕ (Int × Int × Int × Int)) = .inr (j, v1', v2', v3) → ∀ p, RX p T n j → EQR (hI p mREAD) (goeF r v1' v2' v3) → TA SA [8, 9, 10] h p → Φ (.inl (some (vi 1))) p := K
      repeat (first | refine wtA (by decide) ?_ | refine wtM ?_ | refine wtL ?_ | refine step ?_ | refine Exists.intro _ (And.intro (congrFun hM _) ?_) | refine Exists.intro _ (And.intro rfl ?_) | refine And.intro rfl ?_ | refine And.intro trivial ?_ | (refine And.intro (by intro hz; exfalso; omega) ?_; intro hz9) | refine And.intro (by omega) ?_ | refine And.intro (by simp only [lnM_TAPE, lnM_SIGN, lnM_LENG, lnM_CLAU, lnM_CLSS, lnM_READ, lnM_OPEN, lnM_STCK, lnM_WORD, lnM_SAID, lnM_WASS, lnM_KEPT, lnM_FAR, lnM_WASI, lnM_OUTO, lnM_HASB, lnM_WHER, lnM_ISFI, lnM_CELT, lnM_IMGS, lnM_IMGF, lnM_IMGX, lnM_ISMA]; omega) ?_ | (refine And.intro ?_ (by intro hz; exfalso; omega); intro hz9))
      refine Or.inl (t_cellHere H3 (by omega) (by omega) (by omega) (by omega) (fun e he p4 hM e9 T4 => ?_) (fun j3 v3 hv3 p4 H4 u4 T4 => ?_))
      · rw [he] at K0
        repeat (first | refine wtA (by decide) ?_ | refine wtM ?_ | refine wtL ?_ | refine step ?_ | refine Exists.intro _ (And.intro (congrFun hM _) ?_) | refine Exists.intro _ (And.intro rfl ?_) | refine And.intro rfl ?_ | refine And.intro trivial ?_ | (refine And.intro (by intro hz; exfalso; omega) ?_; intro hz9) | refine And.intro (by omega) ?_ | refine And.intro (by simp only [lnM_TAPE, lnM_SIGN, lnM_LENG, lnM_CLAU, lnM_CLSS, lnM_READ, lnM_OPEN, lnM_STCK, lnM_WORD, lnM_SAID, lnM_WASS, lnM_KEPT, lnM_FAR, lnM_WASI, lnM_OUTO, lnM_HASB, lnM_WHER, lnM_ISFI, lnM_CELT, lnM_IMGS, lnM_IMGF, lnM_IMGX, lnM_ISMA]; omega) ?_ | (refine And.intro ?_ (by intro hz; exfalso; omega); intro hz9))
        exact K0 e rfl p4 hM e9 (TT3.tr (T4.up (by decide) (by decide)))
      · rw [hv3] at K
        have hM := H4.1
        have TT4 := TT3.tr (T4.up (by decide) (by decide))
        have K : ∀ p, RX p T n j3 → EQR (hI p mREAD) (goeF r v1 v2 v3) → TA SA [8, 9, 10] h p → Φ (.inl (some (vi 1))) p := K j3 v1 v2 v3 rfl
        have q2 : hI p4 mREAD 2 = r 2 := by
          rw [u4, u3, u2, s1]
          show (if (2 : Int) = 90 + 3 * r 2 + 2 then _ else if (2 : Int) = 90 + 3 * r 2 + 1 then _ else if (2 : Int) = 90 + 3 * r 2 then _ else hI h mREAD 2) = _
          rw [if_neg (by omega), if_neg (by omega), if_neg (by omega)]
          exact e2
        repeat (first | refine wtA (by decide) ?_ | refine wtM ?_ | refine wtL ?_ | refine step ?_ | refine Exists.intro _ (And.intro (congrFun hM _) ?_) | refine Exists.intro _ (And.intro rfl ?_) | refine And.intro rfl ?_ | refine And.intro trivial ?_ | (refine And.intro (by intro hz; exfalso; omega) ?_; intro hz9) | refine And.intro (by omega) ?_ | refine And.intro (by simp only [lnM_TAPE, lnM_SIGN, lnM_LENG, lnM_CLAU, lnM_CLSS, lnM_READ, lnM_OPEN, lnM_STCK, lnM_WORD, lnM_SAID, lnM_WASS, lnM_KEPT, lnM_FAR, lnM_WASI, lnM_OUTO, lnM_HASB, lnM_WHER, lnM_ISFI, lnM_CELT, lnM_IMGS, lnM_IMGF, lnM_IMGX, lnM_ISMA]; omega) ?_ | (refine And.intro ?_ (by intro hz; exfalso; omega); intro hz9))
        intro p5 e5 T5; have hM := T5.m hM
        rw [q2] at e5
        repeat (first | refine wtA (by decide) ?_ | refine wtM ?_ | refine wtL ?_ | refine step ?_ | refine Exists.intro _ (And.intro (congrFun hM _) ?_) | refine Exists.intro _ (And.intro rfl ?_) | refine And.intro rfl ?_ | refine And.intro trivial ?_ | (refine And.intro (by intro hz; exfalso; omega) ?_; intro hz9) | refine And.intro (by omega) ?_ | refine And.intro (by simp only [lnM_TAPE, lnM_SIGN, lnM_LENG, lnM_CLAU, lnM_CLSS, lnM_READ, lnM_OPEN, lnM_STCK, lnM_WORD, lnM_SAID, lnM_WASS, lnM_KEPT, lnM_FAR, lnM_WASI, lnM_OUTO, lnM_HASB, lnM_WHER, lnM_ISFI, lnM_CELT, lnM_IMGS, lnM_IMGF, lnM_IMGX, lnM_ISMA]; omega) ?_ | (refine And.intro ?_ (by intro hz; exfalso; omega); intro hz9))
        refine K p5 (H4.to T5 (by decide) (by decide) (by decide) (by rw [T5.f (by decide)]; exact H4.2.2.2.1) H4.2.2.2.2.1.1 H4.2.2.2.2.1.2) ?_ (TT4.tr (T5.up (by decide) (by decide)))
        rw [e5, u4, u3, u2, s1]
        exact hE.up.up.up.up
