-- NEEDS: 97
/-! THE TWIN'S READER: facts, what closes, tests -/
theorem t_fact {d : Nat} {h : AH} {Φ : OUT → AH → Prop} {T : Int → Int} {n i m t l0 l : Int} {S : List Int} {F : List FN} {r : PRS} (H : PS h T n i m t l0 l S.length F) (HS : TSS h S) (hb : F.length = nb S) (hE : ENDS T n (0, i, m, S, F) r)
    (K0 : ∀ m2 e, r = (m2, .inl e) → ∀ p, hI p M 9 = e → FR OA OB t l h p → Φ (.inl (some (vi 0))) p)
    (K : ∀ S2 j m2 f p l2, l ≤ l2 → i < j → PS p T n j m2 t l0 l2 S2.length (f :: F) → TSS p S2 → (f :: F).length = nb S2 + 1 → ENDS T n (1, j, m2, S2, f :: F) r → FR OA OB t l h p → Φ (.inl (some (vi 1))) p) : CT (d + 8) 0 0 J_X4_fact [vo M] h Φ := by
  refine e_X4_fact ?_; intro k step keep
  have loop : ∀ (q : Nat) (i2 : Int) (S : List Int) (p : AH), i ≤ i2 → n - i2 < q → PS p T n i2 m t l0 l S.length F → TSS p S → F.length = nb S → ENDS T n (0, i2, m, S, F) r → FR OA OB t l h p → k 0 0 2 [(0, vo M), (1, vi 1)] [] p := by
    intro q
    induction q with
    | zero => intro i2 S p hi hq P; have := P.1.2.2.2.2.1; omega
    | succ q ih =>
      intro i2 S p hi hq P HS hb hE f
      obtain ⟨hX, ⟨b1, b2, b3⟩, ⟨d1, d2, d3⟩, ⟨e1, e2, e3, e4, e5⟩, fl, -, -⟩ := id P
      obtain ⟨hM, -, -, -, ⟨i0, i1⟩, n1, hB, -⟩ := id hX
      have sk := skp_ok (T := T) i1
      have id2 := skp_idem (T := T) i1
      have e0 : stp T n (0, i2, m, S, F) = (if wdB T n (skp T n i2) wNOT = true then (if nd S = 10 then .inr (m, .inl (1 + 8 * skp T n i2 + 2)) else .inl (0, lep T n (skp T n i2), m, 11 :: S, F))
        else if byF T n (skp T n i2) = 91 then (if nd S = 10 then .inr (m, .inl (1 + 8 * skp T n i2 + 2)) else .inl (0, skp T n i2 + 1, m, 91 :: S, F))
        else (match cmpS T n i2 m with
          | (m2, .inl e) => .inr (m2, .inl e)
          | (m2, .inr (j, t)) => .inl (1, j, m2, S, t :: F))) := rfl
      have bb := byF_b (i := skp T n i2) hB (by omega) n1
      refine step ?_
      repeat (first | refine wtA (by decide) ?_ | refine wtM ?_ | refine wtL ?_ | refine step ?_ | refine Exists.intro _ (And.intro (congrFun hM _) ?_) | refine Exists.intro _ (And.intro rfl ?_) | refine And.intro rfl ?_ | refine And.intro trivial ?_ | (refine And.intro (by intro hz; exfalso; omega) ?_; intro hz9) | refine And.intro (by omega) ?_ | refine And.intro (by simp only [lnM_TAPE, lnM_SIGN, lnM_LENG, lnM_CLAU, lnM_CLSS, lnM_READ, lnM_OPEN, lnM_STCK, lnM_WORD, lnM_SAID, lnM_WASS, lnM_KEPT, lnM_FAR, lnM_WASI, lnM_OUTO, lnM_HASB, lnM_WHER, lnM_ISFI, lnM_CELT, lnM_IMGS, lnM_IMGF, lnM_IMGX, lnM_ISMA]; omega) ?_ | (refine And.intro ?_ (by intro hz; exfalso; omega); intro hz9))
      refine Or.inl (t_seeR hX (fun p1 H1 T1 => ?_))
      have hM := H1.1
      repeat (first | refine wtA (by decide) ?_ | refine wtM ?_ | refine wtL ?_ | refine step ?_ | refine Exists.intro _ (And.intro (congrFun hM _) ?_) | refine Exists.intro _ (And.intro rfl ?_) | refine And.intro rfl ?_ | refine And.intro trivial ?_ | (refine And.intro (by intro hz; exfalso; omega) ?_; intro hz9) | refine And.intro (by omega) ?_ | refine And.intro (by simp only [lnM_TAPE, lnM_SIGN, lnM_LENG, lnM_CLAU, lnM_CLSS, lnM_READ, lnM_OPEN, lnM_STCK, lnM_WORD, lnM_SAID, lnM_WASS, lnM_KEPT, lnM_FAR, lnM_WASI, lnM_OUTO, lnM_HASB, lnM_WHER, lnM_ISFI, lnM_CELT, lnM_IMGS, lnM_IMGF, lnM_IMGX, lnM_ISMA]; omega) ?_ | (refine And.intro ?_ (by intro hz; exfalso; omega); intro hz9))
      refine Or.inl (t_isWordR (W := wNOT) H1 (by decide) (fun p2 r2 hr2 H2 T2 => ?_))
      rw [id2] at hr2 H2
      have hM := H2.1
      have T12 := T1.tr T2
      have f2 : FR OA OB t l h p2 := f.tr (FR.of T12 (by decide) (by decide) (by decide) : FR OA OB t l p p2) (Int.le_refl _)
      have P2 : PS p2 T n (skp T n i2) m t l0 l S.length F := P.mv T12 (by decide) (by decide) (by decide) H2 (by rw [T12.f (by decide)]; exact b1) (Int.le_refl _) b3 e4 (by omega)
      have HS2 : TSS p2 S := HS.go T12 (by decide) (by decide) (by decide)
      obtain ⟨s1, ⟨s2, s3, s4⟩, s5, s6⟩ := id HS2
      repeat (first | refine wtA (by decide) ?_ | refine wtM ?_ | refine wtL ?_ | refine step ?_ | refine Exists.intro _ (And.intro (congrFun hM _) ?_) | refine Exists.intro _ (And.intro rfl ?_) | refine And.intro rfl ?_ | refine And.intro trivial ?_ | (refine And.intro (by intro hz; exfalso; omega) ?_; intro hz9) | refine And.intro (by omega) ?_ | refine And.intro (by simp only [lnM_TAPE, lnM_SIGN, lnM_LENG, lnM_CLAU, lnM_CLSS, lnM_READ, lnM_OPEN, lnM_STCK, lnM_WORD, lnM_SAID, lnM_WASS, lnM_KEPT, lnM_FAR, lnM_WASI, lnM_OUTO, lnM_HASB, lnM_WHER, lnM_ISFI, lnM_CELT, lnM_IMGS, lnM_IMGF, lnM_IMGX, lnM_ISMA]; omega) ?_ | (refine And.intro ?_ (by intro hz; exfalso; omega); intro hz9))
      refine And.intro (fun hc => ?_) (fun hc => ?_)
      · have hnw : ¬ wdB T n (skp T n i2) wNOT = true := fun z => by
          rcases hr2 with y | y
          · omega
          · exact y.2 (wdB_iff.mp z)
        rw [if_neg hnw] at e0
        repeat (first | refine wtA (by decide) ?_ | refine wtM ?_ | refine wtL ?_ | refine step ?_ | refine Exists.intro _ (And.intro (congrFun hM _) ?_) | refine Exists.intro _ (And.intro rfl ?_) | refine And.intro rfl ?_ | refine And.intro trivial ?_ | (refine And.intro (by intro hz; exfalso; omega) ?_; intro hz9) | refine And.intro (by omega) ?_ | refine And.intro (by simp only [lnM_TAPE, lnM_SIGN, lnM_LENG, lnM_CLAU, lnM_CLSS, lnM_READ, lnM_OPEN, lnM_STCK, lnM_WORD, lnM_SAID, lnM_WASS, lnM_KEPT, lnM_FAR, lnM_WASI, lnM_OUTO, lnM_HASB, lnM_WHER, lnM_ISFI, lnM_CELT, lnM_IMGS, lnM_IMGF, lnM_IMGX, lnM_ISMA]; omega) ?_ | (refine And.intro ?_ (by intro hz; exfalso; omega); intro hz9))
        refine And.intro (fun hd => ?_) (fun hd => ?_)
        · rw [if_neg hd] at e0
          have fin : k 0 0 75 [(0, vo M), (1, vi 0)] [] p2 := by
            repeat (first | refine wtA (by decide) ?_ | refine wtM ?_ | refine wtL ?_ | refine step ?_ | refine Exists.intro _ (And.intro (congrFun hM _) ?_) | refine Exists.intro _ (And.intro rfl ?_) | refine And.intro rfl ?_ | refine And.intro trivial ?_ | (refine And.intro (by intro hz; exfalso; omega) ?_; intro hz9) | refine And.intro (by omega) ?_ | refine And.intro (by simp only [lnM_TAPE, lnM_SIGN, lnM_LENG, lnM_CLAU, lnM_CLSS, lnM_READ, lnM_OPEN, lnM_STCK, lnM_WORD, lnM_SAID, lnM_WASS, lnM_KEPT, lnM_FAR, lnM_WASI, lnM_OUTO, lnM_HASB, lnM_WHER, lnM_ISFI, lnM_CELT, lnM_IMGS, lnM_IMGF, lnM_IMGX, lnM_ISMA]; omega) ?_ | (refine And.intro ?_ (by intro hz; exfalso; omega); intro hz9))
            refine Or.inl (t_compare P2 (fun m3 e hv p3 e9 f3 => ?_) (fun m3 j3 g hv p3 l3 hl3 P3 f3 => ?_))
            · rw [show cmpS T n (skp T n i2) m = cmpS T n i2 m from cmpS_skp i1] at hv
              rw [hv] at e0
              repeat (first | refine wtA (by decide) ?_ | refine wtM ?_ | refine wtL ?_ | refine step ?_ | refine Exists.intro _ (And.intro (congrFun hM _) ?_) | refine Exists.intro _ (And.intro rfl ?_) | refine And.intro rfl ?_ | refine And.intro trivial ?_ | (refine And.intro (by intro hz; exfalso; omega) ?_; intro hz9) | refine And.intro (by omega) ?_ | refine And.intro (by simp only [lnM_TAPE, lnM_SIGN, lnM_LENG, lnM_CLAU, lnM_CLSS, lnM_READ, lnM_OPEN, lnM_STCK, lnM_WORD, lnM_SAID, lnM_WASS, lnM_KEPT, lnM_FAR, lnM_WASI, lnM_OUTO, lnM_HASB, lnM_WHER, lnM_ISFI, lnM_CELT, lnM_IMGS, lnM_IMGF, lnM_IMGX, lnM_ISMA]; omega) ?_ | (refine And.intro ?_ (by intro hz; exfalso; omega); intro hz9))
              exact K0 m3 e ((ends_fin e0).mp hE).symm p3 e9 (f2.tr (f3.up (by decide) (by decide)) (Int.le_refl _))
            · rw [show cmpS T n (skp T n i2) m = cmpS T n i2 m from cmpS_skp i1] at hv
              rw [hv] at e0
              have ck := cmpS_ok (T := T) (n := n) i0 i1 b3
              rw [hv] at ck
              have ck2 : i2 < j3 ∧ j3 ≤ n := ck.2.2.1
              repeat (first | refine wtA (by decide) ?_ | refine wtM ?_ | refine wtL ?_ | refine step ?_ | refine Exists.intro _ (And.intro (congrFun hM _) ?_) | refine Exists.intro _ (And.intro rfl ?_) | refine And.intro rfl ?_ | refine And.intro trivial ?_ | (refine And.intro (by intro hz; exfalso; omega) ?_; intro hz9) | refine And.intro (by omega) ?_ | refine And.intro (by simp only [lnM_TAPE, lnM_SIGN, lnM_LENG, lnM_CLAU, lnM_CLSS, lnM_READ, lnM_OPEN, lnM_STCK, lnM_WORD, lnM_SAID, lnM_WASS, lnM_KEPT, lnM_FAR, lnM_WASI, lnM_OUTO, lnM_HASB, lnM_WHER, lnM_ISFI, lnM_CELT, lnM_IMGS, lnM_IMGF, lnM_IMGX, lnM_ISMA]; omega) ?_ | (refine And.intro ?_ (by intro hz; exfalso; omega); intro hz9))
              exact K S j3 m3 g p3 l3 hl3 (by omega) P3 (HS2.go f3.1 (by decide) (by decide) (by decide)) (by simp; omega) ((ends_stp e0).mp hE) (f2.tr (f3.up (by decide) (by decide)) (Int.le_refl _))
          repeat (first | (exact keep [0, 1] fin) | refine wtA (by decide) ?_ | refine wtM ?_ | refine wtL ?_ | refine step ?_ | refine Exists.intro _ (And.intro (congrFun hM _) ?_) | refine Exists.intro _ (And.intro rfl ?_) | refine And.intro rfl ?_ | refine And.intro trivial ?_ | (refine And.intro (by intro hz; exfalso; omega) ?_; intro hz9) | refine And.intro (by omega) ?_ | refine And.intro (by simp only [lnM_TAPE, lnM_SIGN, lnM_LENG, lnM_CLAU, lnM_CLSS, lnM_READ, lnM_OPEN, lnM_STCK, lnM_WORD, lnM_SAID, lnM_WASS, lnM_KEPT, lnM_FAR, lnM_WASI, lnM_OUTO, lnM_HASB, lnM_WHER, lnM_ISFI, lnM_CELT, lnM_IMGS, lnM_IMGF, lnM_IMGX, lnM_ISMA]; omega) ?_ | (refine And.intro ?_ (by intro hz; exfalso; omega); intro hz9))
        · have hd : byF T n (skp T n i2) = 91 := hd
          have hjn := byF_lt hd (by decide)
          rw [if_pos hd] at e0
          repeat (first | refine wtA (by decide) ?_ | refine wtM ?_ | refine wtL ?_ | refine step ?_ | refine Exists.intro _ (And.intro (congrFun hM _) ?_) | refine Exists.intro _ (And.intro rfl ?_) | refine And.intro rfl ?_ | refine And.intro trivial ?_ | (refine And.intro (by intro hz; exfalso; omega) ?_; intro hz9) | refine And.intro (by omega) ?_ | refine And.intro (by simp only [lnM_TAPE, lnM_SIGN, lnM_LENG, lnM_CLAU, lnM_CLSS, lnM_READ, lnM_OPEN, lnM_STCK, lnM_WORD, lnM_SAID, lnM_WASS, lnM_KEPT, lnM_FAR, lnM_WASI, lnM_OUTO, lnM_HASB, lnM_WHER, lnM_ISFI, lnM_CELT, lnM_IMGS, lnM_IMGF, lnM_IMGX, lnM_ISMA]; omega) ?_ | (refine And.intro ?_ (by intro hz; exfalso; omega); intro hz9))
          refine Or.inl (t_opens hM s2 ⟨s3, s4⟩ H2.2.2.2.1 s1 ⟨by omega, by omega⟩ H2.2.2.2.2.2.2.2 (fun h10 p3 e9 T3 => ?_) (fun h10 p3 hM o13 o16 oo T3 => ?_))
          · rw [if_pos h10] at e0
            repeat (first | refine wtA (by decide) ?_ | refine wtM ?_ | refine wtL ?_ | refine step ?_ | refine Exists.intro _ (And.intro (congrFun hM _) ?_) | refine Exists.intro _ (And.intro rfl ?_) | refine And.intro rfl ?_ | refine And.intro trivial ?_ | (refine And.intro (by intro hz; exfalso; omega) ?_; intro hz9) | refine And.intro (by omega) ?_ | refine And.intro (by simp only [lnM_TAPE, lnM_SIGN, lnM_LENG, lnM_CLAU, lnM_CLSS, lnM_READ, lnM_OPEN, lnM_STCK, lnM_WORD, lnM_SAID, lnM_WASS, lnM_KEPT, lnM_FAR, lnM_WASI, lnM_OUTO, lnM_HASB, lnM_WHER, lnM_ISFI, lnM_CELT, lnM_IMGS, lnM_IMGF, lnM_IMGX, lnM_ISMA]; omega) ?_ | (refine And.intro ?_ (by intro hz; exfalso; omega); intro hz9))
            exact K0 _ _ ((ends_fin e0).mp hE).symm p3 e9 (f2.tr (FR.of T3 (by decide) (by decide) (by decide) : FR OA OB t l p2 p3) (Int.le_refl _))
          · rw [if_neg (by omega)] at e0
            have u8 : hI p3 M 8 = skp T n i2 := by rw [T3.f (by decide)]; exact H2.2.2.2.1
            repeat (first | refine wtA (by decide) ?_ | refine wtM ?_ | refine wtL ?_ | refine step ?_ | refine Exists.intro _ (And.intro (congrFun hM _) ?_) | refine Exists.intro _ (And.intro rfl ?_) | refine And.intro rfl ?_ | refine And.intro trivial ?_ | (refine And.intro (by intro hz; exfalso; omega) ?_; intro hz9) | refine And.intro (by omega) ?_ | refine And.intro (by simp only [lnM_TAPE, lnM_SIGN, lnM_LENG, lnM_CLAU, lnM_CLSS, lnM_READ, lnM_OPEN, lnM_STCK, lnM_WORD, lnM_SAID, lnM_WASS, lnM_KEPT, lnM_FAR, lnM_WASI, lnM_OUTO, lnM_HASB, lnM_WHER, lnM_ISFI, lnM_CELT, lnM_IMGS, lnM_IMGF, lnM_IMGX, lnM_ISMA]; omega) ?_ | (refine And.intro ?_ (by intro hz; exfalso; omega); intro hz9))
            intro p4 e8 T4
            rw [u8] at e8
            have T34 := (T3.up (A' := [mOPEN]) (B' := [8, 13, 16]) (by decide) (by decide)).tr (T4.up (by decide) (by decide))
            have H4 : RX p4 T n (skp T n i2 + 1) := H2.to T34 (by decide) (by decide) (by decide) e8 (by omega) (by omega)
            have P4 : PS p4 T n (skp T n i2 + 1) m t l0 l (91 :: S).length F := P2.mv T34 (by decide) (by decide) (by decide) H4 (by rw [T34.f (by decide)]; exact P2.2.1.1) (Int.le_refl _) b3 (by omega) (by simp; omega)
            have HS4 : TSS p4 (91 :: S) := ⟨by rw [T4.f (by decide), o16]; simp, ⟨by rw [T4.f (by decide), o13, nd_i (Or.inr rfl)], by rw [nd_i (Or.inr rfl)]; omega, by rw [nd_i (Or.inr rfl)]; omega⟩, by
              rw [T4.i (by decide) (by decide), oo]
              exact ⟨if_pos rfl, OPN_up S _ (by omega) s5⟩, fun z hz => by
              rcases List.mem_cons.mp hz with y | y
              · omega
              · exact s6 z y⟩
            repeat (first | (exact keep [0, 1] (ih (skp T n i2 + 1) (91 :: S) p4 (by omega) (by omega) P4 HS4 (by rw [nb_o (by decide)]; exact hb) ((ends_stp e0).mp hE) (f2.tr (FR.of T34 (by decide) (by decide) (by decide) : FR OA OB t l p2 p4) (Int.le_refl _)))) | refine wtA (by decide) ?_ | refine wtM ?_ | refine wtL ?_ | refine step ?_ | refine Exists.intro _ (And.intro (congrFun hM _) ?_) | refine Exists.intro _ (And.intro rfl ?_) | refine And.intro rfl ?_ | refine And.intro trivial ?_ | (refine And.intro (by intro hz; exfalso; omega) ?_; intro hz9) | refine And.intro (by omega) ?_ | refine And.intro (by simp only [lnM_TAPE, lnM_SIGN, lnM_LENG, lnM_CLAU, lnM_CLSS, lnM_READ, lnM_OPEN, lnM_STCK, lnM_WORD, lnM_SAID, lnM_WASS, lnM_KEPT, lnM_FAR, lnM_WASI, lnM_OUTO, lnM_HASB, lnM_WHER, lnM_ISFI, lnM_CELT, lnM_IMGS, lnM_IMGF, lnM_IMGX, lnM_ISMA]; omega) ?_ | (refine And.intro ?_ (by intro hz; exfalso; omega); intro hz9))
      · have hw : wdP T n (skp T n i2) wNOT := by
          rcases hr2 with y | y
          · exact y.2
          · omega
        rw [if_pos (wdB_iff.mpr hw)] at e0
        have hjn := wd_by sk.2 (wdB_iff.mpr hw)
        have lp := lep_ok (T := T) sk.2
        have lp2 := hw.1
        repeat (first | refine wtA (by decide) ?_ | refine wtM ?_ | refine wtL ?_ | refine step ?_ | refine Exists.intro _ (And.intro (congrFun hM _) ?_) | refine Exists.intro _ (And.intro rfl ?_) | refine And.intro rfl ?_ | refine And.intro trivial ?_ | (refine And.intro (by intro hz; exfalso; omega) ?_; intro hz9) | refine And.intro (by omega) ?_ | refine And.intro (by simp only [lnM_TAPE, lnM_SIGN, lnM_LENG, lnM_CLAU, lnM_CLSS, lnM_READ, lnM_OPEN, lnM_STCK, lnM_WORD, lnM_SAID, lnM_WASS, lnM_KEPT, lnM_FAR, lnM_WASI, lnM_OUTO, lnM_HASB, lnM_WHER, lnM_ISFI, lnM_CELT, lnM_IMGS, lnM_IMGF, lnM_IMGX, lnM_ISMA]; omega) ?_ | (refine And.intro ?_ (by intro hz; exfalso; omega); intro hz9))
        refine Or.inl (t_opens hM s2 ⟨s3, s4⟩ H2.2.2.2.1 s1 ⟨by omega, by omega⟩ H2.2.2.2.2.2.2.2 (fun h10 p3 e9 T3 => ?_) (fun h10 p3 hM o13 o16 oo T3 => ?_))
        · rw [if_pos h10] at e0
          repeat (first | refine wtA (by decide) ?_ | refine wtM ?_ | refine wtL ?_ | refine step ?_ | refine Exists.intro _ (And.intro (congrFun hM _) ?_) | refine Exists.intro _ (And.intro rfl ?_) | refine And.intro rfl ?_ | refine And.intro trivial ?_ | (refine And.intro (by intro hz; exfalso; omega) ?_; intro hz9) | refine And.intro (by omega) ?_ | refine And.intro (by simp only [lnM_TAPE, lnM_SIGN, lnM_LENG, lnM_CLAU, lnM_CLSS, lnM_READ, lnM_OPEN, lnM_STCK, lnM_WORD, lnM_SAID, lnM_WASS, lnM_KEPT, lnM_FAR, lnM_WASI, lnM_OUTO, lnM_HASB, lnM_WHER, lnM_ISFI, lnM_CELT, lnM_IMGS, lnM_IMGF, lnM_IMGX, lnM_ISMA]; omega) ?_ | (refine And.intro ?_ (by intro hz; exfalso; omega); intro hz9))
          exact K0 _ _ ((ends_fin e0).mp hE).symm p3 e9 (f2.tr (FR.of T3 (by decide) (by decide) (by decide) : FR OA OB t l p2 p3) (Int.le_refl _))
        · rw [if_neg (by omega)] at e0
          have H3 : RX p3 T n (skp T n i2) := H2.to T3 (by decide) (by decide) (by decide) (by rw [T3.f (by decide)]; exact H2.2.2.2.1) (by omega) sk.2
          repeat (first | refine wtA (by decide) ?_ | refine wtM ?_ | refine wtL ?_ | refine step ?_ | refine Exists.intro _ (And.intro (congrFun hM _) ?_) | refine Exists.intro _ (And.intro rfl ?_) | refine And.intro rfl ?_ | refine And.intro trivial ?_ | (refine And.intro (by intro hz; exfalso; omega) ?_; intro hz9) | refine And.intro (by omega) ?_ | refine And.intro (by simp only [lnM_TAPE, lnM_SIGN, lnM_LENG, lnM_CLAU, lnM_CLSS, lnM_READ, lnM_OPEN, lnM_STCK, lnM_WORD, lnM_SAID, lnM_WASS, lnM_KEPT, lnM_FAR, lnM_WASI, lnM_OUTO, lnM_HASB, lnM_WHER, lnM_ISFI, lnM_CELT, lnM_IMGS, lnM_IMGF, lnM_IMGX, lnM_ISMA]; omega) ?_ | (refine And.intro ?_ (by intro hz; exfalso; omega); intro hz9))
          refine Or.inl (t_passWordR H3 (fun p4 H4 T4 => ?_))
          have T34 := (T3.up (A' := [mOPEN]) (B' := [8, 13, 16]) (by decide) (by decide)).tr (T4.up (by decide) (by decide))
          have P4 : PS p4 T n (lep T n (skp T n i2)) m t l0 l (11 :: S).length F := P2.mv T34 (by decide) (by decide) (by decide) H4 (by rw [T34.f (by decide)]; exact P2.2.1.1) (Int.le_refl _) b3 (by omega) (by simp; omega)
          have HS4 : TSS p4 (11 :: S) := ⟨by rw [T4.f (by decide), o16]; simp, ⟨by rw [T4.f (by decide), o13, nd_i (Or.inl rfl)], by rw [nd_i (Or.inl rfl)]; omega, by rw [nd_i (Or.inl rfl)]; omega⟩, by
            rw [T4.i (by decide) (by decide), oo]
            exact ⟨if_pos rfl, OPN_up S _ (by omega) s5⟩, fun z hz => by
            rcases List.mem_cons.mp hz with y | y
            · omega
            · exact s6 z y⟩
          repeat (first | (exact keep [0, 1] (ih (lep T n (skp T n i2)) (11 :: S) p4 (by omega) (by omega) P4 HS4 (by rw [nb_o (by decide)]; exact hb) ((ends_stp e0).mp hE) (f2.tr (FR.of T34 (by decide) (by decide) (by decide) : FR OA OB t l p2 p4) (Int.le_refl _)))) | refine wtA (by decide) ?_ | refine wtM ?_ | refine wtL ?_ | refine step ?_ | refine Exists.intro _ (And.intro (congrFun hM _) ?_) | refine Exists.intro _ (And.intro rfl ?_) | refine And.intro rfl ?_ | refine And.intro trivial ?_ | (refine And.intro (by intro hz; exfalso; omega) ?_; intro hz9) | refine And.intro (by omega) ?_ | refine And.intro (by simp only [lnM_TAPE, lnM_SIGN, lnM_LENG, lnM_CLAU, lnM_CLSS, lnM_READ, lnM_OPEN, lnM_STCK, lnM_WORD, lnM_SAID, lnM_WASS, lnM_KEPT, lnM_FAR, lnM_WASI, lnM_OUTO, lnM_HASB, lnM_WHER, lnM_ISFI, lnM_CELT, lnM_IMGS, lnM_IMGF, lnM_IMGX, lnM_ISMA]; omega) ?_ | (refine And.intro ?_ (by intro hz; exfalso; omega); intro hz9))
  have hn := H.1.2.2.2.2.1
  repeat (first | (exact loop (n - i + 1).toNat i S h (Int.le_refl _) (by omega) H HS hb hE FR.rf) | refine wtA (by decide) ?_ | refine wtM ?_ | refine wtL ?_ | refine step ?_ | refine Exists.intro _ (And.intro (congrFun hM _) ?_) | refine Exists.intro _ (And.intro rfl ?_) | refine And.intro rfl ?_ | refine And.intro trivial ?_ | (refine And.intro (by intro hz; exfalso; omega) ?_; intro hz9) | refine And.intro (by omega) ?_ | refine And.intro (by simp only [lnM_TAPE, lnM_SIGN, lnM_LENG, lnM_CLAU, lnM_CLSS, lnM_READ, lnM_OPEN, lnM_STCK, lnM_WORD, lnM_SAID, lnM_WASS, lnM_KEPT, lnM_FAR, lnM_WASI, lnM_OUTO, lnM_HASB, lnM_WHER, lnM_ISFI, lnM_CELT, lnM_IMGS, lnM_IMGF, lnM_IMGX, lnM_ISMA]; omega) ?_ | (refine And.intro ?_ (by intro hz; exfalso; omega); intro hz9))
theorem t_closes {d : Nat} {h : AH} {Φ : OUT → AH → Prop} {T : Int → Int} {n i m t l0 l : Int} {S : List Int} {F : List FN} {r : PRS} (H : PS h T n i m t l0 l S.length F) (HS : TSS h S) (hb : F.length = nb S + 1) (hE : ENDS T n (1, i, m, S, F) r)
    (K : ∀ S2 F2 j p l2, l ≤ l2 → i ≤ j → PS p T n j m t l0 l2 S2.length F2 → TSS p S2 → F2.length = nb S2 + 1 → ENDS T n (1, j, m, S2, F2) r → (∀ s S', S2 = s :: S' → strF s < 3) → ¬ (byF T n (skp T n j) = 93 ∧ 91 ∈ S2) → FR OA OB t l h p → Φ (.inl none) p) : CT (d + 3) 0 0 J_X4_closes [vo M] h Φ := by
  refine e_X4_closes ?_; intro k step keep
  have hM := H.1.1
  have ldl : ∀ (lst : Int) (S : List Int) (F : List FN), (ldn lst S F).1.length ≤ S.length := by
    intro lst S
    induction S with
    | nil => intro F; exact Nat.le_refl _
    | cons s S ih =>
      intro F
      unfold ldn
      split
      · exact Nat.le_trans (ih _) (by simp)
      · exact Nat.le_refl _
  have loop : ∀ (q : Nat) (i2 : Int) (S : List Int) (F : List FN) (p : AH) (l2 : Int), S.length < q → l ≤ l2 → i ≤ i2 → PS p T n i2 m t l0 l2 S.length F → TSS p S → F.length = nb S + 1 → ENDS T n (1, i2, m, S, F) r → (∀ s S', S = s :: S' → strF s < 3) → FR OA OB t l h p → k 0 0 5 [(0, vo M)] [] p := by
    intro q
    induction q with
    | zero => intro i2 S F p l2 hq; omega
    | succ q ih =>
      intro i2 S F p l2 hq hl hi P HS hb hE h3 f
      obtain ⟨hX, ⟨b1, b2, b3⟩, ⟨d1, d2, d3⟩, ⟨e1, e2, e3, e4, e5⟩, fl, -, -⟩ := id P
      obtain ⟨hM, -, -, -, ⟨i0, i1⟩, n1, hB, -⟩ := id hX
      have sk := skp_ok (T := T) i1
      have id2 := skp_idem (T := T) i1
      have bb := byF_b (i := skp T n i2) hB (by omega) n1
      refine step ?_
      repeat (first | refine wtA (by decide) ?_ | refine wtM ?_ | refine wtL ?_ | refine step ?_ | refine Exists.intro _ (And.intro (congrFun hM _) ?_) | refine Exists.intro _ (And.intro rfl ?_) | refine And.intro rfl ?_ | refine And.intro trivial ?_ | (refine And.intro (by intro hz; exfalso; omega) ?_; intro hz9) | refine And.intro (by omega) ?_ | refine And.intro (by simp only [lnM_TAPE, lnM_SIGN, lnM_LENG, lnM_CLAU, lnM_CLSS, lnM_READ, lnM_OPEN, lnM_STCK, lnM_WORD, lnM_SAID, lnM_WASS, lnM_KEPT, lnM_FAR, lnM_WASI, lnM_OUTO, lnM_HASB, lnM_WHER, lnM_ISFI, lnM_CELT, lnM_IMGS, lnM_IMGF, lnM_IMGX, lnM_ISMA]; omega) ?_ | (refine And.intro ?_ (by intro hz; exfalso; omega); intro hz9))
      refine Or.inl (t_seeR hX (fun p1 H1 T1 => ?_))
      have hM := H1.1
      have f1 : FR OA OB t l h p1 := f.tr (FR.of T1 (by decide) (by decide) (by decide) : FR OA OB t l p p1) (Int.le_refl _)
      have P1 : PS p1 T n (skp T n i2) m t l0 l2 S.length F := P.mv T1 (by decide) (by decide) (by decide) H1 (by rw [T1.f (by decide)]; exact b1) (Int.le_refl _) b3 e4 (by omega)
      have HS1 : TSS p1 S := HS.go T1 (by decide) (by decide) (by decide)
      obtain ⟨s1, ⟨s2, s3, s4⟩, s5, s6⟩ := id HS1
      have hE1 : ENDS T n (1, skp T n i2, m, S, F) r := (ends_skp' i1).mp hE
      repeat (first | refine wtA (by decide) ?_ | refine wtM ?_ | refine wtL ?_ | refine step ?_ | refine Exists.intro _ (And.intro (congrFun hM _) ?_) | refine Exists.intro _ (And.intro rfl ?_) | refine And.intro rfl ?_ | refine And.intro trivial ?_ | (refine And.intro (by intro hz; exfalso; omega) ?_; intro hz9) | refine And.intro (by omega) ?_ | refine And.intro (by simp only [lnM_TAPE, lnM_SIGN, lnM_LENG, lnM_CLAU, lnM_CLSS, lnM_READ, lnM_OPEN, lnM_STCK, lnM_WORD, lnM_SAID, lnM_WASS, lnM_KEPT, lnM_FAR, lnM_WASI, lnM_OUTO, lnM_HASB, lnM_WHER, lnM_ISFI, lnM_CELT, lnM_IMGS, lnM_IMGF, lnM_IMGX, lnM_ISMA]; omega) ?_ | (refine And.intro ?_ (by intro hz; exfalso; omega); intro hz9))
      refine And.intro (fun hc => ?_) (fun hc => ?_)
      · repeat (first | refine wtA (by decide) ?_ | refine wtM ?_ | refine wtL ?_ | refine step ?_ | refine Exists.intro _ (And.intro (congrFun hM _) ?_) | refine Exists.intro _ (And.intro rfl ?_) | refine And.intro rfl ?_ | refine And.intro trivial ?_ | (refine And.intro (by intro hz; exfalso; omega) ?_; intro hz9) | refine And.intro (by omega) ?_ | refine And.intro (by simp only [lnM_TAPE, lnM_SIGN, lnM_LENG, lnM_CLAU, lnM_CLSS, lnM_READ, lnM_OPEN, lnM_STCK, lnM_WORD, lnM_SAID, lnM_WASS, lnM_KEPT, lnM_FAR, lnM_WASI, lnM_OUTO, lnM_HASB, lnM_WHER, lnM_ISFI, lnM_CELT, lnM_IMGS, lnM_IMGF, lnM_IMGX, lnM_ISMA]; omega) ?_ | (refine And.intro ?_ (by intro hz; exfalso; omega); intro hz9))
        exact K S F (skp T n i2) p1 l2 hl (by omega) P1 HS1 hb hE1 h3 (fun z => hc (by rw [id2] at z; exact z.1)) f1
      · repeat (first | refine wtA (by decide) ?_ | refine wtM ?_ | refine wtL ?_ | refine step ?_ | refine Exists.intro _ (And.intro (congrFun hM _) ?_) | refine Exists.intro _ (And.intro rfl ?_) | refine And.intro rfl ?_ | refine And.intro trivial ?_ | (refine And.intro (by intro hz; exfalso; omega) ?_; intro hz9) | refine And.intro (by omega) ?_ | refine And.intro (by simp only [lnM_TAPE, lnM_SIGN, lnM_LENG, lnM_CLAU, lnM_CLSS, lnM_READ, lnM_OPEN, lnM_STCK, lnM_WORD, lnM_SAID, lnM_WASS, lnM_KEPT, lnM_FAR, lnM_WASI, lnM_OUTO, lnM_HASB, lnM_WHER, lnM_ISFI, lnM_CELT, lnM_IMGS, lnM_IMGF, lnM_IMGX, lnM_ISMA]; omega) ?_ | (refine And.intro ?_ (by intro hz; exfalso; omega); intro hz9))
        refine Or.inl (t_isInside hM s1 ⟨by omega, by omega⟩ (OPN_r S s5 s6) (fun r1 hr1 => ?_))
        repeat (first | refine wtA (by decide) ?_ | refine wtM ?_ | refine wtL ?_ | refine step ?_ | refine Exists.intro _ (And.intro (congrFun hM _) ?_) | refine Exists.intro _ (And.intro rfl ?_) | refine And.intro rfl ?_ | refine And.intro trivial ?_ | (refine And.intro (by intro hz; exfalso; omega) ?_; intro hz9) | refine And.intro (by omega) ?_ | refine And.intro (by simp only [lnM_TAPE, lnM_SIGN, lnM_LENG, lnM_CLAU, lnM_CLSS, lnM_READ, lnM_OPEN, lnM_STCK, lnM_WORD, lnM_SAID, lnM_WASS, lnM_KEPT, lnM_FAR, lnM_WASI, lnM_OUTO, lnM_HASB, lnM_WHER, lnM_ISFI, lnM_CELT, lnM_IMGS, lnM_IMGF, lnM_IMGX, lnM_ISMA]; omega) ?_ | (refine And.intro ?_ (by intro hz; exfalso; omega); intro hz9))
        refine And.intro (fun hd => ?_) (fun hd => ?_)
        · have hno : 91 ∉ S := fun z => by
            obtain ⟨x, x0, x1, xv⟩ := (OPN_mem S s5).mpr z
            rcases hr1 with y | y
            · omega
            · exact y.2 x x0 x1 xv
          repeat (first | refine wtA (by decide) ?_ | refine wtM ?_ | refine wtL ?_ | refine step ?_ | refine Exists.intro _ (And.intro (congrFun hM _) ?_) | refine Exists.intro _ (And.intro rfl ?_) | refine And.intro rfl ?_ | refine And.intro trivial ?_ | (refine And.intro (by intro hz; exfalso; omega) ?_; intro hz9) | refine And.intro (by omega) ?_ | refine And.intro (by simp only [lnM_TAPE, lnM_SIGN, lnM_LENG, lnM_CLAU, lnM_CLSS, lnM_READ, lnM_OPEN, lnM_STCK, lnM_WORD, lnM_SAID, lnM_WASS, lnM_KEPT, lnM_FAR, lnM_WASI, lnM_OUTO, lnM_HASB, lnM_WHER, lnM_ISFI, lnM_CELT, lnM_IMGS, lnM_IMGF, lnM_IMGX, lnM_ISMA]; omega) ?_ | (refine And.intro ?_ (by intro hz; exfalso; omega); intro hz9))
          exact K S F (skp T n i2) p1 l2 hl (by omega) P1 HS1 hb hE1 h3 (fun z => hno z.2) f1
        · have hin : 91 ∈ S := (OPN_mem S s5).mp (by
            rcases hr1 with y | y
            · exact y.2
            · omega)
          have hjn := byF_lt hc (by decide)
          obtain ⟨g1, ⟨g2, g3⟩, g4⟩ := lay1c (by rw [id2]; exact hc) S F s6 hin hE1
          have dl := ldl 1 S F
          repeat (first | refine wtA (by decide) ?_ | refine wtM ?_ | refine wtL ?_ | refine step ?_ | refine Exists.intro _ (And.intro (congrFun hM _) ?_) | refine Exists.intro _ (And.intro rfl ?_) | refine And.intro rfl ?_ | refine And.intro trivial ?_ | (refine And.intro (by intro hz; exfalso; omega) ?_; intro hz9) | refine And.intro (by omega) ?_ | refine And.intro (by simp only [lnM_TAPE, lnM_SIGN, lnM_LENG, lnM_CLAU, lnM_CLSS, lnM_READ, lnM_OPEN, lnM_STCK, lnM_WORD, lnM_SAID, lnM_WASS, lnM_KEPT, lnM_FAR, lnM_WASI, lnM_OUTO, lnM_HASB, lnM_WHER, lnM_ISFI, lnM_CELT, lnM_IMGS, lnM_IMGF, lnM_IMGX, lnM_ISMA]; omega) ?_ | (refine And.intro ?_ (by intro hz; exfalso; omega); intro hz9))
          refine Or.inl (t_layDown (e := 0) (by rw [Int.add_zero]; exact P1) (Int.le_refl _) HS1 hb (by omega) (by omega) (fun p2 l3 hl3 P2 HS2 hb2 f2 => ?_))
          rw [Int.add_zero] at P2
          generalize hQ : ldn 1 S F = Q at *
          obtain ⟨S2, F2⟩ := Q
          have g4 := g4
          match S2, g1, g2, g3, g4, P2, HS2, hb2, dl with
          | s :: S3, g1, g2, g3, g4, P2, HS2, hb2, dl =>
            have hs91 : s = 91 := by
              have h1 := g4 s S3 rfl
              have := strF_v
              rcases g2 s List.mem_cons_self with z | z | z | z <;> rw [z] at h1 ⊢ <;> omega
            subst hs91
            have hM := P2.1.1
            obtain ⟨v1, ⟨v2, v3, v4⟩, v5, v6⟩ := id HS2
            rw [nd_i (Or.inr rfl)] at v2 v3 v4
            rw [nb_o (by decide)] at hb2
            have v1 : hI p2 M 16 = S3.length + 1 := by rw [v1]; simp
            have pb := P2.2.2.2.1.2.2.2.2
            have pb : l3 + (S3.length + 1) ≤ skp T n i2 := by simpa using pb
            repeat (first | refine wtA (by decide) ?_ | refine wtM ?_ | refine wtL ?_ | refine step ?_ | refine Exists.intro _ (And.intro (congrFun hM _) ?_) | refine Exists.intro _ (And.intro rfl ?_) | refine And.intro rfl ?_ | refine And.intro trivial ?_ | (refine And.intro (by intro hz; exfalso; omega) ?_; intro hz9) | refine And.intro (by omega) ?_ | refine And.intro (by simp only [lnM_TAPE, lnM_SIGN, lnM_LENG, lnM_CLAU, lnM_CLSS, lnM_READ, lnM_OPEN, lnM_STCK, lnM_WORD, lnM_SAID, lnM_WASS, lnM_KEPT, lnM_FAR, lnM_WASI, lnM_OUTO, lnM_HASB, lnM_WHER, lnM_ISFI, lnM_CELT, lnM_IMGS, lnM_IMGF, lnM_IMGX, lnM_ISMA]; omega) ?_ | (refine And.intro ?_ (by intro hz; exfalso; omega); intro hz9))
            intro p3 o16 T3
            rw [v1] at o16
            have hM := T3.m hM
            have w13 : hI p3 M 13 = nd S3 + 1 := by rw [T3.f (by decide)]; exact v2
            repeat (first | refine wtA (by decide) ?_ | refine wtM ?_ | refine wtL ?_ | refine step ?_ | refine Exists.intro _ (And.intro (congrFun hM _) ?_) | refine Exists.intro _ (And.intro rfl ?_) | refine And.intro rfl ?_ | refine And.intro trivial ?_ | (refine And.intro (by intro hz; exfalso; omega) ?_; intro hz9) | refine And.intro (by omega) ?_ | refine And.intro (by simp only [lnM_TAPE, lnM_SIGN, lnM_LENG, lnM_CLAU, lnM_CLSS, lnM_READ, lnM_OPEN, lnM_STCK, lnM_WORD, lnM_SAID, lnM_WASS, lnM_KEPT, lnM_FAR, lnM_WASI, lnM_OUTO, lnM_HASB, lnM_WHER, lnM_ISFI, lnM_CELT, lnM_IMGS, lnM_IMGF, lnM_IMGX, lnM_ISMA]; omega) ?_ | (refine And.intro ?_ (by intro hz; exfalso; omega); intro hz9))
            intro p4 o13 T4
            rw [w13] at o13
            have hM := T4.m hM
            have w8 : hI p4 M 8 = skp T n i2 := by rw [T4.f (by decide), T3.f (by decide)]; exact P2.1.2.2.2.1
            repeat (first | refine wtA (by decide) ?_ | refine wtM ?_ | refine wtL ?_ | refine step ?_ | refine Exists.intro _ (And.intro (congrFun hM _) ?_) | refine Exists.intro _ (And.intro rfl ?_) | refine And.intro rfl ?_ | refine And.intro trivial ?_ | (refine And.intro (by intro hz; exfalso; omega) ?_; intro hz9) | refine And.intro (by omega) ?_ | refine And.intro (by simp only [lnM_TAPE, lnM_SIGN, lnM_LENG, lnM_CLAU, lnM_CLSS, lnM_READ, lnM_OPEN, lnM_STCK, lnM_WORD, lnM_SAID, lnM_WASS, lnM_KEPT, lnM_FAR, lnM_WASI, lnM_OUTO, lnM_HASB, lnM_WHER, lnM_ISFI, lnM_CELT, lnM_IMGS, lnM_IMGF, lnM_IMGX, lnM_ISMA]; omega) ?_ | (refine And.intro ?_ (by intro hz; exfalso; omega); intro hz9))
            intro p5 o8 T5
            rw [w8] at o8
            have T35 := ((T3.up (A' := []) (B' := [8, 13, 16]) (by decide) (by decide)).tr (T4.up (by decide) (by decide))).tr (T5.up (by decide) (by decide))
            have H5 : RX p5 T n (skp T n i2 + 1) := P2.1.to T35 (by decide) (by decide) (by decide) o8 (by omega) (by omega)
            have hM := H5.1
            have P5 : PS p5 T n (skp T n i2 + 1) m t l0 l3 S3.length F2 := P2.mv T35 (by decide) (by decide) (by decide) H5 (by rw [T35.f (by decide)]; exact P2.2.1.1) (Int.le_refl _) b3 (by omega) (by omega)
            have HS5 : TSS p5 S3 := ⟨by rw [T5.f (by decide), T4.f (by decide), o16]; omega, ⟨by rw [T5.f (by decide), o13]; omega, nd_nn S3, by omega⟩, by rw [T35.i (by decide) (by decide)]; exact v5.2, v6.tl⟩
            have hE5 : ENDS T n (1, skp T n i2 + 1, m, S3, F2) r := by
              refine (ends_stp ?_).mp g1
              rw [stp1, if_neg (by simp), id2, if_pos ⟨hc, List.mem_cons_self⟩, if_pos (by simp)]
              rfl
            have f5 : FR OA OB t l h p5 := (f1.tr f2 hl).tr (FR.of T35 (by decide) (by decide) (by decide) : FR OA OB t l p2 p5) (Int.le_refl _)
            repeat (first | refine wtA (by decide) ?_ | refine wtM ?_ | refine wtL ?_ | refine step ?_ | refine Exists.intro _ (And.intro (congrFun hM _) ?_) | refine Exists.intro _ (And.intro rfl ?_) | refine And.intro rfl ?_ | refine And.intro trivial ?_ | (refine And.intro (by intro hz; exfalso; omega) ?_; intro hz9) | refine And.intro (by omega) ?_ | refine And.intro (by simp only [lnM_TAPE, lnM_SIGN, lnM_LENG, lnM_CLAU, lnM_CLSS, lnM_READ, lnM_OPEN, lnM_STCK, lnM_WORD, lnM_SAID, lnM_WASS, lnM_KEPT, lnM_FAR, lnM_WASI, lnM_OUTO, lnM_HASB, lnM_WHER, lnM_ISFI, lnM_CELT, lnM_IMGS, lnM_IMGF, lnM_IMGX, lnM_ISMA]; omega) ?_ | (refine And.intro ?_ (by intro hz; exfalso; omega); intro hz9))
            refine Or.inl (t_layDown (e := 0) (by rw [Int.add_zero]; exact P5) (Int.le_refl _) HS5 hb2 (by omega) (by omega) (fun p6 l6 hl6 P6 HS6 hb6 f6 => ?_))
            rw [Int.add_zero] at P6
            obtain ⟨y1, y2, y3⟩ := lay3 S3 F2 v6.tl hE5
            have dl6 := ldl 3 S3 F2
            have dl : S3.length + 1 ≤ S.length := dl
            have dl7 : (ldn 3 S3 F2).1.length < q := by omega
            refine step ?_
            exact ih (skp T n i2 + 1) _ _ p6 l6 dl7 (by omega) (by omega) P6 HS6 hb6 y1 y3 (f5.tr f6 (by omega))
          | [], g1, g2, g3, g4, P2, HS2, hb2, dl => exact absurd g3 List.not_mem_nil
  repeat (first | refine wtA (by decide) ?_ | refine wtM ?_ | refine wtL ?_ | refine step ?_ | refine Exists.intro _ (And.intro (congrFun hM _) ?_) | refine Exists.intro _ (And.intro rfl ?_) | refine And.intro rfl ?_ | refine And.intro trivial ?_ | (refine And.intro (by intro hz; exfalso; omega) ?_; intro hz9) | refine And.intro (by omega) ?_ | refine And.intro (by simp only [lnM_TAPE, lnM_SIGN, lnM_LENG, lnM_CLAU, lnM_CLSS, lnM_READ, lnM_OPEN, lnM_STCK, lnM_WORD, lnM_SAID, lnM_WASS, lnM_KEPT, lnM_FAR, lnM_WASI, lnM_OUTO, lnM_HASB, lnM_WHER, lnM_ISFI, lnM_CELT, lnM_IMGS, lnM_IMGF, lnM_IMGX, lnM_ISMA]; omega) ?_ | (refine And.intro ?_ (by intro hz; exfalso; omega); intro hz9))
  refine Or.inl (t_layDown (e := 0) (by rw [Int.add_zero]; exact H) (Int.le_refl _) HS hb (by omega) (by omega) (fun p6 l6 hl6 P6 HS6 hb6 f6 => ?_))
  rw [Int.add_zero] at P6
  obtain ⟨y1, y2, y3⟩ := lay3 S F HS.2.2.2 hE
  repeat (first | (exact loop ((ldn 3 S F).1.length + 1) i _ _ p6 l6 (by omega) hl6 (Int.le_refl _) P6 HS6 hb6 y1 y3 f6) | refine wtA (by decide) ?_ | refine wtM ?_ | refine wtL ?_ | refine step ?_ | refine Exists.intro _ (And.intro (congrFun hM _) ?_) | refine Exists.intro _ (And.intro rfl ?_) | refine And.intro rfl ?_ | refine And.intro trivial ?_ | (refine And.intro (by intro hz; exfalso; omega) ?_; intro hz9) | refine And.intro (by omega) ?_ | refine And.intro (by simp only [lnM_TAPE, lnM_SIGN, lnM_LENG, lnM_CLAU, lnM_CLSS, lnM_READ, lnM_OPEN, lnM_STCK, lnM_WORD, lnM_SAID, lnM_WASS, lnM_KEPT, lnM_FAR, lnM_WASI, lnM_OUTO, lnM_HASB, lnM_WHER, lnM_ISFI, lnM_CELT, lnM_IMGS, lnM_IMGF, lnM_IMGX, lnM_ISMA]; omega) ?_ | (refine And.intro ?_ (by intro hz; exfalso; omega); intro hz9))
