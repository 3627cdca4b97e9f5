-- NEEDS: 97
/-! THE TWIN'S READER: a whole test -/
theorem hd_of {S : List Int} {c : Int} (ho : OKS S) (h : ∀ s S', S = s :: S' → strF s < c) : (c ≤ 3 → S.head? ≠ some 11) ∧ (c ≤ 2 → S.head? ≠ some 12) ∧ (c ≤ 1 → S.head? ≠ some 13) := by
  have v := strF_v
  cases S with
  | nil => exact ⟨fun _ => by simp, fun _ => by simp, fun _ => by simp⟩
  | cons s S =>
    have h1 := h s S rfl
    refine ⟨fun _ z => ?_, fun _ z => ?_, fun _ z => ?_⟩
    · have z : s = 11 := by simpa using z
      rw [z] at h1; omega
    · have z : s = 12 := by simpa using z
      rw [z] at h1; omega
    · have z : s = 13 := by simpa using z
      rw [z] at h1; omega
theorem t_tested {d : Nat} {h : AH} {Φ : OUT → AH → Prop} {T : Int → Int} {n i m t l0 c : Int} {r : PRS} (H : PS h T n i m t l0 l0 c []) (hE : ENDS T n (0, i, m, [], []) r)
    (K0 : ∀ m2 e, r = (m2, .inl e) → ∀ p, hI p M 9 = e → FR OA OB t l0 h p → Φ (.inl (some (vi 0))) p)
    (K : ∀ m2 j f, r = (m2, .inr (j, f)) → ∀ p l2, l0 ≤ l2 → PS p T n j m2 t l0 l2 0 [f] → FR OA OB t l0 h p → Φ (.inl (some (vi 1))) p) : CT (d + 9) 0 0 J_X4_tested [vo M] h Φ := by
  refine e_X4_tested ?_; intro k step keep
  obtain ⟨hX, ⟨b1, b2, b3⟩, ⟨d1, d2, d3⟩, ⟨e1, e2, e3, e4, e5⟩, fl, -, -⟩ := id H
  obtain ⟨hM, -, -, -, ⟨i0, i1⟩, n1, hB, -⟩ := id hX
  have loop : ∀ (q : Nat) (i m : Int) (S : List Int) (F : List FN) (p : AH) (l2 : Int), n - i < q → l0 ≤ l2 → PS p T n i m t l0 l2 S.length F → TSS p S → F.length = nb S → ENDS T n (0, i, m, S, F) r → FR OA OB t l0 h p → k 0 0 12 [(0, vo M), (1, vi 1)] [] p := by
    intro q
    induction q with
    | zero => intro i m S F p l2 hq hl P; have := P.1.2.2.2.2.1; omega
    | succ q ih =>
      intro i m S F p l2 hq hl P HS hb hE f
      have hM := P.1.1
      refine step ?_
      repeat (first | refine wtA (by decide) ?_ | refine wtM ?_ | refine wtL ?_ | refine step ?_ | refine Exists.intro _ (And.intro (congrFun hM _) ?_) | refine Exists.intro _ (And.intro rfl ?_) | refine And.intro rfl ?_ | refine And.intro trivial ?_ | (refine And.intro (by intro hz; exfalso; omega) ?_; intro hz9) | refine And.intro (by omega) ?_ | refine And.intro (by simp only [lnM_TAPE, lnM_SIGN, lnM_LENG, lnM_CLAU, lnM_CLSS, lnM_READ, lnM_OPEN, lnM_STCK, lnM_WORD, lnM_SAID, lnM_WASS, lnM_KEPT, lnM_FAR, lnM_WASI, lnM_OUTO, lnM_HASB, lnM_WHER, lnM_ISFI, lnM_CELT, lnM_IMGS, lnM_IMGF, lnM_IMGX, lnM_ISMA]; omega) ?_ | (refine And.intro ?_ (by intro hz; exfalso; omega); intro hz9))
      refine Or.inl (t_fact P HS hb hE (fun m2 e hr p1 e9 f1 => ?_) (fun S1 i1 m1 g p1 l1 hl1 hi1 P1 HS1 hb1 hE1 f1 => ?_))
      · repeat (first | refine wtA (by decide) ?_ | refine wtM ?_ | refine wtL ?_ | refine step ?_ | refine Exists.intro _ (And.intro (congrFun hM _) ?_) | refine Exists.intro _ (And.intro rfl ?_) | refine And.intro rfl ?_ | refine And.intro trivial ?_ | (refine And.intro (by intro hz; exfalso; omega) ?_; intro hz9) | refine And.intro (by omega) ?_ | refine And.intro (by simp only [lnM_TAPE, lnM_SIGN, lnM_LENG, lnM_CLAU, lnM_CLSS, lnM_READ, lnM_OPEN, lnM_STCK, lnM_WORD, lnM_SAID, lnM_WASS, lnM_KEPT, lnM_FAR, lnM_WASI, lnM_OUTO, lnM_HASB, lnM_WHER, lnM_ISFI, lnM_CELT, lnM_IMGS, lnM_IMGF, lnM_IMGX, lnM_ISMA]; omega) ?_ | (refine And.intro ?_ (by intro hz; exfalso; omega); intro hz9))
        exact K0 m2 e hr p1 e9 (f.tr f1 hl)
      · have hM := P1.1.1
        repeat (first | refine wtA (by decide) ?_ | refine wtM ?_ | refine wtL ?_ | refine step ?_ | refine Exists.intro _ (And.intro (congrFun hM _) ?_) | refine Exists.intro _ (And.intro rfl ?_) | refine And.intro rfl ?_ | refine And.intro trivial ?_ | (refine And.intro (by intro hz; exfalso; omega) ?_; intro hz9) | refine And.intro (by omega) ?_ | refine And.intro (by simp only [lnM_TAPE, lnM_SIGN, lnM_LENG, lnM_CLAU, lnM_CLSS, lnM_READ, lnM_OPEN, lnM_STCK, lnM_WORD, lnM_SAID, lnM_WASS, lnM_KEPT, lnM_FAR, lnM_WASI, lnM_OUTO, lnM_HASB, lnM_WHER, lnM_ISFI, lnM_CELT, lnM_IMGS, lnM_IMGF, lnM_IMGX, lnM_ISMA]; omega) ?_ | (refine And.intro ?_ (by intro hz; exfalso; omega); intro hz9))
        refine Or.inl (t_closes P1 HS1 hb1 hE1 (fun S2 F2 j p2 l3 hl3 hj P2 HS2 hb2 hE2 h3 hno f2 => ?_))
        obtain ⟨hX2, ⟨c1, c2, c3⟩, -, ⟨a1, a2, a3, a4, a5⟩, fl2, -, -⟩ := id P2
        have hM := hX2.1
        have jb := hX2.2.2.2.2.1
        have sk := skp_ok (T := T) jb.2
        have id2 := skp_idem (T := T) jb.2
        have ff2 : FR OA OB t l0 h p2 := (f.tr f1 hl).tr f2 (by omega)
        obtain ⟨s1, ⟨s2, s3, s4⟩, s5, s6⟩ := id HS2
        have hE2 : ENDS T n (1, skp T n j, m1, S2, F2) r := (ends_skp' jb.2).mp hE2
        have mv : ∀ p3, RX p3 T n (skp T n j) → TA [] [8] p2 p3 → PS p3 T n (skp T n j) m1 t l0 l3 S2.length F2 ∧ TSS p3 S2 ∧ FR OA OB t l0 h p3 := fun p3 H3 T3 => ⟨P2.mv T3 (by decide) (by decide) (by decide) H3 (by rw [T3.f (by decide)]; exact c1) (Int.le_refl _) c3 a4 (by omega), HS2.go T3 (by decide) (by decide) (by decide), ff2.tr (FR.of T3 (by decide) (by decide) (by decide) : FR OA OB t l0 p2 p3) (Int.le_refl _)⟩
        have more : ∀ (s : Int) (p3 : AH), RX p3 T n (skp T n j) → TA [] [8] p2 p3 → 0 < lep T n (skp T n j) - skp T n j → skp T n j < n → ((s = 12 ∧ wdB T n (skp T n j) wAND = true) ∨ (s = 13 ∧ noW T n j wAND ∧ wdB T n (skp T n j) wOR = true)) → k 0 0 76 [(0, vo M), (1, vi 1)] [vi s] p3 := by
          intro s p3 H3 T3 lp2 hjn hs
          obtain ⟨P3, HS3, f3⟩ := mv p3 H3 T3
          have hM := H3.1
          have lp := lep_ok (T := T) sk.2
          have n93 : byF T n (skp T n j) ≠ 93 := by
            rcases hs with ⟨-, z⟩ | ⟨-, -, z⟩
            · exact wd_no hB (by omega) n1 sk.2 z (by omega)
            · exact wd_no hB (by omega) n1 sk.2 z (by omega)
          repeat (first | refine wtA (by decide) ?_ | refine wtM ?_ | refine wtL ?_ | refine step ?_ | refine Exists.intro _ (And.intro (congrFun hM _) ?_) | refine Exists.intro _ (And.intro rfl ?_) | refine And.intro rfl ?_ | refine And.intro trivial ?_ | (refine And.intro (by intro hz; exfalso; omega) ?_; intro hz9) | refine And.intro (by omega) ?_ | refine And.intro (by simp only [lnM_TAPE, lnM_SIGN, lnM_LENG, lnM_CLAU, lnM_CLSS, lnM_READ, lnM_OPEN, lnM_STCK, lnM_WORD, lnM_SAID, lnM_WASS, lnM_KEPT, lnM_FAR, lnM_WASI, lnM_OUTO, lnM_HASB, lnM_WHER, lnM_ISFI, lnM_CELT, lnM_IMGS, lnM_IMGF, lnM_IMGX, lnM_ISMA]; omega) ?_ | (refine And.intro ?_ (by intro hz; exfalso; omega); intro hz9))
          refine Or.inl (t_passWordR H3 (fun p4 H4 T4 => ?_))
          have hM := H4.1
          have P4 : PS p4 T n (lep T n (skp T n j)) m1 t l0 l3 (S2.length + 1) F2 := P3.mv T4 (by decide) (by decide) (by decide) H4 (by rw [T4.f (by decide)]; exact P3.2.1.1) (Int.le_refl _) c3 (by omega) (by omega)
          have HS4 := HS3.go T4 (by decide) (by decide) (by decide)
          have f4 : FR OA OB t l0 h p4 := f3.tr (FR.of T4 (by decide) (by decide) (by decide) : FR OA OB t l0 p3 p4) (Int.le_refl _)
          have str : strF s = 1 ∨ strF s = 2 := by
            have := strF_v
            rcases hs with ⟨z, -⟩ | ⟨z, -, -⟩ <;> rw [z] <;> omega
          repeat (first | refine wtA (by decide) ?_ | refine wtM ?_ | refine wtL ?_ | refine step ?_ | refine Exists.intro _ (And.intro (congrFun hM _) ?_) | refine Exists.intro _ (And.intro rfl ?_) | refine And.intro rfl ?_ | refine And.intro trivial ?_ | (refine And.intro (by intro hz; exfalso; omega) ?_; intro hz9) | refine And.intro (by omega) ?_ | refine And.intro (by simp only [lnM_TAPE, lnM_SIGN, lnM_LENG, lnM_CLAU, lnM_CLSS, lnM_READ, lnM_OPEN, lnM_STCK, lnM_WORD, lnM_SAID, lnM_WASS, lnM_KEPT, lnM_FAR, lnM_WASI, lnM_OUTO, lnM_HASB, lnM_WHER, lnM_ISFI, lnM_CELT, lnM_IMGS, lnM_IMGF, lnM_IMGX, lnM_ISMA]; omega) ?_ | (refine And.intro ?_ (by intro hz; exfalso; omega); intro hz9))
          refine Or.inl (t_strength (by omega) ?_)
          repeat (first | refine wtA (by decide) ?_ | refine wtM ?_ | refine wtL ?_ | refine step ?_ | refine Exists.intro _ (And.intro (congrFun hM _) ?_) | refine Exists.intro _ (And.intro rfl ?_) | refine And.intro rfl ?_ | refine And.intro trivial ?_ | (refine And.intro (by intro hz; exfalso; omega) ?_; intro hz9) | refine And.intro (by omega) ?_ | refine And.intro (by simp only [lnM_TAPE, lnM_SIGN, lnM_LENG, lnM_CLAU, lnM_CLSS, lnM_READ, lnM_OPEN, lnM_STCK, lnM_WORD, lnM_SAID, lnM_WASS, lnM_KEPT, lnM_FAR, lnM_WASI, lnM_OUTO, lnM_HASB, lnM_WHER, lnM_ISFI, lnM_CELT, lnM_IMGS, lnM_IMGF, lnM_IMGX, lnM_ISMA]; omega) ?_ | (refine And.intro ?_ (by intro hz; exfalso; omega); intro hz9))
          refine Or.inl (t_layDown (e := 1) P4 (by omega) HS4 hb2 (by omega) (by omega) (fun p5 l5 hl5 P5 HS5 hb5 f5 => ?_))
          have lay : ENDS T n (1, skp T n j, m1, (ldn (strF s) S2 F2).1, (ldn (strF s) S2 F2).2) r ∧ OKS (ldn (strF s) S2 F2).1 ∧ ∀ s' S', (ldn (strF s) S2 F2).1 = s' :: S' → strF s' < strF s := by
            rcases hs with ⟨z, w⟩ | ⟨z, w1, w2⟩
            · rw [z, show strF 12 = 2 from rfl]
              exact lay2 (by rw [id2]; exact n93) (by rw [id2]; exact w) S2 F2 s6 hE2
            · rw [z, show strF 13 = 1 from rfl]
              exact lay1o (by rw [id2]; exact n93) (by unfold noW; rw [id2]; exact w1) (by rw [id2]; exact w2) S2 F2 s6 hE2
          generalize hQ : ldn (strF s) S2 F2 = Q at *
          obtain ⟨S5, F5⟩ := Q
          obtain ⟨y1, y2, y3⟩ := lay
          have hh := hd_of (c := strF s) y2 y3
          have y1 : ENDS T n (1, skp T n j, m1, S5, F5) r := y1
          have y2 : OKS S5 := y2
          obtain ⟨v1, ⟨v2, v3, v4⟩, v5, v6⟩ := id HS5
          have v1 : hI p5 M 16 = S5.length := v1
          have hM := P5.1.1
          have f5' : FR OA OB t l0 h p5 := f4.tr f5 (by omega)
          have pb : l5 + (S5.length + 1) ≤ lep T n (skp T n j) := P5.2.2.2.1.2.2.2.2
          have hE6 : ENDS T n (0, lep T n (skp T n j), m1, s :: S5, F5) r := by
            refine (ends_stp ?_).mp y1
            rw [stp1, id2]
            have hh1 : S5.head? ≠ some 11 := hh.1 (by omega)
            rw [if_neg hh1, if_neg (fun z => n93 z.1)]
            rcases hs with ⟨z, w⟩ | ⟨z, w1, w2⟩
            · rw [if_pos w, if_neg (hh.2.1 (by rw [z]; decide)), z]
            · rw [if_neg w1, if_pos w2, if_neg (fun y => y.elim (hh.2.1 (by rw [z]; decide)) (hh.2.2 (by rw [z]; decide))), z]
          have nds : nd (s :: S5) = nd S5 := nd_o (by omega)
          repeat (first | refine wtA (by decide) ?_ | refine wtM ?_ | refine wtL ?_ | refine step ?_ | refine Exists.intro _ (And.intro (congrFun hM _) ?_) | refine Exists.intro _ (And.intro rfl ?_) | refine And.intro rfl ?_ | refine And.intro trivial ?_ | (refine And.intro (by intro hz; exfalso; omega) ?_; intro hz9) | refine And.intro (by omega) ?_ | refine And.intro (by simp only [lnM_TAPE, lnM_SIGN, lnM_LENG, lnM_CLAU, lnM_CLSS, lnM_READ, lnM_OPEN, lnM_STCK, lnM_WORD, lnM_SAID, lnM_WASS, lnM_KEPT, lnM_FAR, lnM_WASI, lnM_OUTO, lnM_HASB, lnM_WHER, lnM_ISFI, lnM_CELT, lnM_IMGS, lnM_IMGF, lnM_IMGX, lnM_ISMA]; omega) ?_ | (refine And.intro ?_ (by intro hz; exfalso; omega); intro hz9))
          intro p6 o6 T6
          rw [v1] at o6
          have hM := T6.m hM
          have w16 : hI p6 M 16 = S5.length := by rw [T6.f (by decide)]; exact v1
          repeat (first | refine wtA (by decide) ?_ | refine wtM ?_ | refine wtL ?_ | refine step ?_ | refine Exists.intro _ (And.intro (congrFun hM _) ?_) | refine Exists.intro _ (And.intro rfl ?_) | refine And.intro rfl ?_ | refine And.intro trivial ?_ | (refine And.intro (by intro hz; exfalso; omega) ?_; intro hz9) | refine And.intro (by omega) ?_ | refine And.intro (by simp only [lnM_TAPE, lnM_SIGN, lnM_LENG, lnM_CLAU, lnM_CLSS, lnM_READ, lnM_OPEN, lnM_STCK, lnM_WORD, lnM_SAID, lnM_WASS, lnM_KEPT, lnM_FAR, lnM_WASI, lnM_OUTO, lnM_HASB, lnM_WHER, lnM_ISFI, lnM_CELT, lnM_IMGS, lnM_IMGF, lnM_IMGX, lnM_ISMA]; omega) ?_ | (refine And.intro ?_ (by intro hz; exfalso; omega); intro hz9))
          intro p7 o7 T7
          rw [w16] at o7
          have T67 := (T6.up (A' := [mOPEN]) (B' := [16]) (by decide) (by decide)).tr (T7.up (by decide) (by decide))
          have H7 : RX p7 T n (lep T n (skp T n j)) := P5.1.to T67 (by decide) (by decide) (by decide) (by rw [T67.f (by decide)]; exact P5.1.2.2.2.1) (by omega) lp.2
          have P7 : PS p7 T n (lep T n (skp T n j)) m1 t l0 l5 (s :: S5).length F5 := P5.mv T67 (by decide) (by decide) (by decide) H7 (by rw [T67.f (by decide)]; exact P5.2.1.1) (Int.le_refl _) c3 (by omega) (by simp only [List.length_cons]; omega)
          have HS7 : TSS p7 (s :: S5) := ⟨by rw [o7]; simp, ⟨by rw [T67.f (by decide), nds]; exact v2, by rw [nds]; exact v3, by rw [nds]; exact v4⟩, by
            rw [T7.i (by decide) (by decide), o6]
            exact ⟨if_pos rfl, OPN_up S5 _ (by omega) v5⟩, fun z hz => by
            rcases List.mem_cons.mp hz with y | y
            · omega
            · exact y2 z y⟩
          repeat (first | (exact keep [0, 1] (ih (lep T n (skp T n j)) m1 (s :: S5) F5 p7 l5 (by omega) (by omega) P7 HS7 (by rw [nb_i (by omega)]; exact hb5) hE6 (f5'.tr (FR.of T67 (by decide) (by decide) (by decide) : FR OA OB t l0 p5 p7) (Int.le_refl _)))) | refine wtA (by decide) ?_ | refine wtM ?_ | refine wtL ?_ | refine step ?_ | refine Exists.intro _ (And.intro (congrFun hM _) ?_) | refine Exists.intro _ (And.intro rfl ?_) | refine And.intro rfl ?_ | refine And.intro trivial ?_ | (refine And.intro (by intro hz; exfalso; omega) ?_; intro hz9) | refine And.intro (by omega) ?_ | refine And.intro (by simp only [lnM_TAPE, lnM_SIGN, lnM_LENG, lnM_CLAU, lnM_CLSS, lnM_READ, lnM_OPEN, lnM_STCK, lnM_WORD, lnM_SAID, lnM_WASS, lnM_KEPT, lnM_FAR, lnM_WASI, lnM_OUTO, lnM_HASB, lnM_WHER, lnM_ISFI, lnM_CELT, lnM_IMGS, lnM_IMGF, lnM_IMGX, lnM_ISMA]; omega) ?_ | (refine And.intro ?_ (by intro hz; exfalso; omega); intro hz9))
        have wd : ∀ {r1 : Int} {W : Nat}, (r1 = 1 ∧ wdP T n (skp T n j) W) ∨ (r1 = 0 ∧ ¬ wdP T n (skp T n j) W) → (r1 ≠ 0 → wdB T n (skp T n j) W = true ∧ 0 < lep T n (skp T n j) - skp T n j ∧ skp T n j < n) ∧ (r1 = 0 → ¬ wdB T n (skp T n j) W = true) := fun hr => by
          rcases hr with y | y
          · have q := wdB_iff.mpr y.2
            exact ⟨fun _ => ⟨q, y.2.1, (wd_by sk.2 q).2.2⟩, fun z => by omega⟩
          · exact ⟨fun z => absurd y.1 z, fun _ z => y.2 (wdB_iff.mp z)⟩
        have on : ∀ p3, RX p3 T n (skp T n j) → TA [] [8] p2 p3 → (wdB T n (skp T n j) wAND = true ∨ wdB T n (skp T n j) wOR = true) → k 0 0 49 [(0, vo M), (1, vi 1)] [] p3 := by
          intro p3 H3 T3 hw
          have hM := H3.1
          repeat (first | refine wtA (by decide) ?_ | refine wtM ?_ | refine wtL ?_ | refine step ?_ | refine Exists.intro _ (And.intro (congrFun hM _) ?_) | refine Exists.intro _ (And.intro rfl ?_) | refine And.intro rfl ?_ | refine And.intro trivial ?_ | (refine And.intro (by intro hz; exfalso; omega) ?_; intro hz9) | refine And.intro (by omega) ?_ | refine And.intro (by simp only [lnM_TAPE, lnM_SIGN, lnM_LENG, lnM_CLAU, lnM_CLSS, lnM_READ, lnM_OPEN, lnM_STCK, lnM_WORD, lnM_SAID, lnM_WASS, lnM_KEPT, lnM_FAR, lnM_WASI, lnM_OUTO, lnM_HASB, lnM_WHER, lnM_ISFI, lnM_CELT, lnM_IMGS, lnM_IMGF, lnM_IMGX, lnM_ISMA]; omega) ?_ | (refine And.intro ?_ (by intro hz; exfalso; omega); intro hz9))
          refine Or.inl (t_isWordR (W := wAND) H3 (by decide) (fun p4 r4 hr4 H4 T4 => ?_))
          rw [id2] at hr4 H4
          have w4 := wd hr4
          have hM := H4.1
          repeat (first | refine wtA (by decide) ?_ | refine wtM ?_ | refine wtL ?_ | refine step ?_ | refine Exists.intro _ (And.intro (congrFun hM _) ?_) | refine Exists.intro _ (And.intro rfl ?_) | refine And.intro rfl ?_ | refine And.intro trivial ?_ | (refine And.intro (by intro hz; exfalso; omega) ?_; intro hz9) | refine And.intro (by omega) ?_ | refine And.intro (by simp only [lnM_TAPE, lnM_SIGN, lnM_LENG, lnM_CLAU, lnM_CLSS, lnM_READ, lnM_OPEN, lnM_STCK, lnM_WORD, lnM_SAID, lnM_WASS, lnM_KEPT, lnM_FAR, lnM_WASI, lnM_OUTO, lnM_HASB, lnM_WHER, lnM_ISFI, lnM_CELT, lnM_IMGS, lnM_IMGF, lnM_IMGX, lnM_ISMA]; omega) ?_ | (refine And.intro ?_ (by intro hz; exfalso; omega); intro hz9))
          refine And.intro (fun hz => ?_) (fun hz => ?_)
          · have na := w4.2 hz
            have ho : wdB T n (skp T n j) wOR = true := hw.resolve_left na
            repeat (first | (exact more 13 p4 H4 (T3.tr T4) (wdB_iff.mp ho).1 (wd_by sk.2 ho).2.2 (Or.inr ⟨rfl, na, ho⟩)) | refine wtA (by decide) ?_ | refine wtM ?_ | refine wtL ?_ | refine step ?_ | refine Exists.intro _ (And.intro (congrFun hM _) ?_) | refine Exists.intro _ (And.intro rfl ?_) | refine And.intro rfl ?_ | refine And.intro trivial ?_ | (refine And.intro (by intro hz; exfalso; omega) ?_; intro hz9) | refine And.intro (by omega) ?_ | refine And.intro (by simp only [lnM_TAPE, lnM_SIGN, lnM_LENG, lnM_CLAU, lnM_CLSS, lnM_READ, lnM_OPEN, lnM_STCK, lnM_WORD, lnM_SAID, lnM_WASS, lnM_KEPT, lnM_FAR, lnM_WASI, lnM_OUTO, lnM_HASB, lnM_WHER, lnM_ISFI, lnM_CELT, lnM_IMGS, lnM_IMGF, lnM_IMGX, lnM_ISMA]; omega) ?_ | (refine And.intro ?_ (by intro hz; exfalso; omega); intro hz9))
          · obtain ⟨q1, q2, q3⟩ := w4.1 hz
            repeat (first | (exact more 12 p4 H4 (T3.tr T4) q2 q3 (Or.inl ⟨rfl, q1⟩)) | refine wtA (by decide) ?_ | refine wtM ?_ | refine wtL ?_ | refine step ?_ | refine Exists.intro _ (And.intro (congrFun hM _) ?_) | refine Exists.intro _ (And.intro rfl ?_) | refine And.intro rfl ?_ | refine And.intro trivial ?_ | (refine And.intro (by intro hz; exfalso; omega) ?_; intro hz9) | refine And.intro (by omega) ?_ | refine And.intro (by simp only [lnM_TAPE, lnM_SIGN, lnM_LENG, lnM_CLAU, lnM_CLSS, lnM_READ, lnM_OPEN, lnM_STCK, lnM_WORD, lnM_SAID, lnM_WASS, lnM_KEPT, lnM_FAR, lnM_WASI, lnM_OUTO, lnM_HASB, lnM_WHER, lnM_ISFI, lnM_CELT, lnM_IMGS, lnM_IMGF, lnM_IMGX, lnM_ISMA]; omega) ?_ | (refine And.intro ?_ (by intro hz; exfalso; omega); intro hz9))
        have fin : ∀ p3, RX p3 T n (skp T n j) → TA [] [8] p2 p3 → noW T n j wAND → noW T n j wOR → k 0 0 112 [(0, vo M), (1, vi 0)] [] p3 := by
          intro p3 H3 T3 na no
          obtain ⟨P3, HS3, f3⟩ := mv p3 H3 T3
          obtain ⟨v1, ⟨v2, v3, v4⟩, v5, v6⟩ := id HS3
          have hM := H3.1
          repeat (first | refine wtA (by decide) ?_ | refine wtM ?_ | refine wtL ?_ | refine step ?_ | refine Exists.intro _ (And.intro (congrFun hM _) ?_) | refine Exists.intro _ (And.intro rfl ?_) | refine And.intro rfl ?_ | refine And.intro trivial ?_ | (refine And.intro (by intro hz; exfalso; omega) ?_; intro hz9) | refine And.intro (by omega) ?_ | refine And.intro (by simp only [lnM_TAPE, lnM_SIGN, lnM_LENG, lnM_CLAU, lnM_CLSS, lnM_READ, lnM_OPEN, lnM_STCK, lnM_WORD, lnM_SAID, lnM_WASS, lnM_KEPT, lnM_FAR, lnM_WASI, lnM_OUTO, lnM_HASB, lnM_WHER, lnM_ISFI, lnM_CELT, lnM_IMGS, lnM_IMGF, lnM_IMGX, lnM_ISMA]; omega) ?_ | (refine And.intro ?_ (by intro hz; exfalso; omega); intro hz9))
          refine Or.inl (t_isInside hM v1 ⟨by omega, by omega⟩ (OPN_r S2 v5 v6) (fun r1 hr1 => ?_))
          repeat (first | refine wtA (by decide) ?_ | refine wtM ?_ | refine wtL ?_ | refine step ?_ | refine Exists.intro _ (And.intro (congrFun hM _) ?_) | refine Exists.intro _ (And.intro rfl ?_) | refine And.intro rfl ?_ | refine And.intro trivial ?_ | (refine And.intro (by intro hz; exfalso; omega) ?_; intro hz9) | refine And.intro (by omega) ?_ | refine And.intro (by simp only [lnM_TAPE, lnM_SIGN, lnM_LENG, lnM_CLAU, lnM_CLSS, lnM_READ, lnM_OPEN, lnM_STCK, lnM_WORD, lnM_SAID, lnM_WASS, lnM_KEPT, lnM_FAR, lnM_WASI, lnM_OUTO, lnM_HASB, lnM_WHER, lnM_ISFI, lnM_CELT, lnM_IMGS, lnM_IMGF, lnM_IMGX, lnM_ISMA]; omega) ?_ | (refine And.intro ?_ (by intro hz; exfalso; omega); intro hz9))
          refine And.intro (fun hd => ?_) (fun hd => ?_)
          · have hno2 : 91 ∉ S2 := fun z => by
              obtain ⟨x, x0, x1, xv⟩ := (OPN_mem S2 v5).mpr z
              rcases hr1 with y | y
              · omega
              · exact y.2 x x0 x1 xv
            repeat (first | refine wtA (by decide) ?_ | refine wtM ?_ | refine wtL ?_ | refine step ?_ | refine Exists.intro _ (And.intro (congrFun hM _) ?_) | refine Exists.intro _ (And.intro rfl ?_) | refine And.intro rfl ?_ | refine And.intro trivial ?_ | (refine And.intro (by intro hz; exfalso; omega) ?_; intro hz9) | refine And.intro (by omega) ?_ | refine And.intro (by simp only [lnM_TAPE, lnM_SIGN, lnM_LENG, lnM_CLAU, lnM_CLSS, lnM_READ, lnM_OPEN, lnM_STCK, lnM_WORD, lnM_SAID, lnM_WASS, lnM_KEPT, lnM_FAR, lnM_WASI, lnM_OUTO, lnM_HASB, lnM_WHER, lnM_ISFI, lnM_CELT, lnM_IMGS, lnM_IMGF, lnM_IMGX, lnM_ISMA]; omega) ?_ | (refine And.intro ?_ (by intro hz; exfalso; omega); intro hz9))
            refine Or.inl (t_layDown (e := 0) (by rw [Int.add_zero]; exact P3) (Int.le_refl _) HS3 hb2 (by omega) (by omega) (fun p5 l5 hl5 P5 HS5 hb5 f5 => ?_))
            rw [Int.add_zero] at P5
            obtain ⟨y1, ⟨y2, y3⟩, y4⟩ := lay1e (by unfold noW; rw [id2]; exact na) (by unfold noW; rw [id2]; exact no) S2 F2 s6 hno2 hE2
            generalize hQ : ldn 1 S2 F2 = Q at *
            obtain ⟨S5, F5⟩ := Q
            have hS5 : S5 = [] := by
              match S5, y2, y3, y4 with
              | [], _, _, _ => rfl
              | s :: S6, y2, y3, y4 =>
                exfalso
                have h1 := y4 s S6 rfl
                have := strF_v
                rcases y2 s List.mem_cons_self with z | z | z | z
                · rw [z] at h1; omega
                · rw [z] at h1; omega
                · rw [z] at h1; omega
                · exact y3 (by rw [← z]; exact List.mem_cons_self)
            subst hS5
            have hb5 : F5.length = 1 := hb5
            match F5, hb5, P5, y1 with
            | [g5], _, P5, y1 =>
              have er : stp T n (1, skp T n j, m1, [], [g5]) = .inr (m1, .inr (skp T n j, g5)) := by
                rw [stp1, id2, if_neg (by simp), if_neg (fun z => by cases z.2), if_neg na, if_neg no, if_neg (fun z => by cases z), if_pos rfl]
                rfl
              repeat (first | refine wtA (by decide) ?_ | refine wtM ?_ | refine wtL ?_ | refine step ?_ | refine Exists.intro _ (And.intro (congrFun hM _) ?_) | refine Exists.intro _ (And.intro rfl ?_) | refine And.intro rfl ?_ | refine And.intro trivial ?_ | (refine And.intro (by intro hz; exfalso; omega) ?_; intro hz9) | refine And.intro (by omega) ?_ | refine And.intro (by simp only [lnM_TAPE, lnM_SIGN, lnM_LENG, lnM_CLAU, lnM_CLSS, lnM_READ, lnM_OPEN, lnM_STCK, lnM_WORD, lnM_SAID, lnM_WASS, lnM_KEPT, lnM_FAR, lnM_WASI, lnM_OUTO, lnM_HASB, lnM_WHER, lnM_ISFI, lnM_CELT, lnM_IMGS, lnM_IMGF, lnM_IMGX, lnM_ISMA]; omega) ?_ | (refine And.intro ?_ (by intro hz; exfalso; omega); intro hz9))
              exact K m1 (skp T n j) g5 ((ends_fin er).mp y1).symm p5 l5 (by omega) P5 (f3.tr f5 (by omega))
          · have hin : 91 ∈ S2 := (OPN_mem S2 v5).mp (by
              rcases hr1 with y | y
              · exact y.2
              · omega)
            have er : stp T n (1, skp T n j, m1, S2, F2) = .inr (m1, .inl (1 + 8 * skp T n j + 0)) := by
              have hh := hd_of (c := 3) s6 h3
              rw [stp1, id2, if_neg (hh.1 (by omega)), if_neg hno, if_neg na, if_neg no, if_pos hin]
            repeat (first | refine wtA (by decide) ?_ | refine wtM ?_ | refine wtL ?_ | refine step ?_ | refine Exists.intro _ (And.intro (congrFun hM _) ?_) | refine Exists.intro _ (And.intro rfl ?_) | refine And.intro rfl ?_ | refine And.intro trivial ?_ | (refine And.intro (by intro hz; exfalso; omega) ?_; intro hz9) | refine And.intro (by omega) ?_ | refine And.intro (by simp only [lnM_TAPE, lnM_SIGN, lnM_LENG, lnM_CLAU, lnM_CLSS, lnM_READ, lnM_OPEN, lnM_STCK, lnM_WORD, lnM_SAID, lnM_WASS, lnM_KEPT, lnM_FAR, lnM_WASI, lnM_OUTO, lnM_HASB, lnM_WHER, lnM_ISFI, lnM_CELT, lnM_IMGS, lnM_IMGF, lnM_IMGX, lnM_ISMA]; omega) ?_ | (refine And.intro ?_ (by intro hz; exfalso; omega); intro hz9))
            refine Or.inl (t_seeR H3 (fun p4 H4 T4 => ?_))
            rw [id2] at H4
            have hM := H4.1
            have w8 := H4.2.2.2.1
            have w9 := H4.2.2.2.2.2.2.2
            repeat (first | refine wtA (by decide) ?_ | refine wtM ?_ | refine wtL ?_ | refine step ?_ | refine Exists.intro _ (And.intro (congrFun hM _) ?_) | refine Exists.intro _ (And.intro rfl ?_) | refine And.intro rfl ?_ | refine And.intro trivial ?_ | (refine And.intro (by intro hz; exfalso; omega) ?_; intro hz9) | refine And.intro (by omega) ?_ | refine And.intro (by simp only [lnM_TAPE, lnM_SIGN, lnM_LENG, lnM_CLAU, lnM_CLSS, lnM_READ, lnM_OPEN, lnM_STCK, lnM_WORD, lnM_SAID, lnM_WASS, lnM_KEPT, lnM_FAR, lnM_WASI, lnM_OUTO, lnM_HASB, lnM_WHER, lnM_ISFI, lnM_CELT, lnM_IMGS, lnM_IMGF, lnM_IMGX, lnM_ISMA]; omega) ?_ | (refine And.intro ?_ (by intro hz; exfalso; omega); intro hz9))
            rw [w8]
            refine Or.inl (t_fails (by omega) (fun p5 e9 T5 => ?_))
            rw [if_pos w9] at e9
            repeat (first | refine wtA (by decide) ?_ | refine wtM ?_ | refine wtL ?_ | refine step ?_ | refine Exists.intro _ (And.intro (congrFun hM _) ?_) | refine Exists.intro _ (And.intro rfl ?_) | refine And.intro rfl ?_ | refine And.intro trivial ?_ | (refine And.intro (by intro hz; exfalso; omega) ?_; intro hz9) | refine And.intro (by omega) ?_ | refine And.intro (by simp only [lnM_TAPE, lnM_SIGN, lnM_LENG, lnM_CLAU, lnM_CLSS, lnM_READ, lnM_OPEN, lnM_STCK, lnM_WORD, lnM_SAID, lnM_WASS, lnM_KEPT, lnM_FAR, lnM_WASI, lnM_OUTO, lnM_HASB, lnM_WHER, lnM_ISFI, lnM_CELT, lnM_IMGS, lnM_IMGF, lnM_IMGX, lnM_ISMA]; omega) ?_ | (refine And.intro ?_ (by intro hz; exfalso; omega); intro hz9))
            exact K0 _ _ ((ends_fin er).mp hE2).symm p5 e9 (f3.tr (FR.of ((T4.up (A' := []) (B' := [8, 9]) (by decide) (by decide)).tr (T5.up (by decide) (by decide))) (by decide) (by decide) (by decide) : FR OA OB t l0 p3 p5) (Int.le_refl _))
        repeat (first | refine wtA (by decide) ?_ | refine wtM ?_ | refine wtL ?_ | refine step ?_ | refine Exists.intro _ (And.intro (congrFun hM _) ?_) | refine Exists.intro _ (And.intro rfl ?_) | refine And.intro rfl ?_ | refine And.intro trivial ?_ | (refine And.intro (by intro hz; exfalso; omega) ?_; intro hz9) | refine And.intro (by omega) ?_ | refine And.intro (by simp only [lnM_TAPE, lnM_SIGN, lnM_LENG, lnM_CLAU, lnM_CLSS, lnM_READ, lnM_OPEN, lnM_STCK, lnM_WORD, lnM_SAID, lnM_WASS, lnM_KEPT, lnM_FAR, lnM_WASI, lnM_OUTO, lnM_HASB, lnM_WHER, lnM_ISFI, lnM_CELT, lnM_IMGS, lnM_IMGF, lnM_IMGX, lnM_ISMA]; omega) ?_ | (refine And.intro ?_ (by intro hz; exfalso; omega); intro hz9))
        refine Or.inl (t_isWordR (W := wAND) hX2 (by decide) (fun p3 r3 hr3 H3 T3 => ?_))
        have w3 := wd hr3
        have hM := H3.1
        repeat (first | refine wtA (by decide) ?_ | refine wtM ?_ | refine wtL ?_ | refine step ?_ | refine Exists.intro _ (And.intro (congrFun hM _) ?_) | refine Exists.intro _ (And.intro rfl ?_) | refine And.intro rfl ?_ | refine And.intro trivial ?_ | (refine And.intro (by intro hz; exfalso; omega) ?_; intro hz9) | refine And.intro (by omega) ?_ | refine And.intro (by simp only [lnM_TAPE, lnM_SIGN, lnM_LENG, lnM_CLAU, lnM_CLSS, lnM_READ, lnM_OPEN, lnM_STCK, lnM_WORD, lnM_SAID, lnM_WASS, lnM_KEPT, lnM_FAR, lnM_WASI, lnM_OUTO, lnM_HASB, lnM_WHER, lnM_ISFI, lnM_CELT, lnM_IMGS, lnM_IMGF, lnM_IMGX, lnM_ISMA]; omega) ?_ | (refine And.intro ?_ (by intro hz; exfalso; omega); intro hz9))
        refine And.intro (fun hz => ?_) (fun hz => ?_)
        · obtain ⟨q1, q2, q3⟩ := w3.1 hz
          exact on p3 H3 T3 (Or.inl q1)
        · have na := w3.2 hz
          repeat (first | refine wtA (by decide) ?_ | refine wtM ?_ | refine wtL ?_ | refine step ?_ | refine Exists.intro _ (And.intro (congrFun hM _) ?_) | refine Exists.intro _ (And.intro rfl ?_) | refine And.intro rfl ?_ | refine And.intro trivial ?_ | (refine And.intro (by intro hz; exfalso; omega) ?_; intro hz9) | refine And.intro (by omega) ?_ | refine And.intro (by simp only [lnM_TAPE, lnM_SIGN, lnM_LENG, lnM_CLAU, lnM_CLSS, lnM_READ, lnM_OPEN, lnM_STCK, lnM_WORD, lnM_SAID, lnM_WASS, lnM_KEPT, lnM_FAR, lnM_WASI, lnM_OUTO, lnM_HASB, lnM_WHER, lnM_ISFI, lnM_CELT, lnM_IMGS, lnM_IMGF, lnM_IMGX, lnM_ISMA]; omega) ?_ | (refine And.intro ?_ (by intro hz; exfalso; omega); intro hz9))
          refine Or.inl (t_isWordR (W := wOR) H3 (by decide) (fun p4 r4 hr4 H4 T4 => ?_))
          rw [id2] at hr4 H4
          have w4 := wd hr4
          have hM := H4.1
          repeat (first | refine wtA (by decide) ?_ | refine wtM ?_ | refine wtL ?_ | refine step ?_ | refine Exists.intro _ (And.intro (congrFun hM _) ?_) | refine Exists.intro _ (And.intro rfl ?_) | refine And.intro rfl ?_ | refine And.intro trivial ?_ | (refine And.intro (by intro hz; exfalso; omega) ?_; intro hz9) | refine And.intro (by omega) ?_ | refine And.intro (by simp only [lnM_TAPE, lnM_SIGN, lnM_LENG, lnM_CLAU, lnM_CLSS, lnM_READ, lnM_OPEN, lnM_STCK, lnM_WORD, lnM_SAID, lnM_WASS, lnM_KEPT, lnM_FAR, lnM_WASI, lnM_OUTO, lnM_HASB, lnM_WHER, lnM_ISFI, lnM_CELT, lnM_IMGS, lnM_IMGF, lnM_IMGX, lnM_ISMA]; omega) ?_ | (refine And.intro ?_ (by intro hz; exfalso; omega); intro hz9))
          refine And.intro (fun hy => ?_) (fun hy => ?_)
          · have no := w4.2 hy
            repeat (first | (exact fin p4 H4 (T3.tr T4) na no) | refine wtA (by decide) ?_ | refine wtM ?_ | refine wtL ?_ | refine step ?_ | refine Exists.intro _ (And.intro (congrFun hM _) ?_) | refine Exists.intro _ (And.intro rfl ?_) | refine And.intro rfl ?_ | refine And.intro trivial ?_ | (refine And.intro (by intro hz; exfalso; omega) ?_; intro hz9) | refine And.intro (by omega) ?_ | refine And.intro (by simp only [lnM_TAPE, lnM_SIGN, lnM_LENG, lnM_CLAU, lnM_CLSS, lnM_READ, lnM_OPEN, lnM_STCK, lnM_WORD, lnM_SAID, lnM_WASS, lnM_KEPT, lnM_FAR, lnM_WASI, lnM_OUTO, lnM_HASB, lnM_WHER, lnM_ISFI, lnM_CELT, lnM_IMGS, lnM_IMGF, lnM_IMGX, lnM_ISMA]; omega) ?_ | (refine And.intro ?_ (by intro hz; exfalso; omega); intro hz9))
          · obtain ⟨q1, q2, q3⟩ := w4.1 hy
            exact on p4 H4 (T3.tr T4) (Or.inr q1)
  repeat (first | refine wtA (by decide) ?_ | refine wtM ?_ | refine wtL ?_ | refine step ?_ | refine Exists.intro _ (And.intro (congrFun hM _) ?_) | refine Exists.intro _ (And.intro rfl ?_) | refine And.intro rfl ?_ | refine And.intro trivial ?_ | (refine And.intro (by intro hz; exfalso; omega) ?_; intro hz9) | refine And.intro (by omega) ?_ | refine And.intro (by simp only [lnM_TAPE, lnM_SIGN, lnM_LENG, lnM_CLAU, lnM_CLSS, lnM_READ, lnM_OPEN, lnM_STCK, lnM_WORD, lnM_SAID, lnM_WASS, lnM_KEPT, lnM_FAR, lnM_WASI, lnM_OUTO, lnM_HASB, lnM_WHER, lnM_ISFI, lnM_CELT, lnM_IMGS, lnM_IMGF, lnM_IMGX, lnM_ISMA]; omega) ?_ | (refine And.intro ?_ (by intro hz; exfalso; omega); intro hz9))
  intro p1 o16 T1
  have hM := T1.m hM
  repeat (first | refine wtA (by decide) ?_ | refine wtM ?_ | refine wtL ?_ | refine step ?_ | refine Exists.intro _ (And.intro (congrFun hM _) ?_) | refine Exists.intro _ (And.intro rfl ?_) | refine And.intro rfl ?_ | refine And.intro trivial ?_ | (refine And.intro (by intro hz; exfalso; omega) ?_; intro hz9) | refine And.intro (by omega) ?_ | refine And.intro (by simp only [lnM_TAPE, lnM_SIGN, lnM_LENG, lnM_CLAU, lnM_CLSS, lnM_READ, lnM_OPEN, lnM_STCK, lnM_WORD, lnM_SAID, lnM_WASS, lnM_KEPT, lnM_FAR, lnM_WASI, lnM_OUTO, lnM_HASB, lnM_WHER, lnM_ISFI, lnM_CELT, lnM_IMGS, lnM_IMGF, lnM_IMGX, lnM_ISMA]; omega) ?_ | (refine And.intro ?_ (by intro hz; exfalso; omega); intro hz9))
  intro p2 o13 T2
  have hM := T2.m hM
  have T12 := (T1.up (A' := []) (B' := [13, 16]) (by decide) (by decide)).tr (T2.up (by decide) (by decide))
  have H2 : RX p2 T n i := hX.to T12 (by decide) (by decide) (by decide) (by rw [T12.f (by decide)]; exact hX.2.2.2.1) i0 i1
  have P2 : PS p2 T n i m t l0 l0 ([] : List Int).length [] := H.mv T12 (by decide) (by decide) (by decide) H2 (by rw [T12.f (by decide)]; exact b1) (Int.le_refl _) b3 (by simp) (by simp; omega)
  have HS2 : TSS p2 [] := ⟨by rw [T2.f (by decide)]; exact o16, ⟨o13, Int.le_refl _, by unfold nd; omega⟩, trivial, fun s hs => by cases hs⟩
  repeat (first | (exact loop (n - i + 1).toNat i m [] [] p2 l0 (by omega) (Int.le_refl _) P2 HS2 rfl hE (FR.of T12 (by decide) (by decide) (by decide))) | refine wtA (by decide) ?_ | refine wtM ?_ | refine wtL ?_ | refine step ?_ | refine Exists.intro _ (And.intro (congrFun hM _) ?_) | refine Exists.intro _ (And.intro rfl ?_) | refine And.intro rfl ?_ | refine And.intro trivial ?_ | (refine And.intro (by intro hz; exfalso; omega) ?_; intro hz9) | refine And.intro (by omega) ?_ | refine And.intro (by simp only [lnM_TAPE, lnM_SIGN, lnM_LENG, lnM_CLAU, lnM_CLSS, lnM_READ, lnM_OPEN, lnM_STCK, lnM_WORD, lnM_SAID, lnM_WASS, lnM_KEPT, lnM_FAR, lnM_WASI, lnM_OUTO, lnM_HASB, lnM_WHER, lnM_ISFI, lnM_CELT, lnM_IMGS, lnM_IMGF, lnM_IMGX, lnM_ISMA]; omega) ?_ | (refine And.intro ?_ (by intro hz; exfalso; omega); intro hz9))
