/-! THE TWIN: which rules fit, where to look, folds -/
def TD (s : Int → Int) : Prop := (∀ g, 0 ≤ g → g < 5 → (0 ≤ s (90 + 3 * g) ∧ s (90 + 3 * g) < s 1 * s 1) ∧ (0 ≤ s (90 + 3 * g + 1) ∧ s (90 + 3 * g + 1) ≤ 3) ∧ 0 ≤ s (90 + 3 * g + 2) ∧ s (90 + 3 * g + 2) ≤ 99) ∧ (∀ e, 0 ≤ e → e < 4 → 0 ≤ s (105 + e) ∧ s (105 + e) ≤ 3) ∧ ∀ c, 0 ≤ c → c < 36 → s (109 + c) = 0 ∨ s (109 + c) = 1
theorem begP_lo {s : Int → Int} {m : Int} (h : m < 10 ∨ 86 ≤ m) : begP s 86 m = s m := if_neg (by omega)
theorem begP_g {s : Int → Int} {g w : Int} (g0 : 0 ≤ g) (g1 : g < 5) (w0 : 0 ≤ w) (w1 : w < 7) : begP s 86 (11 + 7 * g + w) = if w < 3 then s (90 + 3 * g + w) else 0 := by
  unfold begP
  rw [if_pos (by omega)]
  unfold begF
  rw [if_neg (by omega), if_pos (by omega), show (11 + 7 * g + w - 11) % 7 = w by omega, show (11 + 7 * g + w - 11) / 7 = g by omega]
theorem begP_e {s : Int → Int} {e : Int} (g0 : 0 ≤ e) (g1 : e < 4) : begP s 86 (46 + e) = s (105 + e) := by
  unfold begP
  rw [if_pos (by omega)]
  unfold begF
  rw [if_neg (by omega), if_neg (by omega), if_pos (by omega), show 46 + e - 46 = e by omega]
theorem begP_c {s : Int → Int} {e : Int} (g0 : 0 ≤ e) (g1 : e < 36) : begP s 86 (50 + e) = s (109 + e) := by
  unfold begP
  rw [if_pos (by omega)]
  unfold begF
  rw [if_neg (by omega), if_neg (by omega), if_neg (by omega), show 50 + e - 50 = e by omega]
theorem begP_st {s : Int → Int} : begP s 86 10 = 0 := by
  unfold begP
  rw [if_pos (by omega)]
  unfold begF
  rw [if_pos rfl]
theorem begP_eq {s t : Int → Int} (h : ∀ m, m < 10 ∨ 86 ≤ m → t m = s m) : begP t 86 = begP s 86 := by
  funext m
  unfold begP
  by_cases c : 10 ≤ m ∧ m < 86
  · rw [if_pos c, if_pos c]
    unfold begF
    by_cases c1 : m = 10
    · rw [if_pos c1, if_pos c1]
    · rw [if_neg c1, if_neg c1]
      by_cases c2 : m < 46
      · rw [if_pos c2, if_pos c2]
        by_cases c3 : (m - 11) % 7 < 3
        · rw [if_pos c3, if_pos c3, h _ (by omega)]
        · rw [if_neg c3, if_neg c3]
      · rw [if_neg c2, if_neg c2]
        by_cases c4 : m < 50
        · rw [if_pos c4, if_pos c4, h _ (by omega)]
        · rw [if_neg c4, if_neg c4, h _ (by omega)]
  · rw [if_neg c, if_neg c, h m (by omega)]
theorem begP_GA {b : Int} {s : Int → Int} (hS : GS s) (hT : TD s) (hb : 0 ≤ b) : GA b (begP s 86) := by
  obtain ⟨a1, a2, a3, a4, a5, a6⟩ := hS
  obtain ⟨t1, t2, t3⟩ := hT
  have e1 : begP s 86 1 = s 1 := begP_lo (by omega)
  have nn : 0 < s 1 := by omega
  refine ⟨⟨by rw [e1]; exact a1, by rw [begP_lo (by omega)]; exact a2, by rw [begP_st]; omega, fun e x0 x1 => ?_, fun c x0 x1 => ?_, fun e x0 x1 => ?_⟩, by rw [begP_st]; exact hb, fun g g0 g1 => ?_⟩
  · rw [begP_e x0 x1]; exact t2 e x0 x1
  · rw [begP_c x0 x1]; exact t3 c x0 x1
  · rw [begP_lo (by omega)]; exact a6 e x0 x1
  · obtain ⟨u0, u1, u2⟩ := t1 g g0 g1
    have w : ∀ w, 0 ≤ w → w < 7 → begP s 86 (11 + 7 * g + w) = if w < 3 then s (90 + 3 * g + w) else 0 := fun w w0 w1 => begP_g g0 g1 w0 w1
    have q0 := w 0 (by omega) (by omega)
    rw [show 11 + 7 * g + 0 = 11 + 7 * g by omega, if_pos (by omega), show 90 + 3 * g + 0 = 90 + 3 * g by omega] at q0
    unfold GG
    rw [e1, q0, w 1 (by omega) (by omega), w 2 (by omega) (by omega), w 3 (by omega) (by omega), w 4 (by omega) (by omega), w 5 (by omega) (by omega), w 6 (by omega) (by omega), if_pos (by omega), if_pos (by omega), if_neg (by omega), if_neg (by omega), if_neg (by omega), if_neg (by omega)]
    exact ⟨u0, u1, u2, by omega, by omega, by omega, by omega⟩
theorem begP_NT {s : Int → Int} (hN : NT s) : NT (begP s 86) := by
  have e := fun m (hm : 86 ≤ m) => begP_lo (s := s) (m := m) (Or.inr hm)
  refine ⟨by rw [e 175 (by omega)]; exact hN.1, fun i i0 i1 => ?_⟩
  rw [e 175 (by omega)] at i1
  rw [e _ (by omega), e _ (by omega), e _ (by omega)]
  exact hN.2 i i0 i1
/-- the turns by each force, whatever the scratch holds -/
def HQr (qs : Int → (Int → Int) → Int → Int) (h : AH) : Prop := (∀ f, QOK (qs f)) ∧ ∀ p f, TA QA (21 :: QB) h p → hI p M 21 = f → -1 ≤ f → f < hI h M 2 → HQu (qs f) p
noncomputable def fitF (qs : Int → (Int → Int) → Int → Int) (s : Int → Int) (r : Int) : Int := bP (allP (qs (r - 1)) (begP s 86))
def ctF (qs : Int → (Int → Int) → Int → Int) (s : Int → Int) (th r g : Int) : Int := conF (passN (qs (r - 1)) th.toNat (begP s 86)) g
theorem t_fillsFits {d : Nat} {h : AH} {Φ : OUT → AH → Prop} {qs : Int → (Int → Int) → Int → Int} {b th : Int} (hM : hP h M = MP) (hA : GA b (hI h mSAID)) (hN : NT (hI h mSAID)) (hT : TD (hI h mSAID)) (HQ : HQr qs h) (h2 : 0 ≤ hI h M 2 ∧ hI h M 2 ≤ 6) (hf : -1 ≤ hI h M 21 ∧ hI h M 21 < hI h M 2) (t0 : 0 ≤ th) (t1 : th ≤ 60)
    (K : ∀ p, hP p M = MP → (hI p mSAID) = (hI h mSAID) → (∀ r, 0 ≤ r → r ≤ hI h M 2 → hI p mISFI r = fitF qs (hI h mSAID) r) → (∀ r g, 0 ≤ r → r ≤ hI h M 2 → 0 ≤ g → g < 5 → hI p mCELT (5 * r + g) = ctF qs (hI h mSAID) th r g) → TA QA QB h p → Φ (.inl none) p) : CT (d + 10) 0 0 J_X4_fillsFits [vo M, vi th] h Φ := by
  refine e_X4_fillsFits ?_; intro k step keep
  have loop : ∀ (m : Nat) (r : Int) (p : AH), hP p M = MP → 0 ≤ r → r + m = hI h M 2 + 1 → (∀ j, 0 ≤ j → j < 76 → hI p mKEPT j = (hI h mSAID) (10 + j)) → (∀ m, m < 10 ∨ 86 ≤ m → (hI p mSAID) m = (hI h mSAID) m) → (∀ x, 0 ≤ x → x < r → hI p mISFI x = fitF qs (hI h mSAID) x) → (∀ x g, 0 ≤ x → x < r → 0 ≤ g → g < 5 → hI p mCELT (5 * x + g) = ctF qs (hI h mSAID) th x g) → TA QA (21 :: QB) h p → k 0 0 11 [(0, vo M), (1, vi th), (2, vi (hI h M 21)), (3, vi r)] [] p := by
    intro m
    induction m with
    | zero =>
      intro r p hM r0 hm hk hs hx hy T
      have f2 : hI p M 2 = hI h M 2 := T.f (by decide)
      repeat (first | refine wtA (by decide) ?_ | refine wtM ?_ | refine wtL ?_ | refine step ?_ | refine Exists.intro _ (And.intro (congrFun hM _) ?_) | refine Exists.intro _ (And.intro rfl ?_) | refine And.intro rfl ?_ | refine And.intro trivial ?_ | (refine And.intro (by intro hz; exfalso; omega) ?_; intro hz9) | refine And.intro (by omega) ?_ | refine And.intro (by simp only [lnM_TAPE, lnM_SIGN, lnM_LENG, lnM_CLAU, lnM_CLSS, lnM_READ, lnM_OPEN, lnM_STCK, lnM_WORD, lnM_SAID, lnM_WASS, lnM_KEPT, lnM_FAR, lnM_WASI, lnM_OUTO, lnM_HASB, lnM_WHER, lnM_ISFI, lnM_CELT, lnM_IMGS, lnM_IMGF, lnM_IMGX, lnM_ISMA]; omega) ?_ | (refine And.intro ?_ (by intro hz; exfalso; omega); intro hz9))
      intro p1 e1 T1
      have hM := T1.m hM
      repeat (first | refine wtA (by decide) ?_ | refine wtM ?_ | refine wtL ?_ | refine step ?_ | refine Exists.intro _ (And.intro (congrFun hM _) ?_) | refine Exists.intro _ (And.intro rfl ?_) | refine And.intro rfl ?_ | refine And.intro trivial ?_ | (refine And.intro (by intro hz; exfalso; omega) ?_; intro hz9) | refine And.intro (by omega) ?_ | refine And.intro (by simp only [lnM_TAPE, lnM_SIGN, lnM_LENG, lnM_CLAU, lnM_CLSS, lnM_READ, lnM_OPEN, lnM_STCK, lnM_WORD, lnM_SAID, lnM_WASS, lnM_KEPT, lnM_FAR, lnM_WASI, lnM_OUTO, lnM_HASB, lnM_WHER, lnM_ISFI, lnM_CELT, lnM_IMGS, lnM_IMGF, lnM_IMGX, lnM_ISMA]; omega) ?_ | (refine And.intro ?_ (by intro hz; exfalso; omega); intro hz9))
      refine Or.inl (t_laysBack hM (fun p2 e2 T2 => ?_))
      repeat (first | refine wtA (by decide) ?_ | refine wtM ?_ | refine wtL ?_ | refine step ?_ | refine Exists.intro _ (And.intro (congrFun hM _) ?_) | refine Exists.intro _ (And.intro rfl ?_) | refine And.intro rfl ?_ | refine And.intro trivial ?_ | (refine And.intro (by intro hz; exfalso; omega) ?_; intro hz9) | refine And.intro (by omega) ?_ | refine And.intro (by simp only [lnM_TAPE, lnM_SIGN, lnM_LENG, lnM_CLAU, lnM_CLSS, lnM_READ, lnM_OPEN, lnM_STCK, lnM_WORD, lnM_SAID, lnM_WASS, lnM_KEPT, lnM_FAR, lnM_WASI, lnM_OUTO, lnM_HASB, lnM_WHER, lnM_ISFI, lnM_CELT, lnM_IMGS, lnM_IMGF, lnM_IMGX, lnM_ISMA]; omega) ?_ | (refine And.intro ?_ (by intro hz; exfalso; omega); intro hz9))
      have es1 : (hI p1 mSAID) = (hI p mSAID) := T1.i (by decide) (by decide)
      have ek1 : hI p1 mKEPT = hI p mKEPT := T1.i (by decide) (by decide)
      rw [es1, ek1, layF_back hk hs] at e2
      have T12 := (T1.up (A' := [mSAID]) (B' := [21]) (by decide) (by decide)).tr (T2.up (by decide) (by decide))
      refine K p2 (T2.m hM) e2 (fun x x0 x1 => ?_) (fun x g x0 x1 g0 g1 => ?_) ?_
      · rw [T12.i (by decide) (by decide)]; exact hx x x0 (by omega)
      · rw [T12.i (by decide) (by decide)]; exact hy x g x0 (by omega) g0 g1
      · have Ta := T.tr (T12.up (A' := QA) (B' := 21 :: QB) (by decide) (by decide))
        refine ⟨Ta.1, Ta.2.1, Ta.2.2.1, Ta.2.2.2.1, fun m hm => ?_⟩
        by_cases h21 : m = 21
        · rw [h21, T2.f (by decide)]; exact e1
        · exact Ta.f (fun z => by
            rcases List.mem_cons.mp z with z | z
            · exact h21 z
            · exact hm z)
    | succ m ih =>
      intro r p hM r0 hm hk hs hx hy T
      have f2 : hI p M 2 = hI h M 2 := T.f (by decide)
      refine step ?_
      repeat (first | refine wtA (by decide) ?_ | refine wtM ?_ | refine wtL ?_ | refine step ?_ | refine Exists.intro _ (And.intro (congrFun hM _) ?_) | refine Exists.intro _ (And.intro rfl ?_) | refine And.intro rfl ?_ | refine And.intro trivial ?_ | (refine And.intro (by intro hz; exfalso; omega) ?_; intro hz9) | refine And.intro (by omega) ?_ | refine And.intro (by simp only [lnM_TAPE, lnM_SIGN, lnM_LENG, lnM_CLAU, lnM_CLSS, lnM_READ, lnM_OPEN, lnM_STCK, lnM_WORD, lnM_SAID, lnM_WASS, lnM_KEPT, lnM_FAR, lnM_WASI, lnM_OUTO, lnM_HASB, lnM_WHER, lnM_ISFI, lnM_CELT, lnM_IMGS, lnM_IMGF, lnM_IMGX, lnM_ISMA]; omega) ?_ | (refine And.intro ?_ (by intro hz; exfalso; omega); intro hz9))
      intro p1 e1 T1
      have hM := T1.m hM
      repeat (first | refine wtA (by decide) ?_ | refine wtM ?_ | refine wtL ?_ | refine step ?_ | refine Exists.intro _ (And.intro (congrFun hM _) ?_) | refine Exists.intro _ (And.intro rfl ?_) | refine And.intro rfl ?_ | refine And.intro trivial ?_ | (refine And.intro (by intro hz; exfalso; omega) ?_; intro hz9) | refine And.intro (by omega) ?_ | refine And.intro (by simp only [lnM_TAPE, lnM_SIGN, lnM_LENG, lnM_CLAU, lnM_CLSS, lnM_READ, lnM_OPEN, lnM_STCK, lnM_WORD, lnM_SAID, lnM_WASS, lnM_KEPT, lnM_FAR, lnM_WASI, lnM_OUTO, lnM_HASB, lnM_WHER, lnM_ISFI, lnM_CELT, lnM_IMGS, lnM_IMGF, lnM_IMGX, lnM_ISMA]; omega) ?_ | (refine And.intro ?_ (by intro hz; exfalso; omega); intro hz9))
      refine Or.inl (t_begins hM (fun p2 e2 T2 => ?_))
      have hM := T2.m hM
      have es1 : (hI p1 mSAID) = (hI p mSAID) := T1.i (by decide) (by decide)
      rw [es1, begP_eq hs] at e2
      have T02 := (T.tr (T1.up (A' := QA) (B' := 21 :: QB) (by decide) (by decide))).tr (T2.up (by decide) (by decide))
      have e21 : hI p2 M 21 = r - 1 := by rw [T2.f (by decide)]; exact e1
      have hA2 : GA 0 (hI p2 mSAID) := by rw [e2]; exact begP_GA hA.1 hT (by omega)
      have hN2 : NT (hI p2 mSAID) := by rw [e2]; exact begP_NT hN
      repeat (first | refine wtA (by decide) ?_ | refine wtM ?_ | refine wtL ?_ | refine step ?_ | refine Exists.intro _ (And.intro (congrFun hM _) ?_) | refine Exists.intro _ (And.intro rfl ?_) | refine And.intro rfl ?_ | refine And.intro trivial ?_ | (refine And.intro (by intro hz; exfalso; omega) ?_; intro hz9) | refine And.intro (by omega) ?_ | refine And.intro (by simp only [lnM_TAPE, lnM_SIGN, lnM_LENG, lnM_CLAU, lnM_CLSS, lnM_READ, lnM_OPEN, lnM_STCK, lnM_WORD, lnM_SAID, lnM_WASS, lnM_KEPT, lnM_FAR, lnM_WASI, lnM_OUTO, lnM_HASB, lnM_WHER, lnM_ISFI, lnM_CELT, lnM_IMGS, lnM_IMGF, lnM_IMGX, lnM_ISMA]; omega) ?_ | (refine And.intro ?_ (by intro hz; exfalso; omega); intro hz9))
      refine Or.inl (t_areAllSo hM (HQ.1 _) hA2 (by omega) hN2 (HQ.2 p2 (r - 1) T02 e21 (by omega) (by omega)) (by omega) (by omega) (by omega) (fun p3 v hv e3 hc T3 => ?_))
      have hM := T3.m hM
      have hv01 := bPb (allP (qs (r - 1)) (hI p2 mSAID))
      rw [← hv] at hv01
      repeat (first | refine wtA (by decide) ?_ | refine wtM ?_ | refine wtL ?_ | refine step ?_ | refine Exists.intro _ (And.intro (congrFun hM _) ?_) | refine Exists.intro _ (And.intro rfl ?_) | refine And.intro rfl ?_ | refine And.intro trivial ?_ | (refine And.intro (by intro hz; exfalso; omega) ?_; intro hz9) | refine And.intro (by omega) ?_ | refine And.intro (by simp only [lnM_TAPE, lnM_SIGN, lnM_LENG, lnM_CLAU, lnM_CLSS, lnM_READ, lnM_OPEN, lnM_STCK, lnM_WORD, lnM_SAID, lnM_WASS, lnM_KEPT, lnM_FAR, lnM_WASI, lnM_OUTO, lnM_HASB, lnM_WHER, lnM_ISFI, lnM_CELT, lnM_IMGS, lnM_IMGF, lnM_IMGX, lnM_ISMA]; omega) ?_ | (refine And.intro ?_ (by intro hz; exfalso; omega); intro hz9))
      refine And.intro (Or.inr ⟨rfl, by omega, by omega⟩) ?_
      repeat (first | refine wtA (by decide) ?_ | refine wtM ?_ | refine wtL ?_ | refine step ?_ | refine Exists.intro _ (And.intro (congrFun hM _) ?_) | refine Exists.intro _ (And.intro rfl ?_) | refine And.intro rfl ?_ | refine And.intro trivial ?_ | (refine And.intro (by intro hz; exfalso; omega) ?_; intro hz9) | refine And.intro (by omega) ?_ | refine And.intro (by simp only [lnM_TAPE, lnM_SIGN, lnM_LENG, lnM_CLAU, lnM_CLSS, lnM_READ, lnM_OPEN, lnM_STCK, lnM_WORD, lnM_SAID, lnM_WASS, lnM_KEPT, lnM_FAR, lnM_WASI, lnM_OUTO, lnM_HASB, lnM_WHER, lnM_ISFI, lnM_CELT, lnM_IMGS, lnM_IMGF, lnM_IMGX, lnM_ISMA]; omega) ?_ | (refine And.intro ?_ (by intro hz; exfalso; omega); intro hz9))
      intro p4 e4 T4
      have hM := T4.m hM
      have T23 := T2.up (A' := [mSAID, mWORD, mSTCK, mCELT]) (B' := [18]) (by decide) (by decide)
      have oo : ∀ m, m < 10 ∨ 86 ≤ m → (hI p4 mSAID) m = (hI h mSAID) m := fun m hm => by
        rw [T4.i (by decide) (by decide), e3, passN_out (HQ.1 _) 61 _ 0 m hA2 (by omega) (by omega), e2, begP_lo (by omega)]
      have T04 := (T02.tr (T3.up (by decide) (by decide))).tr (T4.up (by decide) (by decide))
      have kk : ∀ j, 0 ≤ j → j < 76 → hI p4 mKEPT j = (hI h mSAID) (10 + j) := fun j j0 j1 => by
        rw [T4.i (by decide) (by decide), T3.i (by decide) (by decide), T2.i (by decide) (by decide), T1.i (by decide) (by decide)]
        exact hk j j0 j1
      have x4 : ∀ x, 0 ≤ x → x < r + 1 → hI p4 mISFI x = fitF qs (hI h mSAID) x := fun x x0 x1 => by
        rw [e4]
        show (if x = r then v else hI p3 mISFI x) = _
        by_cases hc : x = r
        · rw [if_pos hc, hv, e2, hc]; rfl
        · rw [if_neg hc, T3.i (by decide) (by decide), T2.i (by decide) (by decide), T1.i (by decide) (by decide)]
          exact hx x x0 (by omega)
      have y4 : ∀ x g, 0 ≤ x → x < r + 1 → 0 ≤ g → g < 5 → hI p4 mCELT (5 * x + g) = ctF qs (hI h mSAID) th x g := fun x g x0 x1 g0 g1 => by
        rw [T4.i (by decide) (by decide), hc]
        by_cases hc : x = r
        · rw [if_pos (by omega), e2, hc, show 5 * r + g - 5 * r = g by omega]; rfl
        · rw [if_neg (by omega), T2.i (by decide) (by decide), T1.i (by decide) (by decide)]
          exact hy x g x0 (by omega) g0 g1
      repeat (first | (exact ih (r + 1) p4 hM (by omega) (by omega) kk oo x4 y4 T04) | refine wtA (by decide) ?_ | refine wtM ?_ | refine wtL ?_ | refine step ?_ | refine Exists.intro _ (And.intro (congrFun hM _) ?_) | refine Exists.intro _ (And.intro rfl ?_) | refine And.intro rfl ?_ | refine And.intro trivial ?_ | (refine And.intro (by intro hz; exfalso; omega) ?_; intro hz9) | refine And.intro (by omega) ?_ | refine And.intro (by simp only [lnM_TAPE, lnM_SIGN, lnM_LENG, lnM_CLAU, lnM_CLSS, lnM_READ, lnM_OPEN, lnM_STCK, lnM_WORD, lnM_SAID, lnM_WASS, lnM_KEPT, lnM_FAR, lnM_WASI, lnM_OUTO, lnM_HASB, lnM_WHER, lnM_ISFI, lnM_CELT, lnM_IMGS, lnM_IMGF, lnM_IMGX, lnM_ISMA]; omega) ?_ | (refine And.intro ?_ (by intro hz; exfalso; omega); intro hz9))
  repeat (first | refine wtA (by decide) ?_ | refine wtM ?_ | refine wtL ?_ | refine step ?_ | refine Exists.intro _ (And.intro (congrFun hM _) ?_) | refine Exists.intro _ (And.intro rfl ?_) | refine And.intro rfl ?_ | refine And.intro trivial ?_ | (refine And.intro (by intro hz; exfalso; omega) ?_; intro hz9) | refine And.intro (by omega) ?_ | refine And.intro (by simp only [lnM_TAPE, lnM_SIGN, lnM_LENG, lnM_CLAU, lnM_CLSS, lnM_READ, lnM_OPEN, lnM_STCK, lnM_WORD, lnM_SAID, lnM_WASS, lnM_KEPT, lnM_FAR, lnM_WASI, lnM_OUTO, lnM_HASB, lnM_WHER, lnM_ISFI, lnM_CELT, lnM_IMGS, lnM_IMGF, lnM_IMGX, lnM_ISMA]; omega) ?_ | (refine And.intro ?_ (by intro hz; exfalso; omega); intro hz9))
  refine Or.inl (t_keeps hM (fun p1 e1 T1 => ?_))
  have es1 : (hI p1 mSAID) = (hI h mSAID) := T1.i (by decide) (by decide)
  repeat (first | (exact loop (hI h M 2 + 1).toNat 0 p1 (T1.m hM) (by omega) (by omega) e1 (fun m hm => congrFun es1 m) (fun x x0 x1 => by omega) (fun x g x0 x1 => by omega) (T1.up (by decide) (by decide))) | refine wtA (by decide) ?_ | refine wtM ?_ | refine wtL ?_ | refine step ?_ | refine Exists.intro _ (And.intro (congrFun hM _) ?_) | refine Exists.intro _ (And.intro rfl ?_) | refine And.intro rfl ?_ | refine And.intro trivial ?_ | (refine And.intro (by intro hz; exfalso; omega) ?_; intro hz9) | refine And.intro (by omega) ?_ | refine And.intro (by simp only [lnM_TAPE, lnM_SIGN, lnM_LENG, lnM_CLAU, lnM_CLSS, lnM_READ, lnM_OPEN, lnM_STCK, lnM_WORD, lnM_SAID, lnM_WASS, lnM_KEPT, lnM_FAR, lnM_WASI, lnM_OUTO, lnM_HASB, lnM_WHER, lnM_ISFI, lnM_CELT, lnM_IMGS, lnM_IMGF, lnM_IMGX, lnM_ISMA]; omega) ?_ | (refine And.intro ?_ (by intro hz; exfalso; omega); intro hz9))
theorem t_ruled {d : Nat} {h : AH} {Φ : OUT → AH → Prop} {qs : Int → (Int → Int) → Int → Int} {b w : Int} (hM : hP h M = MP) (hW : TW b (hI h mSAID)) (hN : NT (hI h mSAID)) (hT : (hI h mSAID) 0 = 1 → TD (hI h mSAID)) (HQ : HQr qs h) (h2 : 0 ≤ hI h M 2 ∧ hI h M 2 ≤ 6) (hf : -1 ≤ hI h M 21 ∧ hI h M 21 < hI h M 2) (hw : iR w)
    (K : ∀ p r, r = (if (hI h mSAID) 0 = 1 ∧ 0 ≤ w ∧ w ≤ 1 then (if w = 0 then cntF (fitF qs (hI h mSAID)) (hI h M 2 + 1).toNat 0 0 else fstF (fitF qs (hI h mSAID)) (hI h M 2 + 1).toNat 0 - 1) else -3) → (hI p mSAID) = (hI h mSAID) → TA QA QB h p → Φ (.inl (some (vi r))) p) : CT (d + 11) 0 0 J_X4_ruled [vo M, vi w] h Φ := by
  refine e_X4_ruled ?_; intro k step keep
  repeat (first | refine wtA (by decide) ?_ | refine wtM ?_ | refine wtL ?_ | refine step ?_ | refine Exists.intro _ (And.intro (congrFun hM _) ?_) | refine Exists.intro _ (And.intro rfl ?_) | refine And.intro rfl ?_ | refine And.intro trivial ?_ | (refine And.intro (by intro hz; exfalso; omega) ?_; intro hz9) | refine And.intro (by omega) ?_ | refine And.intro (by simp only [lnM_TAPE, lnM_SIGN, lnM_LENG, lnM_CLAU, lnM_CLSS, lnM_READ, lnM_OPEN, lnM_STCK, lnM_WORD, lnM_SAID, lnM_WASS, lnM_KEPT, lnM_FAR, lnM_WASI, lnM_OUTO, lnM_HASB, lnM_WHER, lnM_ISFI, lnM_CELT, lnM_IMGS, lnM_IMGF, lnM_IMGX, lnM_ISMA]; omega) ?_ | (refine And.intro ?_ (by intro hz; exfalso; omega); intro hz9))
  refine Or.inl (t_isSheet hM hW.1 ?_)
  have h01 := hW.1
  repeat (first | refine wtA (by decide) ?_ | refine wtM ?_ | refine wtL ?_ | refine step ?_ | refine Exists.intro _ (And.intro (congrFun hM _) ?_) | refine Exists.intro _ (And.intro rfl ?_) | refine And.intro rfl ?_ | refine And.intro trivial ?_ | (refine And.intro (by intro hz; exfalso; omega) ?_; intro hz9) | refine And.intro (by omega) ?_ | refine And.intro (by simp only [lnM_TAPE, lnM_SIGN, lnM_LENG, lnM_CLAU, lnM_CLSS, lnM_READ, lnM_OPEN, lnM_STCK, lnM_WORD, lnM_SAID, lnM_WASS, lnM_KEPT, lnM_FAR, lnM_WASI, lnM_OUTO, lnM_HASB, lnM_WHER, lnM_ISFI, lnM_CELT, lnM_IMGS, lnM_IMGF, lnM_IMGX, lnM_ISMA]; omega) ?_ | (refine And.intro ?_ (by intro hz; exfalso; omega); intro hz9))
  refine And.intro (fun hc => ?_) (fun hc => ?_)
  · (repeat (first | refine wtA (by decide) ?_ | refine wtM ?_ | refine wtL ?_ | refine step ?_ | refine Exists.intro _ (And.intro (congrFun hM _) ?_) | refine Exists.intro _ (And.intro rfl ?_) | refine And.intro rfl ?_ | refine And.intro trivial ?_ | (refine And.intro (by intro hz; exfalso; omega) ?_; intro hz9) | refine And.intro (by omega) ?_ | refine And.intro (by simp only [lnM_TAPE, lnM_SIGN, lnM_LENG, lnM_CLAU, lnM_CLSS, lnM_READ, lnM_OPEN, lnM_STCK, lnM_WORD, lnM_SAID, lnM_WASS, lnM_KEPT, lnM_FAR, lnM_WASI, lnM_OUTO, lnM_HASB, lnM_WHER, lnM_ISFI, lnM_CELT, lnM_IMGS, lnM_IMGF, lnM_IMGX, lnM_ISMA]; omega) ?_ | (refine And.intro ?_ (by intro hz; exfalso; omega); intro hz9))); exact K _ _ (by rw [if_neg (by omega)]) rfl TA.rf
  · have hA := hW.2.2 (by omega)
    repeat (first | refine wtA (by decide) ?_ | refine wtM ?_ | refine wtL ?_ | refine step ?_ | refine Exists.intro _ (And.intro (congrFun hM _) ?_) | refine Exists.intro _ (And.intro rfl ?_) | refine And.intro rfl ?_ | refine And.intro trivial ?_ | (refine And.intro (by intro hz; exfalso; omega) ?_; intro hz9) | refine And.intro (by omega) ?_ | refine And.intro (by simp only [lnM_TAPE, lnM_SIGN, lnM_LENG, lnM_CLAU, lnM_CLSS, lnM_READ, lnM_OPEN, lnM_STCK, lnM_WORD, lnM_SAID, lnM_WASS, lnM_KEPT, lnM_FAR, lnM_WASI, lnM_OUTO, lnM_HASB, lnM_WHER, lnM_ISFI, lnM_CELT, lnM_IMGS, lnM_IMGF, lnM_IMGX, lnM_ISMA]; omega) ?_ | (refine And.intro ?_ (by intro hz; exfalso; omega); intro hz9))
    refine Or.inl (t_in hw (by omega) (by omega) (fun r2 hr2 => ?_))
    repeat (first | refine wtA (by decide) ?_ | refine wtM ?_ | refine wtL ?_ | refine step ?_ | refine Exists.intro _ (And.intro (congrFun hM _) ?_) | refine Exists.intro _ (And.intro rfl ?_) | refine And.intro rfl ?_ | refine And.intro trivial ?_ | (refine And.intro (by intro hz; exfalso; omega) ?_; intro hz9) | refine And.intro (by omega) ?_ | refine And.intro (by simp only [lnM_TAPE, lnM_SIGN, lnM_LENG, lnM_CLAU, lnM_CLSS, lnM_READ, lnM_OPEN, lnM_STCK, lnM_WORD, lnM_SAID, lnM_WASS, lnM_KEPT, lnM_FAR, lnM_WASI, lnM_OUTO, lnM_HASB, lnM_WHER, lnM_ISFI, lnM_CELT, lnM_IMGS, lnM_IMGF, lnM_IMGX, lnM_ISMA]; omega) ?_ | (refine And.intro ?_ (by intro hz; exfalso; omega); intro hz9))
    refine And.intro (fun hd => ?_) (fun hd => ?_)
    · rw [if_pos (by omega)] at K
      repeat (first | refine wtA (by decide) ?_ | refine wtM ?_ | refine wtL ?_ | refine step ?_ | refine Exists.intro _ (And.intro (congrFun hM _) ?_) | refine Exists.intro _ (And.intro rfl ?_) | refine And.intro rfl ?_ | refine And.intro trivial ?_ | (refine And.intro (by intro hz; exfalso; omega) ?_; intro hz9) | refine And.intro (by omega) ?_ | refine And.intro (by simp only [lnM_TAPE, lnM_SIGN, lnM_LENG, lnM_CLAU, lnM_CLSS, lnM_READ, lnM_OPEN, lnM_STCK, lnM_WORD, lnM_SAID, lnM_WASS, lnM_KEPT, lnM_FAR, lnM_WASI, lnM_OUTO, lnM_HASB, lnM_WHER, lnM_ISFI, lnM_CELT, lnM_IMGS, lnM_IMGF, lnM_IMGX, lnM_ISMA]; omega) ?_ | (refine And.intro ?_ (by intro hz; exfalso; omega); intro hz9))
      refine Or.inl (t_fillsFits hM hA hN (hT (by omega)) HQ h2 hf (by omega) (by omega) (fun p1 hM e1 hx hy T1 => ?_))
      have f2 : hI p1 M 2 = hI h M 2 := T1.f (by decide)
      generalize hF : fitF qs (hI h mSAID) = F at K hx
      have F01 : ∀ c, F c = 0 ∨ F c = 1 := fun c => by rw [← hF]; exact bPb _
      have loop : ∀ (cc m : Nat) (c mn fs : Int), (c + 1).toNat = cc → -1 ≤ c → c + m = hI h M 2 → mn = cntF F m (c + 1) 0 → fs = fstF F m (c + 1) - 1 → k 0 0 36 [(0, vo M), (1, vi w), (2, vi mn), (3, vi fs), (4, vi c)] [] p1 := by
        intro cc
        induction cc with
        | zero =>
          intro m c mn fs hcc c0 hm e2 e3
          have hc0 : c = -1 := by omega
          subst hc0
          rw [show (-1 : Int) + 1 = 0 by omega, show m = (hI h M 2 + 1).toNat by omega] at e2 e3
          rw [← e2, ← e3] at K
          repeat (first | refine wtA (by decide) ?_ | refine wtM ?_ | refine wtL ?_ | refine step ?_ | refine Exists.intro _ (And.intro (congrFun hM _) ?_) | refine Exists.intro _ (And.intro rfl ?_) | refine And.intro rfl ?_ | refine And.intro trivial ?_ | (refine And.intro (by intro hz; exfalso; omega) ?_; intro hz9) | refine And.intro (by omega) ?_ | refine And.intro (by simp only [lnM_TAPE, lnM_SIGN, lnM_LENG, lnM_CLAU, lnM_CLSS, lnM_READ, lnM_OPEN, lnM_STCK, lnM_WORD, lnM_SAID, lnM_WASS, lnM_KEPT, lnM_FAR, lnM_WASI, lnM_OUTO, lnM_HASB, lnM_WHER, lnM_ISFI, lnM_CELT, lnM_IMGS, lnM_IMGF, lnM_IMGX, lnM_ISMA]; omega) ?_ | (refine And.intro ?_ (by intro hz; exfalso; omega); intro hz9))
          refine And.intro (fun hi => ?_) (fun hi => ?_)
          · rw [if_neg hi] at K
            repeat (first | refine wtA (by decide) ?_ | refine wtM ?_ | refine wtL ?_ | refine step ?_ | refine Exists.intro _ (And.intro (congrFun hM _) ?_) | refine Exists.intro _ (And.intro rfl ?_) | refine And.intro rfl ?_ | refine And.intro trivial ?_ | (refine And.intro (by intro hz; exfalso; omega) ?_; intro hz9) | refine And.intro (by omega) ?_ | refine And.intro (by simp only [lnM_TAPE, lnM_SIGN, lnM_LENG, lnM_CLAU, lnM_CLSS, lnM_READ, lnM_OPEN, lnM_STCK, lnM_WORD, lnM_SAID, lnM_WASS, lnM_KEPT, lnM_FAR, lnM_WASI, lnM_OUTO, lnM_HASB, lnM_WHER, lnM_ISFI, lnM_CELT, lnM_IMGS, lnM_IMGF, lnM_IMGX, lnM_ISMA]; omega) ?_ | (refine And.intro ?_ (by intro hz; exfalso; omega); intro hz9))
            exact K _ _ rfl e1 T1
          · rw [if_pos hi] at K
            repeat (first | refine wtA (by decide) ?_ | refine wtM ?_ | refine wtL ?_ | refine step ?_ | refine Exists.intro _ (And.intro (congrFun hM _) ?_) | refine Exists.intro _ (And.intro rfl ?_) | refine And.intro rfl ?_ | refine And.intro trivial ?_ | (refine And.intro (by intro hz; exfalso; omega) ?_; intro hz9) | refine And.intro (by omega) ?_ | refine And.intro (by simp only [lnM_TAPE, lnM_SIGN, lnM_LENG, lnM_CLAU, lnM_CLSS, lnM_READ, lnM_OPEN, lnM_STCK, lnM_WORD, lnM_SAID, lnM_WASS, lnM_KEPT, lnM_FAR, lnM_WASI, lnM_OUTO, lnM_HASB, lnM_WHER, lnM_ISFI, lnM_CELT, lnM_IMGS, lnM_IMGF, lnM_IMGX, lnM_ISMA]; omega) ?_ | (refine And.intro ?_ (by intro hz; exfalso; omega); intro hz9))
            exact K _ _ rfl e1 T1
        | succ cc ih =>
          intro m c mn fs hcc c0 hm e2 e3
          have eq1 : cntF F (m + 1) c 0 = (if F c = 0 then 0 else 1) + mn := by
            show cntF F m (c + 1) (0 + (if F c = 0 then 0 else 1)) = _
            rw [cntF_add, ← e2]
            omega
          have eq2 : fstF F (m + 1) c = if F c = 0 then fs + 1 else c := by
            show (if F c = 0 then fstF F m (c + 1) else c) = _
            rw [e3, show fstF F m (c + 1) - 1 + 1 = fstF F m (c + 1) by omega]
          have hxc := hx c (by omega) (by omega)
          have h01c := F01 c
          refine step ?_
          repeat (first | refine wtA (by decide) ?_ | refine wtM ?_ | refine wtL ?_ | refine step ?_ | refine Exists.intro _ (And.intro (congrFun hM _) ?_) | refine Exists.intro _ (And.intro rfl ?_) | refine And.intro rfl ?_ | refine And.intro trivial ?_ | (refine And.intro (by intro hz; exfalso; omega) ?_; intro hz9) | refine And.intro (by omega) ?_ | refine And.intro (by simp only [lnM_TAPE, lnM_SIGN, lnM_LENG, lnM_CLAU, lnM_CLSS, lnM_READ, lnM_OPEN, lnM_STCK, lnM_WORD, lnM_SAID, lnM_WASS, lnM_KEPT, lnM_FAR, lnM_WASI, lnM_OUTO, lnM_HASB, lnM_WHER, lnM_ISFI, lnM_CELT, lnM_IMGS, lnM_IMGF, lnM_IMGX, lnM_ISMA]; omega) ?_ | (refine And.intro ?_ (by intro hz; exfalso; omega); intro hz9))
          refine And.intro (fun hi => ?_) (fun hi => ?_)
          · rw [if_neg (by omega)] at eq1 eq2
            repeat (first | (exact ih (m + 1) (c + -1) _ _ (by omega) (by omega) (by omega) (by rw [show c + -1 + 1 = c by omega, eq1]; omega) (by rw [show c + -1 + 1 = c by omega, eq2])) | refine wtA (by decide) ?_ | refine wtM ?_ | refine wtL ?_ | refine step ?_ | refine Exists.intro _ (And.intro (congrFun hM _) ?_) | refine Exists.intro _ (And.intro rfl ?_) | refine And.intro rfl ?_ | refine And.intro trivial ?_ | (refine And.intro (by intro hz; exfalso; omega) ?_; intro hz9) | refine And.intro (by omega) ?_ | refine And.intro (by simp only [lnM_TAPE, lnM_SIGN, lnM_LENG, lnM_CLAU, lnM_CLSS, lnM_READ, lnM_OPEN, lnM_STCK, lnM_WORD, lnM_SAID, lnM_WASS, lnM_KEPT, lnM_FAR, lnM_WASI, lnM_OUTO, lnM_HASB, lnM_WHER, lnM_ISFI, lnM_CELT, lnM_IMGS, lnM_IMGF, lnM_IMGX, lnM_ISMA]; omega) ?_ | (refine And.intro ?_ (by intro hz; exfalso; omega); intro hz9))
          · rw [if_pos (by omega)] at eq1 eq2
            repeat (first | (exact ih (m + 1) (c + -1) _ _ (by omega) (by omega) (by omega) (by rw [show c + -1 + 1 = c by omega, eq1]; omega) (by rw [show c + -1 + 1 = c by omega, eq2]; omega)) | refine wtA (by decide) ?_ | refine wtM ?_ | refine wtL ?_ | refine step ?_ | refine Exists.intro _ (And.intro (congrFun hM _) ?_) | refine Exists.intro _ (And.intro rfl ?_) | refine And.intro rfl ?_ | refine And.intro trivial ?_ | (refine And.intro (by intro hz; exfalso; omega) ?_; intro hz9) | refine And.intro (by omega) ?_ | refine And.intro (by simp only [lnM_TAPE, lnM_SIGN, lnM_LENG, lnM_CLAU, lnM_CLSS, lnM_READ, lnM_OPEN, lnM_STCK, lnM_WORD, lnM_SAID, lnM_WASS, lnM_KEPT, lnM_FAR, lnM_WASI, lnM_OUTO, lnM_HASB, lnM_WHER, lnM_ISFI, lnM_CELT, lnM_IMGS, lnM_IMGF, lnM_IMGX, lnM_ISMA]; omega) ?_ | (refine And.intro ?_ (by intro hz; exfalso; omega); intro hz9))
      rw [show hI h M 2 = hI p1 M 2 from f2.symm] at loop
      repeat (first | (exact loop (hI p1 M 2 + 1).toNat 0 (hI p1 M 2) 0 (-2) rfl (by omega) (by omega) rfl rfl) | refine wtA (by decide) ?_ | refine wtM ?_ | refine wtL ?_ | refine step ?_ | refine Exists.intro _ (And.intro (congrFun hM _) ?_) | refine Exists.intro _ (And.intro rfl ?_) | refine And.intro rfl ?_ | refine And.intro trivial ?_ | (refine And.intro (by intro hz; exfalso; omega) ?_; intro hz9) | refine And.intro (by omega) ?_ | refine And.intro (by simp only [lnM_TAPE, lnM_SIGN, lnM_LENG, lnM_CLAU, lnM_CLSS, lnM_READ, lnM_OPEN, lnM_STCK, lnM_WORD, lnM_SAID, lnM_WASS, lnM_KEPT, lnM_FAR, lnM_WASI, lnM_OUTO, lnM_HASB, lnM_WHER, lnM_ISFI, lnM_CELT, lnM_IMGS, lnM_IMGF, lnM_IMGX, lnM_ISMA]; omega) ?_ | (refine And.intro ?_ (by intro hz; exfalso; omega); intro hz9))
    · (repeat (first | refine wtA (by decide) ?_ | refine wtM ?_ | refine wtL ?_ | refine step ?_ | refine Exists.intro _ (And.intro (congrFun hM _) ?_) | refine Exists.intro _ (And.intro rfl ?_) | refine And.intro rfl ?_ | refine And.intro trivial ?_ | (refine And.intro (by intro hz; exfalso; omega) ?_; intro hz9) | refine And.intro (by omega) ?_ | refine And.intro (by simp only [lnM_TAPE, lnM_SIGN, lnM_LENG, lnM_CLAU, lnM_CLSS, lnM_READ, lnM_OPEN, lnM_STCK, lnM_WORD, lnM_SAID, lnM_WASS, lnM_KEPT, lnM_FAR, lnM_WASI, lnM_OUTO, lnM_HASB, lnM_WHER, lnM_ISFI, lnM_CELT, lnM_IMGS, lnM_IMGF, lnM_IMGX, lnM_ISMA]; omega) ?_ | (refine And.intro ?_ (by intro hz; exfalso; omega); intro hz9))); exact K _ _ (by rw [if_neg (by omega)]) rfl TA.rf
