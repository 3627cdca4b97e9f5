/-! THE TWIN: by which rule, by which folds -/
def conF (t : Int → Int) (g : Int) : Int := if t (11 + 7 * g + 3) = 0 then t (11 + 7 * g) else -1
theorem t_cellOn {d : Nat} {h : AH} {Φ : OUT → AH → Prop} {b g : Int} (hM : hP h M = MP) (hA : GA b (hI h mSAID)) (h0 : 0 ≤ g) (h1 : g < 5) (K : Φ (.inl (some (vi (conF (hI h mSAID) g)))) h) : CT (d + 3) 0 0 J_X4_cellOn [vo M, vi g] h Φ := by
  refine e_X4_cellOn ?_; intro k step keep
  have st := hA.st h0 h1
  unfold conF at K
  repeat (first | refine wtA (by decide) ?_ | refine wtM ?_ | refine wtL ?_ | refine step ?_ | refine Exists.intro _ (And.intro (congrFun hM _) ?_) | refine Exists.intro _ (And.intro rfl ?_) | refine And.intro rfl ?_ | refine And.intro trivial ?_ | (refine And.intro (by intro hz; exfalso; omega) ?_; intro hz9) | refine And.intro (by omega) ?_ | refine And.intro (by simp only [lnM_TAPE, lnM_SIGN, lnM_LENG, lnM_CLAU, lnM_CLSS, lnM_READ, lnM_OPEN, lnM_STCK, lnM_WORD, lnM_SAID, lnM_WASS, lnM_KEPT, lnM_FAR, lnM_WASI, lnM_OUTO, lnM_HASB, lnM_WHER, lnM_ISFI, lnM_CELT, lnM_IMGS, lnM_IMGF, lnM_IMGX, lnM_ISMA]; omega) ?_ | (refine And.intro ?_ (by intro hz; exfalso; omega); intro hz9))
  refine Or.inl (t_isOn hM h0 h1 (by omega) ?_)
  by_cases hc : (hI h mSAID) (11 + 7 * g + 3) = 0
  · rw [if_pos hc] at K ⊢
    repeat (first | refine wtA (by decide) ?_ | refine wtM ?_ | refine wtL ?_ | refine step ?_ | refine Exists.intro _ (And.intro (congrFun hM _) ?_) | refine Exists.intro _ (And.intro rfl ?_) | refine And.intro rfl ?_ | refine And.intro trivial ?_ | (refine And.intro (by intro hz; exfalso; omega) ?_; intro hz9) | refine And.intro (by omega) ?_ | refine And.intro (by simp only [lnM_TAPE, lnM_SIGN, lnM_LENG, lnM_CLAU, lnM_CLSS, lnM_READ, lnM_OPEN, lnM_STCK, lnM_WORD, lnM_SAID, lnM_WASS, lnM_KEPT, lnM_FAR, lnM_WASI, lnM_OUTO, lnM_HASB, lnM_WHER, lnM_ISFI, lnM_CELT, lnM_IMGS, lnM_IMGF, lnM_IMGX, lnM_ISMA]; omega) ?_ | (refine And.intro ?_ (by intro hz; exfalso; omega); intro hz9))
    refine Or.inl (t_cellOf hM h0 h1 ?_)
    repeat (first | refine wtA (by decide) ?_ | refine wtM ?_ | refine wtL ?_ | refine step ?_ | refine Exists.intro _ (And.intro (congrFun hM _) ?_) | refine Exists.intro _ (And.intro rfl ?_) | refine And.intro rfl ?_ | refine And.intro trivial ?_ | (refine And.intro (by intro hz; exfalso; omega) ?_; intro hz9) | refine And.intro (by omega) ?_ | refine And.intro (by simp only [lnM_TAPE, lnM_SIGN, lnM_LENG, lnM_CLAU, lnM_CLSS, lnM_READ, lnM_OPEN, lnM_STCK, lnM_WORD, lnM_SAID, lnM_WASS, lnM_KEPT, lnM_FAR, lnM_WASI, lnM_OUTO, lnM_HASB, lnM_WHER, lnM_ISFI, lnM_CELT, lnM_IMGS, lnM_IMGF, lnM_IMGX, lnM_ISMA]; omega) ?_ | (refine And.intro ?_ (by intro hz; exfalso; omega); intro hz9))
    exact K
  · rw [if_neg hc] at K ⊢
    repeat (first | refine wtA (by decide) ?_ | refine wtM ?_ | refine wtL ?_ | refine step ?_ | refine Exists.intro _ (And.intro (congrFun hM _) ?_) | refine Exists.intro _ (And.intro rfl ?_) | refine And.intro rfl ?_ | refine And.intro trivial ?_ | (refine And.intro (by intro hz; exfalso; omega) ?_; intro hz9) | refine And.intro (by omega) ?_ | refine And.intro (by simp only [lnM_TAPE, lnM_SIGN, lnM_LENG, lnM_CLAU, lnM_CLSS, lnM_READ, lnM_OPEN, lnM_STCK, lnM_WORD, lnM_SAID, lnM_WASS, lnM_KEPT, lnM_FAR, lnM_WASI, lnM_OUTO, lnM_HASB, lnM_WHER, lnM_ISFI, lnM_CELT, lnM_IMGS, lnM_IMGF, lnM_IMGX, lnM_ISMA]; omega) ?_ | (refine And.intro ?_ (by intro hz; exfalso; omega); intro hz9))
    exact K
def NT (s : Int → Int) : Prop := (0 ≤ s 175 ∧ s 175 ≤ 10) ∧ ∀ i, 0 ≤ i → i < s 175 → (0 ≤ s (145 + 3 * i) ∧ s (145 + 3 * i) ≤ 60) ∧ (0 ≤ s (145 + 3 * i + 1) ∧ s (145 + 3 * i + 1) < 5) ∧ -1 ≤ s (145 + 3 * i + 2) ∧ s (145 + 3 * i + 2) < 36
def ntP (t : Int → Int) (n : Int) : Prop := ∀ i, 0 ≤ i → i < t 175 → t (145 + 3 * i) = n → conF t (t (145 + 3 * i + 1)) = t (145 + 3 * i + 2)
theorem conF_ok {b g : Int} {s : Int → Int} (hA : GA b s) (h0 : 0 ≤ g) (h1 : g < 5) : -1 ≤ conF s g ∧ conF s g < 36 := by
  have := hA.ce h0 h1
  unfold conF
  split <;> omega
theorem t_areNotesSo {d : Nat} {h : AH} {Φ : OUT → AH → Prop} {b n : Int} (hM : hP h M = MP) (hA : GA b (hI h mSAID)) (hN : NT (hI h mSAID)) (hn : iR n) (K : Φ (.inl (some (vi (bP (ntP (hI h mSAID) n))))) h) : CT (d + 4) 0 0 J_X4_areNotesSo [vo M, vi n] h Φ := by
  refine e_X4_areNotesSo ?_; intro k step keep
  obtain ⟨⟨n0, n1⟩, hN⟩ := hN
  have loop : ∀ (m : Nat) (i j : Int), j = 3 * i → 0 ≤ i → i + m = (hI h mSAID) 175 → (∀ x, 0 ≤ x → x < i → (hI h mSAID) (145 + 3 * x) = n → conF (hI h mSAID) ((hI h mSAID) (145 + 3 * x + 1)) = (hI h mSAID) (145 + 3 * x + 2)) → k 0 0 2 [(0, vo M), (1, vi n), (2, vi j)] [] h := by
    intro m
    induction m with
    | zero =>
      intro i j ej i0 hm hx
      rw [bP1 (show ntP (hI h mSAID) n from fun x x0 x1 => hx x x0 (by omega))] at K
      repeat (first | refine wtA (by decide) ?_ | refine wtM ?_ | refine wtL ?_ | refine step ?_ | refine Exists.intro _ (And.intro (congrFun hM _) ?_) | refine Exists.intro _ (And.intro rfl ?_) | refine And.intro rfl ?_ | refine And.intro trivial ?_ | (refine And.intro (by intro hz; exfalso; omega) ?_; intro hz9) | refine And.intro (by omega) ?_ | refine And.intro (by simp only [lnM_TAPE, lnM_SIGN, lnM_LENG, lnM_CLAU, lnM_CLSS, lnM_READ, lnM_OPEN, lnM_STCK, lnM_WORD, lnM_SAID, lnM_WASS, lnM_KEPT, lnM_FAR, lnM_WASI, lnM_OUTO, lnM_HASB, lnM_WHER, lnM_ISFI, lnM_CELT, lnM_IMGS, lnM_IMGF, lnM_IMGX, lnM_ISMA]; omega) ?_ | (refine And.intro ?_ (by intro hz; exfalso; omega); intro hz9))
      exact K
    | succ m ih =>
      intro i j ej i0 hm hx
      obtain ⟨y1, y2, y3⟩ := hN i i0 (by omega)
      have y4 := conF_ok hA y2.1 y2.2
      subst ej
      refine step ?_
      repeat (first | refine wtA (by decide) ?_ | refine wtM ?_ | refine wtL ?_ | refine step ?_ | refine Exists.intro _ (And.intro (congrFun hM _) ?_) | refine Exists.intro _ (And.intro rfl ?_) | refine And.intro rfl ?_ | refine And.intro trivial ?_ | (refine And.intro (by intro hz; exfalso; omega) ?_; intro hz9) | refine And.intro (by omega) ?_ | refine And.intro (by simp only [lnM_TAPE, lnM_SIGN, lnM_LENG, lnM_CLAU, lnM_CLSS, lnM_READ, lnM_OPEN, lnM_STCK, lnM_WORD, lnM_SAID, lnM_WASS, lnM_KEPT, lnM_FAR, lnM_WASI, lnM_OUTO, lnM_HASB, lnM_WHER, lnM_ISFI, lnM_CELT, lnM_IMGS, lnM_IMGF, lnM_IMGX, lnM_ISMA]; omega) ?_ | (refine And.intro ?_ (by intro hz; exfalso; omega); intro hz9))
      refine And.intro (fun hc => ?_) (fun hc => ?_)
      · repeat (first | (exact ih (i + 1) _ (by omega) (by omega) (by omega) (fun x x0 x1 e => by
          by_cases hx2 : x = i
          · rw [hx2] at e; exact absurd e hc
          · exact hx x x0 (by omega) e)) | refine wtA (by decide) ?_ | refine wtM ?_ | refine wtL ?_ | refine step ?_ | refine Exists.intro _ (And.intro (congrFun hM _) ?_) | refine Exists.intro _ (And.intro rfl ?_) | refine And.intro rfl ?_ | refine And.intro trivial ?_ | (refine And.intro (by intro hz; exfalso; omega) ?_; intro hz9) | refine And.intro (by omega) ?_ | refine And.intro (by simp only [lnM_TAPE, lnM_SIGN, lnM_LENG, lnM_CLAU, lnM_CLSS, lnM_READ, lnM_OPEN, lnM_STCK, lnM_WORD, lnM_SAID, lnM_WASS, lnM_KEPT, lnM_FAR, lnM_WASI, lnM_OUTO, lnM_HASB, lnM_WHER, lnM_ISFI, lnM_CELT, lnM_IMGS, lnM_IMGF, lnM_IMGX, lnM_ISMA]; omega) ?_ | (refine And.intro ?_ (by intro hz; exfalso; omega); intro hz9))
      · repeat (first | refine wtA (by decide) ?_ | refine wtM ?_ | refine wtL ?_ | refine step ?_ | refine Exists.intro _ (And.intro (congrFun hM _) ?_) | refine Exists.intro _ (And.intro rfl ?_) | refine And.intro rfl ?_ | refine And.intro trivial ?_ | (refine And.intro (by intro hz; exfalso; omega) ?_; intro hz9) | refine And.intro (by omega) ?_ | refine And.intro (by simp only [lnM_TAPE, lnM_SIGN, lnM_LENG, lnM_CLAU, lnM_CLSS, lnM_READ, lnM_OPEN, lnM_STCK, lnM_WORD, lnM_SAID, lnM_WASS, lnM_KEPT, lnM_FAR, lnM_WASI, lnM_OUTO, lnM_HASB, lnM_WHER, lnM_ISFI, lnM_CELT, lnM_IMGS, lnM_IMGF, lnM_IMGX, lnM_ISMA]; omega) ?_ | (refine And.intro ?_ (by intro hz; exfalso; omega); intro hz9))
        refine Or.inl (t_cellOn hM hA (by omega) (by omega) ?_)
        repeat (first | refine wtA (by decide) ?_ | refine wtM ?_ | refine wtL ?_ | refine step ?_ | refine Exists.intro _ (And.intro (congrFun hM _) ?_) | refine Exists.intro _ (And.intro rfl ?_) | refine And.intro rfl ?_ | refine And.intro trivial ?_ | (refine And.intro (by intro hz; exfalso; omega) ?_; intro hz9) | refine And.intro (by omega) ?_ | refine And.intro (by simp only [lnM_TAPE, lnM_SIGN, lnM_LENG, lnM_CLAU, lnM_CLSS, lnM_READ, lnM_OPEN, lnM_STCK, lnM_WORD, lnM_SAID, lnM_WASS, lnM_KEPT, lnM_FAR, lnM_WASI, lnM_OUTO, lnM_HASB, lnM_WHER, lnM_ISFI, lnM_CELT, lnM_IMGS, lnM_IMGF, lnM_IMGX, lnM_ISMA]; omega) ?_ | (refine And.intro ?_ (by intro hz; exfalso; omega); intro hz9))
        refine And.intro (fun hd => ?_) (fun hd => ?_)
        · repeat (first | (exact ih (i + 1) _ (by omega) (by omega) (by omega) (fun x x0 x1 e => by
            by_cases hx2 : x = i
            · rw [hx2]; exact hd
            · exact hx x x0 (by omega) e)) | refine wtA (by decide) ?_ | refine wtM ?_ | refine wtL ?_ | refine step ?_ | refine Exists.intro _ (And.intro (congrFun hM _) ?_) | refine Exists.intro _ (And.intro rfl ?_) | refine And.intro rfl ?_ | refine And.intro trivial ?_ | (refine And.intro (by intro hz; exfalso; omega) ?_; intro hz9) | refine And.intro (by omega) ?_ | refine And.intro (by simp only [lnM_TAPE, lnM_SIGN, lnM_LENG, lnM_CLAU, lnM_CLSS, lnM_READ, lnM_OPEN, lnM_STCK, lnM_WORD, lnM_SAID, lnM_WASS, lnM_KEPT, lnM_FAR, lnM_WASI, lnM_OUTO, lnM_HASB, lnM_WHER, lnM_ISFI, lnM_CELT, lnM_IMGS, lnM_IMGF, lnM_IMGX, lnM_ISMA]; omega) ?_ | (refine And.intro ?_ (by intro hz; exfalso; omega); intro hz9))
        · rw [bP0 (show ¬ ntP (hI h mSAID) n from fun z => hd (z i i0 (by omega) hc))] at K
          repeat (first | refine wtA (by decide) ?_ | refine wtM ?_ | refine wtL ?_ | refine step ?_ | refine Exists.intro _ (And.intro (congrFun hM _) ?_) | refine Exists.intro _ (And.intro rfl ?_) | refine And.intro rfl ?_ | refine And.intro trivial ?_ | (refine And.intro (by intro hz; exfalso; omega) ?_; intro hz9) | refine And.intro (by omega) ?_ | refine And.intro (by simp only [lnM_TAPE, lnM_SIGN, lnM_LENG, lnM_CLAU, lnM_CLSS, lnM_READ, lnM_OPEN, lnM_STCK, lnM_WORD, lnM_SAID, lnM_WASS, lnM_KEPT, lnM_FAR, lnM_WASI, lnM_OUTO, lnM_HASB, lnM_WHER, lnM_ISFI, lnM_CELT, lnM_IMGS, lnM_IMGF, lnM_IMGX, lnM_ISMA]; omega) ?_ | (refine And.intro ?_ (by intro hz; exfalso; omega); intro hz9))
          exact K
  repeat (first | (exact loop ((hI h mSAID) 175).toNat 0 0 (by omega) (by omega) (by omega) (fun x x0 x1 => by omega)) | refine wtA (by decide) ?_ | refine wtM ?_ | refine wtL ?_ | refine step ?_ | refine Exists.intro _ (And.intro (congrFun hM _) ?_) | refine Exists.intro _ (And.intro rfl ?_) | refine And.intro rfl ?_ | refine And.intro trivial ?_ | (refine And.intro (by intro hz; exfalso; omega) ?_; intro hz9) | refine And.intro (by omega) ?_ | refine And.intro (by simp only [lnM_TAPE, lnM_SIGN, lnM_LENG, lnM_CLAU, lnM_CLSS, lnM_READ, lnM_OPEN, lnM_STCK, lnM_WORD, lnM_SAID, lnM_WASS, lnM_KEPT, lnM_FAR, lnM_WASI, lnM_OUTO, lnM_HASB, lnM_WHER, lnM_ISFI, lnM_CELT, lnM_IMGS, lnM_IMGF, lnM_IMGX, lnM_ISMA]; omega) ?_ | (refine And.intro ?_ (by intro hz; exfalso; omega); intro hz9))
def allP (q : (Int → Int) → Int → Int) (t : Int → Int) : Prop := ∀ n : Int, 0 ≤ n → n ≤ 60 → ntP (passN q n.toNat t) n
theorem passN_NT {q : (Int → Int) → Int → Int} (hq : QOK q) {n : Nat} {s : Int → Int} {b : Int} (hA : GA b s) (hb : b + n ≤ 100000) (hN : NT s) : NT (passN q n s) := by
  have o : ∀ m, 46 ≤ m → passN q n s m = s m := fun m hm => passN_out hq n s b m hA hb (by omega)
  refine ⟨by rw [o 175 (by omega)]; exact hN.1, fun i i0 i1 => ?_⟩
  rw [o 175 (by omega)] at i1
  rw [o _ (by omega), o _ (by omega), o _ (by omega)]
  exact hN.2 i i0 i1
theorem t_areAllSo {d : Nat} {h : AH} {Φ : OUT → AH → Prop} {q : (Int → Int) → Int → Int} {b r th : Int} (hM : hP h M = MP) (hq : QOK q) (hA : GA b (hI h mSAID)) (hb : b ≤ 2000) (hN : NT (hI h mSAID)) (HQ : HQu q h) (r0 : 0 ≤ r) (r6 : r ≤ 6) (hth : iR th)
    (K : ∀ p v, v = bP (allP q (hI h mSAID)) → (hI p mSAID) = passN q 61 (hI h mSAID) → (∀ m, hI p mCELT m = if 5 * r ≤ m ∧ m < 5 * r + 5 ∧ 0 ≤ th ∧ th ≤ 60 then conF (passN q th.toNat (hI h mSAID)) (m - 5 * r) else hI h mCELT m) → TA [mSAID, mWORD, mSTCK, mCELT] [18] h p → Φ (.inl (some (vi v))) p) : CT (d + 9) 0 0 J_X4_areAllSo [vo M, vi r, vi th] h Φ := by
  refine e_X4_areAllSo ?_; intro k step keep
  have hG : ∀ j : Int, 0 ≤ j → j ≤ 61 → GA (b + 61) (passN q j.toNat (hI h mSAID)) := fun j j0 j1 => by
    have := passN_GA hq j.toNat (hI h mSAID) b hA (by omega)
    exact ⟨this.1, by have := this.2.1; omega, fun g g0 g1 => GG_le (by omega) (this.2.2 g g0 g1)⟩
  have loop : ∀ (m : Nat) (i v : Int) (p : AH), hP p M = MP → 0 ≤ i → i + m = 61 → (hI p mSAID) = passN q i.toNat (hI h mSAID) → v = bP (∀ n : Int, 0 ≤ n → n < i → ntP (passN q n.toNat (hI h mSAID)) n) → (∀ m, hI p mCELT m = if 5 * r ≤ m ∧ m < 5 * r + 5 ∧ 0 ≤ th ∧ th < i then conF (passN q th.toNat (hI h mSAID)) (m - 5 * r) else hI h mCELT m) → TA [mSAID, mWORD, mSTCK, mCELT] [18] h p → k 0 0 5 [(0, vo M), (1, vi r), (2, vi th), (3, vi v), (4, vi i)] [] p := by
    intro m
    induction m with
    | zero =>
      intro i v p hM i0 hm es hv hx T
      have hi : i = 61 := by omega
      subst hi
      have hv01 := bPb (∀ n : Int, 0 ≤ n → n < 61 → ntP (passN q n.toNat (hI h mSAID)) n)
      rw [← hv] at hv01
      repeat (first | refine wtA (by decide) ?_ | refine wtM ?_ | refine wtL ?_ | refine step ?_ | refine Exists.intro _ (And.intro (congrFun hM _) ?_) | refine Exists.intro _ (And.intro rfl ?_) | refine And.intro rfl ?_ | refine And.intro trivial ?_ | (refine And.intro (by intro hz; exfalso; omega) ?_; intro hz9) | refine And.intro (by omega) ?_ | refine And.intro (by simp only [lnM_TAPE, lnM_SIGN, lnM_LENG, lnM_CLAU, lnM_CLSS, lnM_READ, lnM_OPEN, lnM_STCK, lnM_WORD, lnM_SAID, lnM_WASS, lnM_KEPT, lnM_FAR, lnM_WASI, lnM_OUTO, lnM_HASB, lnM_WHER, lnM_ISFI, lnM_CELT, lnM_IMGS, lnM_IMGF, lnM_IMGX, lnM_ISMA]; omega) ?_ | (refine And.intro ?_ (by intro hz; exfalso; omega); intro hz9))
      refine K p v ?_ es ?_ T
      · rw [hv]
        have : (∀ n : Int, 0 ≤ n → n < 61 → ntP (passN q n.toNat (hI h mSAID)) n) = allP q (hI h mSAID) := propext ⟨fun z n n0 n1 => z n n0 (by omega), fun z n n0 n1 => z n n0 (by omega)⟩
        rw [this]
      · intro m
        rw [hx m]
        by_cases hc : 5 * r ≤ m ∧ m < 5 * r + 5 ∧ 0 ≤ th ∧ th < 61
        · rw [if_pos hc, if_pos (by omega)]
        · rw [if_neg hc, if_neg (by omega)]
    | succ m ih =>
      intro i v p hM i0 hm es hv hx T
      have hAp : GA (b + 61) (hI p mSAID) := by rw [es]; exact hG i (by omega) (by omega)
      have hNp : NT (hI p mSAID) := by rw [es]; exact passN_NT hq hA (by omega) hN
      have hv01 := bPb (∀ n : Int, 0 ≤ n → n < i → ntP (passN q n.toNat (hI h mSAID)) n)
      rw [← hv] at hv01
      have pas : ∀ (v2 : Int) (p2 : AH), (hI p2 mSAID) = (hI p mSAID) → v2 = bP (∀ n : Int, 0 ≤ n → n < i + 1 → ntP (passN q n.toNat (hI h mSAID)) n) → (∀ m, hI p2 mCELT m = if 5 * r ≤ m ∧ m < 5 * r + 5 ∧ 0 ≤ th ∧ th < i + 1 then conF (passN q th.toNat (hI h mSAID)) (m - 5 * r) else hI h mCELT m) → TA [mSAID, mWORD, mSTCK, mCELT] [18] h p2 → k 0 0 69 [(0, vo M), (1, vi r), (2, vi th), (3, vi v2), (4, vi i)] [] p2 := by
        intro v2 p2 es2 hv2 hx2 T2
        have hM := T2.m ‹hP h M = MP›
        have hA2 := hAp
        rw [← es2] at hA2
        repeat (first | refine wtA (by decide) ?_ | refine wtM ?_ | refine wtL ?_ | refine step ?_ | refine Exists.intro _ (And.intro (congrFun hM _) ?_) | refine Exists.intro _ (And.intro rfl ?_) | refine And.intro rfl ?_ | refine And.intro trivial ?_ | (refine And.intro (by intro hz; exfalso; omega) ?_; intro hz9) | refine And.intro (by omega) ?_ | refine And.intro (by simp only [lnM_TAPE, lnM_SIGN, lnM_LENG, lnM_CLAU, lnM_CLSS, lnM_READ, lnM_OPEN, lnM_STCK, lnM_WORD, lnM_SAID, lnM_WASS, lnM_KEPT, lnM_FAR, lnM_WASI, lnM_OUTO, lnM_HASB, lnM_WHER, lnM_ISFI, lnM_CELT, lnM_IMGS, lnM_IMGF, lnM_IMGX, lnM_ISMA]; omega) ?_ | (refine And.intro ?_ (by intro hz; exfalso; omega); intro hz9))
        refine Or.inl (t_passes hM hq hA2 (by omega) (HQ _ p2 (T2.up (by decide) (by decide))) (fun p3 e3 T3 => ?_))
        have e3' : (hI p3 mSAID) = passN q (i + 1).toNat (hI h mSAID) := by
          rw [e3, es2, es, show (i + 1).toNat = i.toNat + 1 by omega, passN_succ]
        repeat (first | (exact ih (i + 1) v2 p3 (T3.m hM) (by omega) (by omega) e3' hv2 (fun m => by rw [T3.i (by decide) (by decide)]; exact hx2 m) (T2.tr (T3.up (by decide) (by decide)))) | refine wtA (by decide) ?_ | refine wtM ?_ | refine wtL ?_ | refine step ?_ | refine Exists.intro _ (And.intro (congrFun hM _) ?_) | refine Exists.intro _ (And.intro rfl ?_) | refine And.intro rfl ?_ | refine And.intro trivial ?_ | (refine And.intro (by intro hz; exfalso; omega) ?_; intro hz9) | refine And.intro (by omega) ?_ | refine And.intro (by simp only [lnM_TAPE, lnM_SIGN, lnM_LENG, lnM_CLAU, lnM_CLSS, lnM_READ, lnM_OPEN, lnM_STCK, lnM_WORD, lnM_SAID, lnM_WASS, lnM_KEPT, lnM_FAR, lnM_WASI, lnM_OUTO, lnM_HASB, lnM_WHER, lnM_ISFI, lnM_CELT, lnM_IMGS, lnM_IMGF, lnM_IMGX, lnM_ISMA]; omega) ?_ | (refine And.intro ?_ (by intro hz; exfalso; omega); intro hz9))
      have cel : ∀ (v2 : Int), v2 = bP (∀ n : Int, 0 ≤ n → n < i + 1 → ntP (passN q n.toNat (hI h mSAID)) n) → k 0 0 30 [(0, vo M), (1, vi r), (2, vi th), (3, vi v), (4, vi i)] [vi v2] p := by
        intro v2 hv2
        by_cases ht : i = th
        · have inner : ∀ (j : Nat) (g : Int) (p2 : AH), hP p2 M = MP → 0 ≤ g → g + j = 5 → (hI p2 mSAID) = (hI p mSAID) → (∀ m, hI p2 mCELT m = if 5 * r ≤ m ∧ m < 5 * r + g then conF (passN q th.toNat (hI h mSAID)) (m - 5 * r) else hI h mCELT m) → TA [mSAID, mWORD, mSTCK, mCELT] [18] h p2 → k 0 0 34 [(0, vo M), (1, vi r), (2, vi th), (3, vi v2), (4, vi i), (5, vi g)] [] p2 := by
            intro j
            induction j with
            | zero =>
              intro g p2 hM g0 hj es2 hx2 T2
              repeat (first | (exact keep [0, 1, 2, 3, 4] (pas v2 p2 es2 hv2 (fun m => by
                rw [hx2 m]
                by_cases hc : 5 * r ≤ m ∧ m < 5 * r + g
                · rw [if_pos hc, if_pos (by omega)]
                · rw [if_neg hc, if_neg (by omega)]) T2)) | refine wtA (by decide) ?_ | refine wtM ?_ | refine wtL ?_ | refine step ?_ | refine Exists.intro _ (And.intro (congrFun hM _) ?_) | refine Exists.intro _ (And.intro rfl ?_) | refine And.intro rfl ?_ | refine And.intro trivial ?_ | (refine And.intro (by intro hz; exfalso; omega) ?_; intro hz9) | refine And.intro (by omega) ?_ | refine And.intro (by simp only [lnM_TAPE, lnM_SIGN, lnM_LENG, lnM_CLAU, lnM_CLSS, lnM_READ, lnM_OPEN, lnM_STCK, lnM_WORD, lnM_SAID, lnM_WASS, lnM_KEPT, lnM_FAR, lnM_WASI, lnM_OUTO, lnM_HASB, lnM_WHER, lnM_ISFI, lnM_CELT, lnM_IMGS, lnM_IMGF, lnM_IMGX, lnM_ISMA]; omega) ?_ | (refine And.intro ?_ (by intro hz; exfalso; omega); intro hz9))
            | succ j ih2 =>
              intro g p2 hM g0 hj es2 hx2 T2
              have hA2 := hAp
              rw [← es2] at hA2
              refine step ?_
              repeat (first | refine wtA (by decide) ?_ | refine wtM ?_ | refine wtL ?_ | refine step ?_ | refine Exists.intro _ (And.intro (congrFun hM _) ?_) | refine Exists.intro _ (And.intro rfl ?_) | refine And.intro rfl ?_ | refine And.intro trivial ?_ | (refine And.intro (by intro hz; exfalso; omega) ?_; intro hz9) | refine And.intro (by omega) ?_ | refine And.intro (by simp only [lnM_TAPE, lnM_SIGN, lnM_LENG, lnM_CLAU, lnM_CLSS, lnM_READ, lnM_OPEN, lnM_STCK, lnM_WORD, lnM_SAID, lnM_WASS, lnM_KEPT, lnM_FAR, lnM_WASI, lnM_OUTO, lnM_HASB, lnM_WHER, lnM_ISFI, lnM_CELT, lnM_IMGS, lnM_IMGF, lnM_IMGX, lnM_ISMA]; omega) ?_ | (refine And.intro ?_ (by intro hz; exfalso; omega); intro hz9))
              refine Or.inl (t_cellOn hM hA2 (by omega) (by omega) ?_)
              repeat (first | refine wtA (by decide) ?_ | refine wtM ?_ | refine wtL ?_ | refine step ?_ | refine Exists.intro _ (And.intro (congrFun hM _) ?_) | refine Exists.intro _ (And.intro rfl ?_) | refine And.intro rfl ?_ | refine And.intro trivial ?_ | (refine And.intro (by intro hz; exfalso; omega) ?_; intro hz9) | refine And.intro (by omega) ?_ | refine And.intro (by simp only [lnM_TAPE, lnM_SIGN, lnM_LENG, lnM_CLAU, lnM_CLSS, lnM_READ, lnM_OPEN, lnM_STCK, lnM_WORD, lnM_SAID, lnM_WASS, lnM_KEPT, lnM_FAR, lnM_WASI, lnM_OUTO, lnM_HASB, lnM_WHER, lnM_ISFI, lnM_CELT, lnM_IMGS, lnM_IMGF, lnM_IMGX, lnM_ISMA]; omega) ?_ | (refine And.intro ?_ (by intro hz; exfalso; omega); intro hz9))
              intro p3 e3 T3; have hM := T3.m hM
              rw [es2, es, ht] at e3
              repeat (first | (exact ih2 (g + 1) p3 hM (by omega) (by omega) (by rw [T3.i (by decide) (by decide)]; exact es2) (fun m => by
                rw [e3]
                show (if m = 5 * r + g then conF (passN q th.toNat (hI h mSAID)) g else hI p2 mCELT m) = _
                rw [hx2 m]
                by_cases hc : m = 5 * r + g
                · rw [if_pos hc, if_pos (by omega), show m - 5 * r = g by omega]
                · rw [if_neg hc]
                  by_cases hd : 5 * r ≤ m ∧ m < 5 * r + g
                  · rw [if_pos hd, if_pos (by omega)]
                  · rw [if_neg hd, if_neg (by omega)]) (T2.tr (T3.up (by decide) (by decide)))) | refine wtA (by decide) ?_ | refine wtM ?_ | refine wtL ?_ | refine step ?_ | refine Exists.intro _ (And.intro (congrFun hM _) ?_) | refine Exists.intro _ (And.intro rfl ?_) | refine And.intro rfl ?_ | refine And.intro trivial ?_ | (refine And.intro (by intro hz; exfalso; omega) ?_; intro hz9) | refine And.intro (by omega) ?_ | refine And.intro (by simp only [lnM_TAPE, lnM_SIGN, lnM_LENG, lnM_CLAU, lnM_CLSS, lnM_READ, lnM_OPEN, lnM_STCK, lnM_WORD, lnM_SAID, lnM_WASS, lnM_KEPT, lnM_FAR, lnM_WASI, lnM_OUTO, lnM_HASB, lnM_WHER, lnM_ISFI, lnM_CELT, lnM_IMGS, lnM_IMGF, lnM_IMGX, lnM_ISMA]; omega) ?_ | (refine And.intro ?_ (by intro hz; exfalso; omega); intro hz9))
          repeat (first | (exact inner 5 0 p hM (by omega) (by omega) rfl (fun m => by rw [hx m, if_neg (by omega), if_neg (by omega)]) T) | refine wtA (by decide) ?_ | refine wtM ?_ | refine wtL ?_ | refine step ?_ | refine Exists.intro _ (And.intro (congrFun hM _) ?_) | refine Exists.intro _ (And.intro rfl ?_) | refine And.intro rfl ?_ | refine And.intro trivial ?_ | (refine And.intro (by intro hz; exfalso; omega) ?_; intro hz9) | refine And.intro (by omega) ?_ | refine And.intro (by simp only [lnM_TAPE, lnM_SIGN, lnM_LENG, lnM_CLAU, lnM_CLSS, lnM_READ, lnM_OPEN, lnM_STCK, lnM_WORD, lnM_SAID, lnM_WASS, lnM_KEPT, lnM_FAR, lnM_WASI, lnM_OUTO, lnM_HASB, lnM_WHER, lnM_ISFI, lnM_CELT, lnM_IMGS, lnM_IMGF, lnM_IMGX, lnM_ISMA]; omega) ?_ | (refine And.intro ?_ (by intro hz; exfalso; omega); intro hz9))
        · have hx2 : ∀ m, hI p mCELT m = if 5 * r ≤ m ∧ m < 5 * r + 5 ∧ 0 ≤ th ∧ th < i + 1 then conF (passN q th.toNat (hI h mSAID)) (m - 5 * r) else hI h mCELT m := fun m => by
            rw [hx m]
            by_cases hc : 5 * r ≤ m ∧ m < 5 * r + 5 ∧ 0 ≤ th ∧ th < i
            · rw [if_pos hc, if_pos (by omega)]
            · rw [if_neg hc, if_neg (by omega)]
          repeat (first | (exact keep [0, 1, 2, 3, 4] (pas v2 p rfl hv2 hx2 T)) | refine wtA (by decide) ?_ | refine wtM ?_ | refine wtL ?_ | refine step ?_ | refine Exists.intro _ (And.intro (congrFun hM _) ?_) | refine Exists.intro _ (And.intro rfl ?_) | refine And.intro rfl ?_ | refine And.intro trivial ?_ | (refine And.intro (by intro hz; exfalso; omega) ?_; intro hz9) | refine And.intro (by omega) ?_ | refine And.intro (by simp only [lnM_TAPE, lnM_SIGN, lnM_LENG, lnM_CLAU, lnM_CLSS, lnM_READ, lnM_OPEN, lnM_STCK, lnM_WORD, lnM_SAID, lnM_WASS, lnM_KEPT, lnM_FAR, lnM_WASI, lnM_OUTO, lnM_HASB, lnM_WHER, lnM_ISFI, lnM_CELT, lnM_IMGS, lnM_IMGF, lnM_IMGX, lnM_ISMA]; omega) ?_ | (refine And.intro ?_ (by intro hz; exfalso; omega); intro hz9))
      have both : (∀ n : Int, 0 ≤ n → n < i + 1 → ntP (passN q n.toNat (hI h mSAID)) n) = ((∀ n : Int, 0 ≤ n → n < i → ntP (passN q n.toNat (hI h mSAID)) n) ∧ ntP (hI p mSAID) i) := by
        rw [es]
        refine propext ⟨fun z => ⟨fun n n0 n1 => z n n0 (by omega), z i (by omega) (by omega)⟩, fun z n n0 n1 => ?_⟩
        by_cases hc : n = i
        · rw [hc]; exact z.2
        · exact z.1 n n0 (by omega)
      rw [both] at cel
      refine step ?_
      repeat (first | refine wtA (by decide) ?_ | refine wtM ?_ | refine wtL ?_ | refine step ?_ | refine Exists.intro _ (And.intro (congrFun hM _) ?_) | refine Exists.intro _ (And.intro rfl ?_) | refine And.intro rfl ?_ | refine And.intro trivial ?_ | (refine And.intro (by intro hz; exfalso; omega) ?_; intro hz9) | refine And.intro (by omega) ?_ | refine And.intro (by simp only [lnM_TAPE, lnM_SIGN, lnM_LENG, lnM_CLAU, lnM_CLSS, lnM_READ, lnM_OPEN, lnM_STCK, lnM_WORD, lnM_SAID, lnM_WASS, lnM_KEPT, lnM_FAR, lnM_WASI, lnM_OUTO, lnM_HASB, lnM_WHER, lnM_ISFI, lnM_CELT, lnM_IMGS, lnM_IMGF, lnM_IMGX, lnM_ISMA]; omega) ?_ | (refine And.intro ?_ (by intro hz; exfalso; omega); intro hz9))
      refine And.intro (fun hc => ?_) (fun hc => ?_)
      · have hno : ¬ (∀ n : Int, 0 ≤ n → n < i → ntP (passN q n.toNat (hI h mSAID)) n) := fun z => by rw [bP1 z] at hv; omega
        repeat (first | (exact cel 0 (by rw [bP0 (fun z => hno z.1)])) | refine wtA (by decide) ?_ | refine wtM ?_ | refine wtL ?_ | refine step ?_ | refine Exists.intro _ (And.intro (congrFun hM _) ?_) | refine Exists.intro _ (And.intro rfl ?_) | refine And.intro rfl ?_ | refine And.intro trivial ?_ | (refine And.intro (by intro hz; exfalso; omega) ?_; intro hz9) | refine And.intro (by omega) ?_ | refine And.intro (by simp only [lnM_TAPE, lnM_SIGN, lnM_LENG, lnM_CLAU, lnM_CLSS, lnM_READ, lnM_OPEN, lnM_STCK, lnM_WORD, lnM_SAID, lnM_WASS, lnM_KEPT, lnM_FAR, lnM_WASI, lnM_OUTO, lnM_HASB, lnM_WHER, lnM_ISFI, lnM_CELT, lnM_IMGS, lnM_IMGF, lnM_IMGX, lnM_ISMA]; omega) ?_ | (refine And.intro ?_ (by intro hz; exfalso; omega); intro hz9))
      · have hyes : ∀ n : Int, 0 ≤ n → n < i → ntP (passN q n.toNat (hI h mSAID)) n := Classical.byContradiction (fun z => by rw [bP0 z] at hv; omega)
        repeat (first | refine wtA (by decide) ?_ | refine wtM ?_ | refine wtL ?_ | refine step ?_ | refine Exists.intro _ (And.intro (congrFun hM _) ?_) | refine Exists.intro _ (And.intro rfl ?_) | refine And.intro rfl ?_ | refine And.intro trivial ?_ | (refine And.intro (by intro hz; exfalso; omega) ?_; intro hz9) | refine And.intro (by omega) ?_ | refine And.intro (by simp only [lnM_TAPE, lnM_SIGN, lnM_LENG, lnM_CLAU, lnM_CLSS, lnM_READ, lnM_OPEN, lnM_STCK, lnM_WORD, lnM_SAID, lnM_WASS, lnM_KEPT, lnM_FAR, lnM_WASI, lnM_OUTO, lnM_HASB, lnM_WHER, lnM_ISFI, lnM_CELT, lnM_IMGS, lnM_IMGF, lnM_IMGX, lnM_ISMA]; omega) ?_ | (refine And.intro ?_ (by intro hz; exfalso; omega); intro hz9))
        refine Or.inl (t_areNotesSo hM hAp hNp (by omega) ?_)
        have hb2 := bPb (ntP (hI p mSAID) i)
        repeat (first | refine wtA (by decide) ?_ | refine wtM ?_ | refine wtL ?_ | refine step ?_ | refine Exists.intro _ (And.intro (congrFun hM _) ?_) | refine Exists.intro _ (And.intro rfl ?_) | refine And.intro rfl ?_ | refine And.intro trivial ?_ | (refine And.intro (by intro hz; exfalso; omega) ?_; intro hz9) | refine And.intro (by omega) ?_ | refine And.intro (by simp only [lnM_TAPE, lnM_SIGN, lnM_LENG, lnM_CLAU, lnM_CLSS, lnM_READ, lnM_OPEN, lnM_STCK, lnM_WORD, lnM_SAID, lnM_WASS, lnM_KEPT, lnM_FAR, lnM_WASI, lnM_OUTO, lnM_HASB, lnM_WHER, lnM_ISFI, lnM_CELT, lnM_IMGS, lnM_IMGF, lnM_IMGX, lnM_ISMA]; omega) ?_ | (refine And.intro ?_ (by intro hz; exfalso; omega); intro hz9))
        refine And.intro (fun hd => ?_) (fun hd => ?_)
        · repeat (first | (exact cel 0 (by rw [bP0 (fun z => by rw [bP1 z.2] at hd; omega)])) | refine wtA (by decide) ?_ | refine wtM ?_ | refine wtL ?_ | refine step ?_ | refine Exists.intro _ (And.intro (congrFun hM _) ?_) | refine Exists.intro _ (And.intro rfl ?_) | refine And.intro rfl ?_ | refine And.intro trivial ?_ | (refine And.intro (by intro hz; exfalso; omega) ?_; intro hz9) | refine And.intro (by omega) ?_ | refine And.intro (by simp only [lnM_TAPE, lnM_SIGN, lnM_LENG, lnM_CLAU, lnM_CLSS, lnM_READ, lnM_OPEN, lnM_STCK, lnM_WORD, lnM_SAID, lnM_WASS, lnM_KEPT, lnM_FAR, lnM_WASI, lnM_OUTO, lnM_HASB, lnM_WHER, lnM_ISFI, lnM_CELT, lnM_IMGS, lnM_IMGF, lnM_IMGX, lnM_ISMA]; omega) ?_ | (refine And.intro ?_ (by intro hz; exfalso; omega); intro hz9))
        · repeat (first | (exact cel 1 (by rw [bP1 ⟨hyes, Classical.byContradiction (fun z => hd (bP0 z))⟩])) | refine wtA (by decide) ?_ | refine wtM ?_ | refine wtL ?_ | refine step ?_ | refine Exists.intro _ (And.intro (congrFun hM _) ?_) | refine Exists.intro _ (And.intro rfl ?_) | refine And.intro rfl ?_ | refine And.intro trivial ?_ | (refine And.intro (by intro hz; exfalso; omega) ?_; intro hz9) | refine And.intro (by omega) ?_ | refine And.intro (by simp only [lnM_TAPE, lnM_SIGN, lnM_LENG, lnM_CLAU, lnM_CLSS, lnM_READ, lnM_OPEN, lnM_STCK, lnM_WORD, lnM_SAID, lnM_WASS, lnM_KEPT, lnM_FAR, lnM_WASI, lnM_OUTO, lnM_HASB, lnM_WHER, lnM_ISFI, lnM_CELT, lnM_IMGS, lnM_IMGF, lnM_IMGX, lnM_ISMA]; omega) ?_ | (refine And.intro ?_ (by intro hz; exfalso; omega); intro hz9))
  repeat (first | (exact loop 61 0 1 h hM (by omega) (by omega) rfl (by rw [bP1 (fun n n0 n1 => by omega)]) (fun m => by rw [if_neg (by omega)]) TA.rf) | refine wtA (by decide) ?_ | refine wtM ?_ | refine wtL ?_ | refine step ?_ | refine Exists.intro _ (And.intro (congrFun hM _) ?_) | refine Exists.intro _ (And.intro rfl ?_) | refine And.intro rfl ?_ | refine And.intro trivial ?_ | (refine And.intro (by intro hz; exfalso; omega) ?_; intro hz9) | refine And.intro (by omega) ?_ | refine And.intro (by simp only [lnM_TAPE, lnM_SIGN, lnM_LENG, lnM_CLAU, lnM_CLSS, lnM_READ, lnM_OPEN, lnM_STCK, lnM_WORD, lnM_SAID, lnM_WASS, lnM_KEPT, lnM_FAR, lnM_WASI, lnM_OUTO, lnM_HASB, lnM_WHER, lnM_ISFI, lnM_CELT, lnM_IMGS, lnM_IMGF, lnM_IMGX, lnM_ISMA]; omega) ?_ | (refine And.intro ?_ (by intro hz; exfalso; omega); intro hz9))
