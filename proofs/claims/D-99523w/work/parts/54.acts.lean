/-! THE TWIN: acts kept and undone -/
/-- the oldest falls out, k of the others moved so far -/
def shF (r : Int → Int) (k : Int) : Int → Int := fun m => if 0 ≤ m ∧ m < k then r (m + 76) else r m
/-- the state written at place u, k of its numbers so far -/
def putF (r : Int → Int) (u : Int) (s : Int → Int) (k : Int) : Int → Int := fun m => if 76 * u ≤ m ∧ m < 76 * u + k then s (10 + (m - 76 * u)) else r m
theorem shF_next {r : Int → Int} {k : Int} (h0 : 0 ≤ k) : upF (shF r k) k (shF r k (k + 76)) = shF r (k + 1) := by
  funext m
  unfold shF
  simp only [upF]
  by_cases e : m = k
  · rw [if_pos e, if_neg (by omega), if_pos (by omega), e]
  · rw [if_neg e]
    by_cases e2 : 0 ≤ m ∧ m < k
    · rw [if_pos e2, if_pos (by omega)]
    · rw [if_neg e2, if_neg (by omega)]
theorem putF_next {r s : Int → Int} {u k : Int} (h0 : 0 ≤ k) : upF (putF r u s k) (76 * u + k) (s (10 + k)) = putF r u s (k + 1) := by
  funext m
  unfold putF
  simp only [upF]
  by_cases e : m = 76 * u + k
  · rw [if_pos e, if_pos (by omega), show m - 76 * u = k by omega]
  · rw [if_neg e]
    by_cases e2 : 76 * u ≤ m ∧ m < 76 * u + k
    · rw [if_pos e2, if_pos (by omega)]
    · rw [if_neg e2, if_neg (by omega)]
theorem putF_0 {r s : Int → Int} {u : Int} : putF r u s 0 = r := funext fun m => if_neg (by omega)
theorem shF_0 {r : Int → Int} : shF r 0 = r := funext fun m => if_neg (by omega)
set_option maxRecDepth 10000 in
theorem t_keepsAct {d : Nat} {h : AH} {Φ : OUT → AH → Prop} {u : Int} (hM : hP h M = MP) (hu : hI h M 24 = u) (u0 : 0 ≤ u) (u20 : u ≤ 20)
    (K : ∀ p, hI p M 24 = (if u = 20 then 20 else u + 1) → hI p mWASS = putF (if u = 20 then shF (hI h mWASS) 1444 else hI h mWASS) (if u = 20 then 19 else u) (hI h mSAID) 76 → TA [mWASS] [24] h p → Φ (.inl none) p) : CT (d + 1) 0 0 J_X4_keepsAct [vo M] h Φ := by
  refine e_X4_keepsAct ?_
  intro k step keep
  have L2 : ∀ (n : Nat) (i v : Int) (r : Int → Int) (p : AH), hP p M = MP → 0 ≤ i → i + n = 76 → 0 ≤ v → v ≤ 19 → hI p M 24 = v → hI p mWASS = putF r v (hI h mSAID) i → TA [mWASS] [24] h p → (∀ p2, hI p2 M 24 = v + 1 → hI p2 mWASS = putF r v (hI h mSAID) 76 → TA [mWASS] [24] h p2 → Φ (.inl none) p2) → k 0 0 52 [(0, vo M), (1, vi i)] [] p := by
    intro n
    induction n with
    | zero =>
      intro i v r p hM i0 hn v0 v1 hv hp T hΦ
      rw [show i = 76 by omega] at hp ⊢
      repeat (first | refine wtA (by decide) ?_ | refine wtM ?_ | refine wtL ?_ | refine step ?_ | refine Exists.intro _ (And.intro (congrFun hM _) ?_) | refine Exists.intro _ (And.intro rfl ?_) | refine And.intro rfl ?_ | refine And.intro trivial ?_ | (refine And.intro (by intro hz; exfalso; omega) ?_; intro hz9) | refine And.intro (by omega) ?_ | refine And.intro (by simp only [lnM_TAPE, lnM_SIGN, lnM_LENG, lnM_CLAU, lnM_CLSS, lnM_READ, lnM_OPEN, lnM_STCK, lnM_WORD, lnM_SAID, lnM_WASS, lnM_KEPT, lnM_FAR, lnM_WASI, lnM_OUTO, lnM_HASB, lnM_WHER, lnM_ISFI, lnM_CELT, lnM_IMGS, lnM_IMGF, lnM_IMGX, lnM_ISMA]; omega) ?_ | (refine And.intro ?_ (by intro hz; exfalso; omega); intro hz9))
      intro p1 e1 T1; have hM := T1.m hM
      repeat (first | refine wtA (by decide) ?_ | refine wtM ?_ | refine wtL ?_ | refine step ?_ | refine Exists.intro _ (And.intro (congrFun hM _) ?_) | refine Exists.intro _ (And.intro rfl ?_) | refine And.intro rfl ?_ | refine And.intro trivial ?_ | (refine And.intro (by intro hz; exfalso; omega) ?_; intro hz9) | refine And.intro (by omega) ?_ | refine And.intro (by simp only [lnM_TAPE, lnM_SIGN, lnM_LENG, lnM_CLAU, lnM_CLSS, lnM_READ, lnM_OPEN, lnM_STCK, lnM_WORD, lnM_SAID, lnM_WASS, lnM_KEPT, lnM_FAR, lnM_WASI, lnM_OUTO, lnM_HASB, lnM_WHER, lnM_ISFI, lnM_CELT, lnM_IMGS, lnM_IMGF, lnM_IMGX, lnM_ISMA]; omega) ?_ | (refine And.intro ?_ (by intro hz; exfalso; omega); intro hz9))
      refine hΦ p1 (by rw [e1, hv]) ?_ (T.tr (T1.up (by decide) (by decide)))
      rw [T1.i (by decide) (by decide)]
      exact hp
    | succ n ih =>
      intro i v r p hM i0 hn v0 v1 hv hp T hΦ
      have eS : hI p mSAID = hI h mSAID := T.i (by decide) (by decide)
      refine step ?_
      repeat (first | refine wtA (by decide) ?_ | refine wtM ?_ | refine wtL ?_ | refine step ?_ | refine Exists.intro _ (And.intro (congrFun hM _) ?_) | refine Exists.intro _ (And.intro rfl ?_) | refine And.intro rfl ?_ | refine And.intro trivial ?_ | (refine And.intro (by intro hz; exfalso; omega) ?_; intro hz9) | refine And.intro (by omega) ?_ | refine And.intro (by simp only [lnM_TAPE, lnM_SIGN, lnM_LENG, lnM_CLAU, lnM_CLSS, lnM_READ, lnM_OPEN, lnM_STCK, lnM_WORD, lnM_SAID, lnM_WASS, lnM_KEPT, lnM_FAR, lnM_WASI, lnM_OUTO, lnM_HASB, lnM_WHER, lnM_ISFI, lnM_CELT, lnM_IMGS, lnM_IMGF, lnM_IMGX, lnM_ISMA]; omega) ?_ | (refine And.intro ?_ (by intro hz; exfalso; omega); intro hz9))
      intro p1 e1 T1; have hM := T1.m hM
      have hv1 : hI p1 M 24 = v := by rw [T1.f (by decide)]; exact hv
      repeat (first | (exact ih (i + 1) v r p1 hM (by omega) (by omega) v0 v1 hv1 (by rw [e1, hp, hv, eS]; exact putF_next (by omega)) (T.tr (T1.up (by decide) (by decide))) hΦ) | refine wtA (by decide) ?_ | refine wtM ?_ | refine wtL ?_ | refine step ?_ | refine Exists.intro _ (And.intro (congrFun hM _) ?_) | refine Exists.intro _ (And.intro rfl ?_) | refine And.intro rfl ?_ | refine And.intro trivial ?_ | (refine And.intro (by intro hz; exfalso; omega) ?_; intro hz9) | refine And.intro (by omega) ?_ | refine And.intro (by simp only [lnM_TAPE, lnM_SIGN, lnM_LENG, lnM_CLAU, lnM_CLSS, lnM_READ, lnM_OPEN, lnM_STCK, lnM_WORD, lnM_SAID, lnM_WASS, lnM_KEPT, lnM_FAR, lnM_WASI, lnM_OUTO, lnM_HASB, lnM_WHER, lnM_ISFI, lnM_CELT, lnM_IMGS, lnM_IMGF, lnM_IMGX, lnM_ISMA]; omega) ?_ | (refine And.intro ?_ (by intro hz; exfalso; omega); intro hz9))
  have L1 : ∀ (n : Nat) (i : Int) (p : AH), hP p M = MP → 76 ≤ i → i + n = 1520 → hI p M 24 = 20 → hI p mWASS = shF (hI h mWASS) (i - 76) → TA [mWASS] [24] h p → (∀ p2, hI p2 M 24 = 20 → hI p2 mWASS = putF (shF (hI h mWASS) 1444) 19 (hI h mSAID) 76 → TA [mWASS] [24] h p2 → Φ (.inl none) p2) → k 0 0 12 [(0, vo M), (1, vi i)] [] p := by
    intro n
    induction n with
    | zero =>
      intro i p hM i0 hn hv hp T hΦ
      rw [show i - 76 = 1444 by omega] at hp
      repeat (first | refine wtA (by decide) ?_ | refine wtM ?_ | refine wtL ?_ | refine step ?_ | refine Exists.intro _ (And.intro (congrFun hM _) ?_) | refine Exists.intro _ (And.intro rfl ?_) | refine And.intro rfl ?_ | refine And.intro trivial ?_ | (refine And.intro (by intro hz; exfalso; omega) ?_; intro hz9) | refine And.intro (by omega) ?_ | refine And.intro (by simp only [lnM_TAPE, lnM_SIGN, lnM_LENG, lnM_CLAU, lnM_CLSS, lnM_READ, lnM_OPEN, lnM_STCK, lnM_WORD, lnM_SAID, lnM_WASS, lnM_KEPT, lnM_FAR, lnM_WASI, lnM_OUTO, lnM_HASB, lnM_WHER, lnM_ISFI, lnM_CELT, lnM_IMGS, lnM_IMGF, lnM_IMGX, lnM_ISMA]; omega) ?_ | (refine And.intro ?_ (by intro hz; exfalso; omega); intro hz9))
      intro p1 e1 T1; have hM := T1.m hM
      repeat (first | (exact L2 76 0 19 (shF (hI h mWASS) 1444) p1 hM (by omega) (by omega) (by omega) (by omega) (by rw [e1, hv]; rfl) (by rw [T1.i (by decide) (by decide), hp, putF_0]) (T.tr (T1.up (by decide) (by decide))) hΦ) | refine wtA (by decide) ?_ | refine wtM ?_ | refine wtL ?_ | refine step ?_ | refine Exists.intro _ (And.intro (congrFun hM _) ?_) | refine Exists.intro _ (And.intro rfl ?_) | refine And.intro rfl ?_ | refine And.intro trivial ?_ | (refine And.intro (by intro hz; exfalso; omega) ?_; intro hz9) | refine And.intro (by omega) ?_ | refine And.intro (by simp only [lnM_TAPE, lnM_SIGN, lnM_LENG, lnM_CLAU, lnM_CLSS, lnM_READ, lnM_OPEN, lnM_STCK, lnM_WORD, lnM_SAID, lnM_WASS, lnM_KEPT, lnM_FAR, lnM_WASI, lnM_OUTO, lnM_HASB, lnM_WHER, lnM_ISFI, lnM_CELT, lnM_IMGS, lnM_IMGF, lnM_IMGX, lnM_ISMA]; omega) ?_ | (refine And.intro ?_ (by intro hz; exfalso; omega); intro hz9))
    | succ n ih =>
      intro i p hM i0 hn hv hp T hΦ
      refine step ?_
      repeat (first | refine wtA (by decide) ?_ | refine wtM ?_ | refine wtL ?_ | refine step ?_ | refine Exists.intro _ (And.intro (congrFun hM _) ?_) | refine Exists.intro _ (And.intro rfl ?_) | refine And.intro rfl ?_ | refine And.intro trivial ?_ | (refine And.intro (by intro hz; exfalso; omega) ?_; intro hz9) | refine And.intro (by omega) ?_ | refine And.intro (by simp only [lnM_TAPE, lnM_SIGN, lnM_LENG, lnM_CLAU, lnM_CLSS, lnM_READ, lnM_OPEN, lnM_STCK, lnM_WORD, lnM_SAID, lnM_WASS, lnM_KEPT, lnM_FAR, lnM_WASI, lnM_OUTO, lnM_HASB, lnM_WHER, lnM_ISFI, lnM_CELT, lnM_IMGS, lnM_IMGF, lnM_IMGX, lnM_ISMA]; omega) ?_ | (refine And.intro ?_ (by intro hz; exfalso; omega); intro hz9))
      intro p1 e1 T1; have hM := T1.m hM
      have hp1 : hI p1 mWASS = shF (hI h mWASS) (i + 1 - 76) := by
        rw [e1, hp]
        have e := shF_next (r := hI h mWASS) (k := i - 76) (by omega)
        rw [show i - 76 + 76 = i by omega, show i - 76 + 1 = i + 1 - 76 by omega] at e
        exact e
      repeat (first | (exact ih (i + 1) p1 hM (by omega) (by omega) (by rw [T1.f (by decide)]; exact hv) hp1 (T.tr (T1.up (by decide) (by decide))) hΦ) | refine wtA (by decide) ?_ | refine wtM ?_ | refine wtL ?_ | refine step ?_ | refine Exists.intro _ (And.intro (congrFun hM _) ?_) | refine Exists.intro _ (And.intro rfl ?_) | refine And.intro rfl ?_ | refine And.intro trivial ?_ | (refine And.intro (by intro hz; exfalso; omega) ?_; intro hz9) | refine And.intro (by omega) ?_ | refine And.intro (by simp only [lnM_TAPE, lnM_SIGN, lnM_LENG, lnM_CLAU, lnM_CLSS, lnM_READ, lnM_OPEN, lnM_STCK, lnM_WORD, lnM_SAID, lnM_WASS, lnM_KEPT, lnM_FAR, lnM_WASI, lnM_OUTO, lnM_HASB, lnM_WHER, lnM_ISFI, lnM_CELT, lnM_IMGS, lnM_IMGF, lnM_IMGX, lnM_ISMA]; omega) ?_ | (refine And.intro ?_ (by intro hz; exfalso; omega); intro hz9))
  by_cases hc : u = 20
  · rw [if_pos hc, if_pos hc, if_pos hc] at K
    repeat (first | (exact L1 1444 76 h hM (by omega) (by omega) (by omega) (by rw [show (76 : Int) - 76 = 0 by omega, shF_0]) TA.rf K) | refine wtA (by decide) ?_ | refine wtM ?_ | refine wtL ?_ | refine step ?_ | refine Exists.intro _ (And.intro (congrFun hM _) ?_) | refine Exists.intro _ (And.intro rfl ?_) | refine And.intro rfl ?_ | refine And.intro trivial ?_ | (refine And.intro (by intro hz; exfalso; omega) ?_; intro hz9) | refine And.intro (by omega) ?_ | refine And.intro (by simp only [lnM_TAPE, lnM_SIGN, lnM_LENG, lnM_CLAU, lnM_CLSS, lnM_READ, lnM_OPEN, lnM_STCK, lnM_WORD, lnM_SAID, lnM_WASS, lnM_KEPT, lnM_FAR, lnM_WASI, lnM_OUTO, lnM_HASB, lnM_WHER, lnM_ISFI, lnM_CELT, lnM_IMGS, lnM_IMGF, lnM_IMGX, lnM_ISMA]; omega) ?_ | (refine And.intro ?_ (by intro hz; exfalso; omega); intro hz9))
  · rw [if_neg hc, if_neg hc, if_neg hc] at K
    repeat (first | (exact L2 76 0 u (hI h mWASS) h hM (by omega) (by omega) u0 (by omega) hu (by rw [putF_0]) TA.rf K) | refine wtA (by decide) ?_ | refine wtM ?_ | refine wtL ?_ | refine step ?_ | refine Exists.intro _ (And.intro (congrFun hM _) ?_) | refine Exists.intro _ (And.intro rfl ?_) | refine And.intro rfl ?_ | refine And.intro trivial ?_ | (refine And.intro (by intro hz; exfalso; omega) ?_; intro hz9) | refine And.intro (by omega) ?_ | refine And.intro (by simp only [lnM_TAPE, lnM_SIGN, lnM_LENG, lnM_CLAU, lnM_CLSS, lnM_READ, lnM_OPEN, lnM_STCK, lnM_WORD, lnM_SAID, lnM_WASS, lnM_KEPT, lnM_FAR, lnM_WASI, lnM_OUTO, lnM_HASB, lnM_WHER, lnM_ISFI, lnM_CELT, lnM_IMGS, lnM_IMGF, lnM_IMGX, lnM_ISMA]; omega) ?_ | (refine And.intro ?_ (by intro hz; exfalso; omega); intro hz9))
/-- the state taken back out of place u -/
theorem t_undo {d : Nat} {h : AH} {Φ : OUT → AH → Prop} {u : Int} (hM : hP h M = MP) (hu : hI h M 24 = u) (u0 : 0 ≤ u) (u20 : u ≤ 20)
    (K0 : u = 0 → Φ (.inl (some (vi (-1)))) h) (K : 0 < u → ∀ p, hI p M 24 = u - 1 → hI p mSAID = layF (hI h mSAID) (fun j => hI h mWASS (76 * (u - 1) + j)) → TA [mSAID] [24] h p → Φ (.inl (some (vi (u - 1)))) p) : CT (d + 1) 0 0 J_X4_undo [vo M] h Φ := by
  refine e_X4_undo ?_
  intro k step keep
  have loop : ∀ (n : Nat) (i : Int) (p : AH), hP p M = MP → 0 < u → 0 ≤ i → i + n = 76 → hI p M 24 = u - 1 → (∀ m, hI p mSAID m = if 10 ≤ m ∧ m < 10 + i then hI h mWASS (76 * (u - 1) + (m - 10)) else hI h mSAID m) → TA [mSAID] [24] h p → k 0 0 21 [(0, vo M), (1, vi i)] [] p := by
    intro n
    induction n with
    | zero =>
      intro i p hM up i0 hn hv hj T
      repeat (first | refine wtA (by decide) ?_ | refine wtM ?_ | refine wtL ?_ | refine step ?_ | refine Exists.intro _ (And.intro (congrFun hM _) ?_) | refine Exists.intro _ (And.intro rfl ?_) | refine And.intro rfl ?_ | refine And.intro trivial ?_ | (refine And.intro (by intro hz; exfalso; omega) ?_; intro hz9) | refine And.intro (by omega) ?_ | refine And.intro (by simp only [lnM_TAPE, lnM_SIGN, lnM_LENG, lnM_CLAU, lnM_CLSS, lnM_READ, lnM_OPEN, lnM_STCK, lnM_WORD, lnM_SAID, lnM_WASS, lnM_KEPT, lnM_FAR, lnM_WASI, lnM_OUTO, lnM_HASB, lnM_WHER, lnM_ISFI, lnM_CELT, lnM_IMGS, lnM_IMGF, lnM_IMGX, lnM_ISMA]; omega) ?_ | (refine And.intro ?_ (by intro hz; exfalso; omega); intro hz9))
      rw [hv]
      refine K up p hv (funext fun m => ?_) T
      rw [hj m]
      unfold layF
      rw [show (10 : Int) + i = 86 by omega]
    | succ n ih =>
      intro i p hM up i0 hn hv hj T
      have eK : hI p mWASS = hI h mWASS := T.i (by decide) (by decide)
      refine step ?_
      repeat (first | refine wtA (by decide) ?_ | refine wtM ?_ | refine wtL ?_ | refine step ?_ | refine Exists.intro _ (And.intro (congrFun hM _) ?_) | refine Exists.intro _ (And.intro rfl ?_) | refine And.intro rfl ?_ | refine And.intro trivial ?_ | (refine And.intro (by intro hz; exfalso; omega) ?_; intro hz9) | refine And.intro (by omega) ?_ | refine And.intro (by simp only [lnM_TAPE, lnM_SIGN, lnM_LENG, lnM_CLAU, lnM_CLSS, lnM_READ, lnM_OPEN, lnM_STCK, lnM_WORD, lnM_SAID, lnM_WASS, lnM_KEPT, lnM_FAR, lnM_WASI, lnM_OUTO, lnM_HASB, lnM_WHER, lnM_ISFI, lnM_CELT, lnM_IMGS, lnM_IMGF, lnM_IMGX, lnM_ISMA]; omega) ?_ | (refine And.intro ?_ (by intro hz; exfalso; omega); intro hz9))
      intro p1 e1 T1; have hM := T1.m hM
      have hj1 : ∀ m, hI p1 mSAID m = if 10 ≤ m ∧ m < 10 + (i + 1) then hI h mWASS (76 * (u - 1) + (m - 10)) else hI h mSAID m := by
        intro m
        rw [e1, eK, hv]
        show (if m = 10 + i then hI h mWASS (76 * (u - 1) + i) else hI p mSAID m) = _
        rw [hj m]
        by_cases e : m = 10 + i
        · rw [if_pos e, if_pos (by omega), show m - 10 = i by omega]
        · rw [if_neg e]
          by_cases e2 : 10 ≤ m ∧ m < 10 + i
          · rw [if_pos e2, if_pos (by omega)]
          · rw [if_neg e2, if_neg (by omega)]
      repeat (first | (exact ih (i + 1) p1 hM up (by omega) (by omega) (by rw [T1.f (by decide)]; exact hv) hj1 (T.tr (T1.up (by decide) (by decide)))) | refine wtA (by decide) ?_ | refine wtM ?_ | refine wtL ?_ | refine step ?_ | refine Exists.intro _ (And.intro (congrFun hM _) ?_) | refine Exists.intro _ (And.intro rfl ?_) | refine And.intro rfl ?_ | refine And.intro trivial ?_ | (refine And.intro (by intro hz; exfalso; omega) ?_; intro hz9) | refine And.intro (by omega) ?_ | refine And.intro (by simp only [lnM_TAPE, lnM_SIGN, lnM_LENG, lnM_CLAU, lnM_CLSS, lnM_READ, lnM_OPEN, lnM_STCK, lnM_WORD, lnM_SAID, lnM_WASS, lnM_KEPT, lnM_FAR, lnM_WASI, lnM_OUTO, lnM_HASB, lnM_WHER, lnM_ISFI, lnM_CELT, lnM_IMGS, lnM_IMGF, lnM_IMGX, lnM_ISMA]; omega) ?_ | (refine And.intro ?_ (by intro hz; exfalso; omega); intro hz9))
  repeat (first | refine wtA (by decide) ?_ | refine wtM ?_ | refine wtL ?_ | refine step ?_ | refine Exists.intro _ (And.intro (congrFun hM _) ?_) | refine Exists.intro _ (And.intro rfl ?_) | refine And.intro rfl ?_ | refine And.intro trivial ?_ | (refine And.intro (by intro hz; exfalso; omega) ?_; intro hz9) | refine And.intro (by omega) ?_ | refine And.intro (by simp only [lnM_TAPE, lnM_SIGN, lnM_LENG, lnM_CLAU, lnM_CLSS, lnM_READ, lnM_OPEN, lnM_STCK, lnM_WORD, lnM_SAID, lnM_WASS, lnM_KEPT, lnM_FAR, lnM_WASI, lnM_OUTO, lnM_HASB, lnM_WHER, lnM_ISFI, lnM_CELT, lnM_IMGS, lnM_IMGF, lnM_IMGX, lnM_ISMA]; omega) ?_ | (refine And.intro ?_ (by intro hz; exfalso; omega); intro hz9))
  refine And.intro (fun hc => ?_) (fun hc => ?_)
  · repeat (first | refine wtA (by decide) ?_ | refine wtM ?_ | refine wtL ?_ | refine step ?_ | refine Exists.intro _ (And.intro (congrFun hM _) ?_) | refine Exists.intro _ (And.intro rfl ?_) | refine And.intro rfl ?_ | refine And.intro trivial ?_ | (refine And.intro (by intro hz; exfalso; omega) ?_; intro hz9) | refine And.intro (by omega) ?_ | refine And.intro (by simp only [lnM_TAPE, lnM_SIGN, lnM_LENG, lnM_CLAU, lnM_CLSS, lnM_READ, lnM_OPEN, lnM_STCK, lnM_WORD, lnM_SAID, lnM_WASS, lnM_KEPT, lnM_FAR, lnM_WASI, lnM_OUTO, lnM_HASB, lnM_WHER, lnM_ISFI, lnM_CELT, lnM_IMGS, lnM_IMGF, lnM_IMGX, lnM_ISMA]; omega) ?_ | (refine And.intro ?_ (by intro hz; exfalso; omega); intro hz9))
    intro p1 e1 T1; have hM := T1.m hM
    repeat (first | (exact loop 76 0 p1 hM (by omega) (by omega) (by omega) (by rw [e1, hu]) (fun m => by rw [if_neg (by omega), T1.i (by decide) (by decide)]) (T1.up (by decide) (by decide))) | refine wtA (by decide) ?_ | refine wtM ?_ | refine wtL ?_ | refine step ?_ | refine Exists.intro _ (And.intro (congrFun hM _) ?_) | refine Exists.intro _ (And.intro rfl ?_) | refine And.intro rfl ?_ | refine And.intro trivial ?_ | (refine And.intro (by intro hz; exfalso; omega) ?_; intro hz9) | refine And.intro (by omega) ?_ | refine And.intro (by simp only [lnM_TAPE, lnM_SIGN, lnM_LENG, lnM_CLAU, lnM_CLSS, lnM_READ, lnM_OPEN, lnM_STCK, lnM_WORD, lnM_SAID, lnM_WASS, lnM_KEPT, lnM_FAR, lnM_WASI, lnM_OUTO, lnM_HASB, lnM_WHER, lnM_ISFI, lnM_CELT, lnM_IMGS, lnM_IMGF, lnM_IMGX, lnM_ISMA]; omega) ?_ | (refine And.intro ?_ (by intro hz; exfalso; omega); intro hz9))
  · repeat (first | refine wtA (by decide) ?_ | refine wtM ?_ | refine wtL ?_ | refine step ?_ | refine Exists.intro _ (And.intro (congrFun hM _) ?_) | refine Exists.intro _ (And.intro rfl ?_) | refine And.intro rfl ?_ | refine And.intro trivial ?_ | (refine And.intro (by intro hz; exfalso; omega) ?_; intro hz9) | refine And.intro (by omega) ?_ | refine And.intro (by simp only [lnM_TAPE, lnM_SIGN, lnM_LENG, lnM_CLAU, lnM_CLSS, lnM_READ, lnM_OPEN, lnM_STCK, lnM_WORD, lnM_SAID, lnM_WASS, lnM_KEPT, lnM_FAR, lnM_WASI, lnM_OUTO, lnM_HASB, lnM_WHER, lnM_ISFI, lnM_CELT, lnM_IMGS, lnM_IMGF, lnM_IMGX, lnM_ISMA]; omega) ?_ | (refine And.intro ?_ (by intro hz; exfalso; omega); intro hz9))
    exact K0 (by omega)
