-- NEEDS: 68 97
/-! THE TWIN'S READER: a clause of a rule -/
abbrev wTURN : Nat := 1953854062
/-- a clause behind its name: where it ends, how many made, the sum and the test -/
def turS (T : Int → Int) (n i m : Int) : Int ⊕ (Int × Int × (FN × FN)) := match smS T n (lep T n i) m with
  | (_, .inl e) => .inl e
  | (m1, .inr (j1, f)) => if wdB T n (skp T n j1) wIF = true then (match tesS T n 500 (lep T n (skp T n j1)) m1 0 with
      | (_, .inl e) => .inl e
      | (m2, .inr (j2, t)) => .inr (skp T n j2, m2, (f, t)))
    else .inr (skp T n j1, m1, (f, fun _ => 1))
def CLSb (sg cl : Int → Int) (r c : Int) (f t : FN) (l : Int) : Prop := CLS sg cl r c f t ∧ cl (48 * r + 4 * c + 1) ≤ l ∧ cl (48 * r + 4 * c + 3) ≤ l
theorem CLSb.go {sg cl sg2 cl2 : Int → Int} {r c l l2 : Int} {f t : FN} (H : CLSb sg cl r c f t l) (hl : l ≤ l2) (hs : ∀ x, x < 400 * r + l → sg2 x = sg x) (hc : ∀ x, 48 * r + 4 * c ≤ x → x ≤ 48 * r + 4 * c + 3 → cl2 x = cl x) : CLSb sg2 cl2 r c f t l2 := by
  obtain ⟨⟨⟨a1, a2, a3⟩, b⟩, h1, h3⟩ := H
  unfold CLSb CLS
  rw [hc (48 * r + 4 * c) (by omega) (by omega), hc (48 * r + 4 * c + 1) (by omega) (by omega), hc (48 * r + 4 * c + 2) (by omega) (by omega), hc (48 * r + 4 * c + 3) (by omega) (by omega)]
  refine ⟨⟨⟨a1, fun x x0 x1 => ?_, fun w => ?_⟩, ?_⟩, by omega, by omega⟩
  · rw [hs _ (by omega)]; exact a2 x x0 x1
  · rw [runS_congr (sg := fun x => sg (400 * r + x)) _ _ _ (fun x x0 x1 => hs _ (by omega))]
    exact a3 w
  · rcases b with b | ⟨b1, b2, b3⟩
    · exact Or.inl b
    · refine Or.inr ⟨b1, fun x x0 x1 => ?_, fun w => ?_⟩
      · rw [hs _ (by omega)]; exact b2 x x0 x1
      · rw [runS_congr (sg := fun x => sg (400 * r + x)) _ _ _ (fun x x0 x1 => hs _ (by omega))]
        exact b3 w
/-- the clauses read so far -/
def RCH (p : AH) (t l : Int) (acc : RLE) : Prop := hI p mCLSS t = acc.length ∧ acc.length ≤ 12 ∧ ∀ (c : Nat) q, acc[c]? = some q → CLSb (hI p mSIGN) (hI p mCLAU) t c q.1 q.2 l
def FRR (t : Int) (h p : AH) : Prop := TA [mSIGN, mLENG, mOPEN, mCLAU, mCLSS] [8, 9, 10, 12, 13, 16] h p ∧ (∀ x, x < 400 * t → hI p mSIGN x = hI h mSIGN x) ∧ (∀ x, x < 48 * t → hI p mCLAU x = hI h mCLAU x) ∧ ∀ x, x < t → hI p mCLSS x = hI h mCLSS x
theorem FRR.rf {t : Int} {h : AH} : FRR t h h := ⟨TA.rf, fun _ _ => rfl, fun _ _ => rfl, fun _ _ => rfl⟩
theorem FRR.tr {t : Int} {h p q : AH} (x : FRR t h p) (y : FRR t p q) : FRR t h q := ⟨x.1.tr y.1, fun z hz => (y.2.1 z hz).trans (x.2.1 z hz), fun z hz => (y.2.2.1 z hz).trans (x.2.2.1 z hz), fun z hz => (y.2.2.2 z hz).trans (x.2.2.2 z hz)⟩
theorem FRR.of {A : List Nat} {B : List Int} {t : Int} {h p : AH} (X : TA A B h p) (h1 : mSIGN ∉ A) (h2 : mCLAU ∉ A) (h3 : mCLSS ∉ A) (ha : ∀ a ∈ A, a ∈ [mSIGN, mLENG, mOPEN, mCLAU, mCLSS]) (hb : ∀ b ∈ B, b ∈ ([8, 9, 10, 12, 13, 16] : List Int)) : FRR t h p := ⟨X.up ha hb, fun x _ => congrFun (X.i h1 (by decide)) x, fun x _ => congrFun (X.i h2 (by decide)) x, fun x _ => congrFun (X.i h3 (by decide)) x⟩
theorem FRR.fr {A : List Nat} {B : List Int} {t l : Int} {h p : AH} (X : FR A B t l h p) (l0 : 0 ≤ l) (h2 : mCLAU ∉ A) (h3 : mCLSS ∉ A) (ha : ∀ a ∈ A, a ∈ [mSIGN, mLENG, mOPEN, mCLAU, mCLSS]) (hb : ∀ b ∈ B, b ∈ ([8, 9, 10, 12, 13, 16] : List Int)) : FRR t h p := ⟨X.1.up ha hb, fun x hx => X.2 x (by omega), fun x _ => congrFun (X.1.i h2 (by decide)) x, fun x _ => congrFun (X.1.i h3 (by decide)) x⟩
theorem FRR.cl {t a : Int} {h p : AH} {v : Int} (X : TA [mCLAU] [] h p) (e : hI p mCLAU = upF (hI h mCLAU) a v) (ha : 48 * t ≤ a) : FRR t h p := ⟨X.up (by decide) (by decide), fun x _ => congrFun (X.i (by decide) (by decide)) x, fun x hx => by rw [e]; exact if_neg (by omega), fun x _ => congrFun (X.i (by decide) (by decide)) x⟩
theorem PS.st {h : AH} {T : Int → Int} {n i m t l : Int} (hX : RX h T n i) (hm : hI h M 12 = m ∧ 0 ≤ m ∧ m ≤ 60) (ht : hI h M 11 = t ∧ 0 ≤ t ∧ t ≤ 5) (hl : hI h mLENG t = l) (l0 : 0 ≤ l) (l1 : l ≤ i) : PS h T n i m t l l 0 [] := ⟨hX, hm, ht, ⟨hl, l0, Int.le_refl _, Int.le_refl _, by omega⟩, by simp; omega, fun x x0 x1 => by omega, fun w => by rw [show (l - l).toNat = 0 by omega]; rfl⟩
theorem t_isTurnHere {d : Nat} {h : AH} {Φ : OUT → AH → Prop} {T : Int → Int} {n i m t l : Int} {acc : RLE} (hX : RX h T n i) (hw : 0 < lep T n i - i) (hm : hI h M 12 = m ∧ 0 ≤ m ∧ m ≤ 60) (ht : hI h M 11 = t ∧ 0 ≤ t ∧ t ≤ 5) (hl : hI h mLENG t = l) (l0 : 0 ≤ l) (l1 : l ≤ i) (hR : RCH h t l acc) (h12 : acc.length < 12)
    (K0 : ∀ e, turS T n i m = .inl e → ∀ p, hI p M 9 = e → FRR t h p → Φ (.inl (some (vi 0))) p)
    (K : ∀ j m2 cl, turS T n i m = .inr (j, m2, cl) → ∀ p l2, PS p T n j m2 t l2 l2 0 [] → RCH p t l2 (acc ++ [cl]) → FRR t h p → Φ (.inl (some (vi 1))) p) : CT (d + 10) 0 0 J_X4_isTurnHere [vo M] h Φ := by
  refine e_X4_isTurnHere ?_; intro k step keep
  obtain ⟨hM, -, -, -, ⟨i0, i1⟩, n1, hB, -⟩ := id hX
  obtain ⟨r1, r2, r3⟩ := id hR
  have lp := lep_ok (T := T) i1
  unfold turS at K0 K
  repeat (first | refine wtA (by decide) ?_ | refine wtM ?_ | refine wtL ?_ | refine step ?_ | refine Exists.intro _ (And.intro (congrFun hM _) ?_) | refine Exists.intro _ (And.intro rfl ?_) | refine And.intro rfl ?_ | refine And.intro trivial ?_ | (refine And.intro (by intro hz; exfalso; omega) ?_; intro hz9) | refine And.intro (by omega) ?_ | refine And.intro (by simp only [lnM_TAPE, lnM_SIGN, lnM_LENG, lnM_CLAU, lnM_CLSS, lnM_READ, lnM_OPEN, lnM_STCK, lnM_WORD, lnM_SAID, lnM_WASS, lnM_KEPT, lnM_FAR, lnM_WASI, lnM_OUTO, lnM_HASB, lnM_WHER, lnM_ISFI, lnM_CELT, lnM_IMGS, lnM_IMGF, lnM_IMGX, lnM_ISMA]; omega) ?_ | (refine And.intro ?_ (by intro hz; exfalso; omega); intro hz9))
  refine Or.inl (t_passWordR hX (fun p1 H1 T1 => ?_))
  have hM := H1.1
  have t1 : hI p1 M 11 = t := by rw [T1.f (by decide)]; exact ht.1
  have c1 : hI p1 mCLSS (hI p1 M 11) = acc.length := by rw [t1, T1.i (by decide) (by decide)]; exact r1
  have g1 : hI p1 mLENG (hI p1 M 11) = l := by rw [t1, T1.i (by decide) (by decide)]; exact hl
  have c2 : 48 * hI p1 M 11 + 4 * hI p1 mCLSS (hI p1 M 11) = 48 * t + 4 * acc.length := by rw [t1, ← t1, c1]
  have f1 : FRR t h p1 := FRR.of T1 (by decide) (by decide) (by decide) (by decide) (by decide)
  repeat (first | refine wtA (by decide) ?_ | refine wtM ?_ | refine wtL ?_ | refine step ?_ | refine Exists.intro _ (And.intro (congrFun hM _) ?_) | refine Exists.intro _ (And.intro rfl ?_) | refine And.intro rfl ?_ | refine And.intro trivial ?_ | (refine And.intro (by intro hz; exfalso; omega) ?_; intro hz9) | refine And.intro (by omega) ?_ | refine And.intro (by simp only [lnM_TAPE, lnM_SIGN, lnM_LENG, lnM_CLAU, lnM_CLSS, lnM_READ, lnM_OPEN, lnM_STCK, lnM_WORD, lnM_SAID, lnM_WASS, lnM_KEPT, lnM_FAR, lnM_WASI, lnM_OUTO, lnM_HASB, lnM_WHER, lnM_ISFI, lnM_CELT, lnM_IMGS, lnM_IMGF, lnM_IMGX, lnM_ISMA]; omega) ?_ | (refine And.intro ?_ (by intro hz; exfalso; omega); intro hz9))
  rw [c2]
  repeat (first | refine wtA (by decide) ?_ | refine wtM ?_ | refine wtL ?_ | refine step ?_ | refine Exists.intro _ (And.intro (congrFun hM _) ?_) | refine Exists.intro _ (And.intro rfl ?_) | refine And.intro rfl ?_ | refine And.intro trivial ?_ | (refine And.intro (by intro hz; exfalso; omega) ?_; intro hz9) | refine And.intro (by omega) ?_ | refine And.intro (by simp only [lnM_TAPE, lnM_SIGN, lnM_LENG, lnM_CLAU, lnM_CLSS, lnM_READ, lnM_OPEN, lnM_STCK, lnM_WORD, lnM_SAID, lnM_WASS, lnM_KEPT, lnM_FAR, lnM_WASI, lnM_OUTO, lnM_HASB, lnM_WHER, lnM_ISFI, lnM_CELT, lnM_IMGS, lnM_IMGF, lnM_IMGX, lnM_ISMA]; omega) ?_ | (refine And.intro ?_ (by intro hz; exfalso; omega); intro hz9))
  intro p2 e2 T2; have hM := T2.m hM
  rw [g1] at e2
  generalize hat : 48 * t + 4 * (acc.length : Int) = at0 at *
  have t2 : hI p2 M 11 = t := by rw [T2.f (by decide)]; exact t1
  have f2 : FRR t h p2 := f1.tr (FRR.cl T2 e2 (by omega))
  have H2 : RX p2 T n (lep T n i) := H1.to T2 (by decide) (by decide) (by decide) (by rw [T2.f (by decide)]; exact H1.2.2.2.1) (by omega) (by omega)
  have P2 : PS p2 T n (lep T n i) m t l l 0 [] := PS.st H2 ⟨by rw [T2.f (by decide), T1.f (by decide)]; exact hm.1, hm.2⟩ ⟨t2, ht.2⟩ (by rw [T2.i (by decide) (by decide), T1.i (by decide) (by decide)]; exact hl) l0 (by omega)
  repeat (first | refine wtA (by decide) ?_ | refine wtM ?_ | refine wtL ?_ | refine step ?_ | refine Exists.intro _ (And.intro (congrFun hM _) ?_) | refine Exists.intro _ (And.intro rfl ?_) | refine And.intro rfl ?_ | refine And.intro trivial ?_ | (refine And.intro (by intro hz; exfalso; omega) ?_; intro hz9) | refine And.intro (by omega) ?_ | refine And.intro (by simp only [lnM_TAPE, lnM_SIGN, lnM_LENG, lnM_CLAU, lnM_CLSS, lnM_READ, lnM_OPEN, lnM_STCK, lnM_WORD, lnM_SAID, lnM_WASS, lnM_KEPT, lnM_FAR, lnM_WASI, lnM_OUTO, lnM_HASB, lnM_WHER, lnM_ISFI, lnM_CELT, lnM_IMGS, lnM_IMGF, lnM_IMGX, lnM_ISMA]; omega) ?_ | (refine And.intro ?_ (by intro hz; exfalso; omega); intro hz9))
  refine Or.inl (t_sum P2 (fun m3 e hv p3 e9 f3 => ?_) (fun m1 j1 f hv p3 l3 hl3 P3 f3 => ?_))
  · rw [hv] at K0
    repeat (first | refine wtA (by decide) ?_ | refine wtM ?_ | refine wtL ?_ | refine step ?_ | refine Exists.intro _ (And.intro (congrFun hM _) ?_) | refine Exists.intro _ (And.intro rfl ?_) | refine And.intro rfl ?_ | refine And.intro trivial ?_ | (refine And.intro (by intro hz; exfalso; omega) ?_; intro hz9) | refine And.intro (by omega) ?_ | refine And.intro (by simp only [lnM_TAPE, lnM_SIGN, lnM_LENG, lnM_CLAU, lnM_CLSS, lnM_READ, lnM_OPEN, lnM_STCK, lnM_WORD, lnM_SAID, lnM_WASS, lnM_KEPT, lnM_FAR, lnM_WASI, lnM_OUTO, lnM_HASB, lnM_WHER, lnM_ISFI, lnM_CELT, lnM_IMGS, lnM_IMGF, lnM_IMGX, lnM_ISMA]; omega) ?_ | (refine And.intro ?_ (by intro hz; exfalso; omega); intro hz9))
    exact K0 e rfl p3 e9 (f2.tr (FRR.fr f3 l0 (by decide) (by decide) (by decide) (by decide)))
  · rw [hv] at K0 K
    obtain ⟨hX3, ⟨m31, m32, m33⟩, ⟨t31, -⟩, ⟨e31, e32, e33, e34, e35⟩, fl3, sg3, run3⟩ := id P3
    obtain ⟨hM, -, -, -, ⟨j0, jn⟩, -, -, -⟩ := id hX3
    have sk := skp_ok (T := T) jn
    have g3 : hI p3 mLENG (hI p3 M 11) = l3 := by rw [t31]; exact e31
    have ff3 : FRR t h p3 := f2.tr (FRR.fr f3 l0 (by decide) (by decide) (by decide) (by decide))
    repeat (first | refine wtA (by decide) ?_ | refine wtM ?_ | refine wtL ?_ | refine step ?_ | refine Exists.intro _ (And.intro (congrFun hM _) ?_) | refine Exists.intro _ (And.intro rfl ?_) | refine And.intro rfl ?_ | refine And.intro trivial ?_ | (refine And.intro (by intro hz; exfalso; omega) ?_; intro hz9) | refine And.intro (by omega) ?_ | refine And.intro (by simp only [lnM_TAPE, lnM_SIGN, lnM_LENG, lnM_CLAU, lnM_CLSS, lnM_READ, lnM_OPEN, lnM_STCK, lnM_WORD, lnM_SAID, lnM_WASS, lnM_KEPT, lnM_FAR, lnM_WASI, lnM_OUTO, lnM_HASB, lnM_WHER, lnM_ISFI, lnM_CELT, lnM_IMGS, lnM_IMGF, lnM_IMGX, lnM_ISMA]; omega) ?_ | (refine And.intro ?_ (by intro hz; exfalso; omega); intro hz9))
    intro p4 e4 T4; have hM := T4.m hM
    rw [g3] at e4
    have ff4 : FRR t h p4 := ff3.tr (FRR.cl T4 e4 (by omega))
    repeat (first | refine wtA (by decide) ?_ | refine wtM ?_ | refine wtL ?_ | refine step ?_ | refine Exists.intro _ (And.intro (congrFun hM _) ?_) | refine Exists.intro _ (And.intro rfl ?_) | refine And.intro rfl ?_ | refine And.intro trivial ?_ | (refine And.intro (by intro hz; exfalso; omega) ?_; intro hz9) | refine And.intro (by omega) ?_ | refine And.intro (by simp only [lnM_TAPE, lnM_SIGN, lnM_LENG, lnM_CLAU, lnM_CLSS, lnM_READ, lnM_OPEN, lnM_STCK, lnM_WORD, lnM_SAID, lnM_WASS, lnM_KEPT, lnM_FAR, lnM_WASI, lnM_OUTO, lnM_HASB, lnM_WHER, lnM_ISFI, lnM_CELT, lnM_IMGS, lnM_IMGF, lnM_IMGX, lnM_ISMA]; omega) ?_ | (refine And.intro ?_ (by intro hz; exfalso; omega); intro hz9))
    intro p5 e5 T5; have hM := T5.m hM
    have ff5 : FRR t h p5 := ff4.tr (FRR.cl T5 e5 (by omega))
    have T45 := T4.tr T5
    have H5 : RX p5 T n j1 := hX3.to T45 (by decide) (by decide) (by decide) (by rw [T45.f (by decide)]; exact hX3.2.2.2.1) (by omega) jn
    have cl5 : hI p5 mCLAU = upF (upF (hI p3 mCLAU) (at0 + 1) l3) (at0 + 2) (-1) := by rw [e5, e4]
    have cl3 : hI p3 mCLAU = upF (hI h mCLAU) at0 l := by rw [f3.1.i (by decide) (by decide), e2, T1.i (by decide) (by decide)]
    have sg5 : hI p5 mSIGN = hI p3 mSIGN := T45.i (by decide) (by decide)
    have cs5 : hI p5 mCLSS = hI h mCLSS := by rw [T45.i (by decide) (by decide), f3.1.i (by decide) (by decide), T2.i (by decide) (by decide), T1.i (by decide) (by decide)]
    have sgh : ∀ x, x < 400 * t + l → hI p3 mSIGN x = hI h mSIGN x := fun x hx => by rw [f3.2 x hx, T2.i (by decide) (by decide), T1.i (by decide) (by decide)]
    -- the end: cl the test, from l8's state p8
    have last : ∀ (j2 m2 l8 c2 : Int) (g : FN) (p8 : AH), turS T n i m = .inr (j2, m2, (f, g)) → RX p8 T n j2 → (hI p8 M 12 = m2 ∧ 0 ≤ m2 ∧ m2 ≤ 60) → hI p8 M 11 = t → hI p8 mLENG t = l8 → l3 ≤ l8 → l8 ≤ j2 → (∀ x, x < 400 * t + l3 → hI p8 mSIGN x = hI p3 mSIGN x) → hI p8 mCLSS = hI h mCLSS → hI p8 mCLAU = upF (upF (upF (hI p3 mCLAU) (at0 + 1) l3) (at0 + 2) (-1)) (at0 + 2) c2 → ((c2 = -1 ∧ ∀ w, g w = 1) ∨ (c2 = l3 ∧ (∀ x, l3 ≤ x → x < l8 → 0 ≤ hI p8 mSIGN (400 * t + x) ∧ hI p8 mSIGN (400 * t + x) < 2147483648) ∧ ∀ w, runS (fun x => hI p8 mSIGN (400 * t + x)) w (l8 - l3).toNat l3 [] = some [g w])) → FRR t h p8 → k 0 0 110 [(0, vo M), (1, vi at0)] [] p8 := by
      intro j2 m2 l8 c2 g p8 hres H8 hm8 t8 g8 hl8 hj8 sg8 cs8 cl8 hc2 f8
      have hM := H8.1
      have g8' : hI p8 mLENG (hI p8 M 11) = l8 := by rw [t8]; exact g8
      repeat (first | refine wtA (by decide) ?_ | refine wtM ?_ | refine wtL ?_ | refine step ?_ | refine Exists.intro _ (And.intro (congrFun hM _) ?_) | refine Exists.intro _ (And.intro rfl ?_) | refine And.intro rfl ?_ | refine And.intro trivial ?_ | (refine And.intro (by intro hz; exfalso; omega) ?_; intro hz9) | refine And.intro (by omega) ?_ | refine And.intro (by simp only [lnM_TAPE, lnM_SIGN, lnM_LENG, lnM_CLAU, lnM_CLSS, lnM_READ, lnM_OPEN, lnM_STCK, lnM_WORD, lnM_SAID, lnM_WASS, lnM_KEPT, lnM_FAR, lnM_WASI, lnM_OUTO, lnM_HASB, lnM_WHER, lnM_ISFI, lnM_CELT, lnM_IMGS, lnM_IMGF, lnM_IMGX, lnM_ISMA]; omega) ?_ | (refine And.intro ?_ (by intro hz; exfalso; omega); intro hz9))
      intro p9 e9 T9; have hM := T9.m hM
      rw [g8'] at e9
      have t9 : hI p9 M 11 = t := by rw [T9.f (by decide)]; exact t8
      have c9 : hI p9 mCLSS (hI p9 M 11) = acc.length := by rw [t9, T9.i (by decide) (by decide), cs8]; exact r1
      have f9 : FRR t h p9 := f8.tr (FRR.cl T9 e9 (by omega))
      repeat (first | refine wtA (by decide) ?_ | refine wtM ?_ | refine wtL ?_ | refine step ?_ | refine Exists.intro _ (And.intro (congrFun hM _) ?_) | refine Exists.intro _ (And.intro rfl ?_) | refine And.intro rfl ?_ | refine And.intro trivial ?_ | (refine And.intro (by intro hz; exfalso; omega) ?_; intro hz9) | refine And.intro (by omega) ?_ | refine And.intro (by simp only [lnM_TAPE, lnM_SIGN, lnM_LENG, lnM_CLAU, lnM_CLSS, lnM_READ, lnM_OPEN, lnM_STCK, lnM_WORD, lnM_SAID, lnM_WASS, lnM_KEPT, lnM_FAR, lnM_WASI, lnM_OUTO, lnM_HASB, lnM_WHER, lnM_ISFI, lnM_CELT, lnM_IMGS, lnM_IMGF, lnM_IMGX, lnM_ISMA]; omega) ?_ | (refine And.intro ?_ (by intro hz; exfalso; omega); intro hz9))
      intro p10 e10 T10; have hM := T10.m hM
      rw [c9, t9] at e10
      have T910 := (T9.up (A' := [mCLAU, mCLSS]) (B' := []) (by decide) (by decide)).tr (T10.up (by decide) (by decide))
      have f10 : FRR t h p10 := f9.tr ⟨T10.up (by decide) (by decide), fun x _ => congrFun (T10.i (by decide) (by decide)) x, fun x _ => congrFun (T10.i (by decide) (by decide)) x, fun x hx => by rw [e10]; exact if_neg (by omega)⟩
      have H10 : RX p10 T n j2 := H8.to T910 (by decide) (by decide) (by decide) (by rw [T910.f (by decide)]; exact H8.2.2.2.1) H8.2.2.2.2.1.1 H8.2.2.2.2.1.2
      have n8 := H8.2.2.2.2.1.2
      have clv : hI p10 mCLAU = upF (upF (upF (upF (upF (hI h mCLAU) at0 l) (at0 + 1) l3) (at0 + 2) (-1)) (at0 + 2) c2) (at0 + 3) l8 := by rw [T10.i (by decide) (by decide), e9, cl8, cl3]
      have v0 : hI p10 mCLAU at0 = l := by
        rw [clv]
        show (if at0 = at0 + 3 then _ else if at0 = at0 + 2 then _ else if at0 = at0 + 2 then _ else if at0 = at0 + 1 then _ else if at0 = at0 then l else _) = l
        rw [if_neg (by omega), if_neg (by omega), if_neg (by omega), if_neg (by omega), if_pos rfl]
      have v1 : hI p10 mCLAU (at0 + 1) = l3 := by
        rw [clv]
        show (if at0 + 1 = at0 + 3 then _ else if at0 + 1 = at0 + 2 then _ else if at0 + 1 = at0 + 2 then _ else if at0 + 1 = at0 + 1 then l3 else _) = l3
        rw [if_neg (by omega), if_neg (by omega), if_neg (by omega), if_pos rfl]
      have v2 : hI p10 mCLAU (at0 + 2) = c2 := by
        rw [clv]
        show (if at0 + 2 = at0 + 3 then _ else if at0 + 2 = at0 + 2 then c2 else _) = c2
        rw [if_neg (by omega), if_pos rfl]
      have v3 : hI p10 mCLAU (at0 + 3) = l8 := by
        rw [clv]
        exact if_pos rfl
      have vo : ∀ x, x < at0 → hI p10 mCLAU x = hI h mCLAU x := fun x hx => by
        rw [clv]
        show (if x = at0 + 3 then _ else if x = at0 + 2 then _ else if x = at0 + 2 then _ else if x = at0 + 1 then _ else if x = at0 then l else _) = _
        rw [if_neg (by omega), if_neg (by omega), if_neg (by omega), if_neg (by omega), if_neg (by omega)]
      have s10 : hI p10 mSIGN = hI p8 mSIGN := T910.i (by decide) (by decide)
      repeat (first | refine wtA (by decide) ?_ | refine wtM ?_ | refine wtL ?_ | refine step ?_ | refine Exists.intro _ (And.intro (congrFun hM _) ?_) | refine Exists.intro _ (And.intro rfl ?_) | refine And.intro rfl ?_ | refine And.intro trivial ?_ | (refine And.intro (by intro hz; exfalso; omega) ?_; intro hz9) | refine And.intro (by omega) ?_ | refine And.intro (by simp only [lnM_TAPE, lnM_SIGN, lnM_LENG, lnM_CLAU, lnM_CLSS, lnM_READ, lnM_OPEN, lnM_STCK, lnM_WORD, lnM_SAID, lnM_WASS, lnM_KEPT, lnM_FAR, lnM_WASI, lnM_OUTO, lnM_HASB, lnM_WHER, lnM_ISFI, lnM_CELT, lnM_IMGS, lnM_IMGF, lnM_IMGX, lnM_ISMA]; omega) ?_ | (refine And.intro ?_ (by intro hz; exfalso; omega); intro hz9))
      refine K j2 m2 (f, g) (by rw [← hres]; unfold turS; rw [hv]) p10 l8 (PS.st H10 ⟨by rw [T910.f (by decide)]; exact hm8.1, hm8.2⟩ ⟨by rw [T10.f (by decide)]; exact t9, ht.2⟩ (by rw [T910.i (by decide) (by decide)]; exact g8) (by omega) hj8) ⟨?_, by simp; omega, fun c q hq => ?_⟩ f10
      · rw [e10]
        show (if t = t then _ else _) = _
        rw [if_pos rfl]
        simp
      · rw [s10]
        by_cases hcl : c < acc.length
        · rw [List.getElem?_append_left hcl] at hq
          refine (r3 c q hq).go (by omega) (fun x hx => ?_) (fun x x0 x1 => vo x (by omega))
          rw [sg8 x (by omega)]
          exact sgh x hx
        · have hce : c = acc.length := by
            have : c < (acc ++ [(f, g)]).length := by
              rcases Nat.lt_or_ge c (acc ++ [(f, g)]).length with z | z
              · exact z
              · rw [List.getElem?_eq_none z] at hq; cases hq
            simp at this
            omega
          subst hce
          rw [List.getElem?_append_right (Nat.le_refl _)] at hq
          have hq : q = (f, g) := by simpa using hq.symm
          subst hq
          unfold CLSb CLS
          rw [hat, v0, v1, v2, v3]
          refine ⟨⟨⟨⟨by omega, by omega, by omega⟩, fun x x0 x1 => ?_, fun w => ?_⟩, ?_⟩, hl8, Int.le_refl _⟩
          · rw [sg8 _ (by omega)]; exact sg3 x x0 x1
          · rw [runS_congr (sg := fun x => hI p3 mSIGN (400 * t + x)) _ _ _ (fun x x0 x1 => sg8 _ (by omega))]
            exact run3 w
          · rcases hc2 with z | ⟨z1, z2, z3⟩
            · exact Or.inl z
            · rw [z1]
              exact Or.inr ⟨⟨by omega, by omega, by omega⟩, z2, z3⟩
    have twid := fun (hcl : hI p5 mCLAU = upF (upF (hI p3 mCLAU) (at0 + 1) l3) (at0 + 2) (-1)) => hcl
    repeat (first | refine wtA (by decide) ?_ | refine wtM ?_ | refine wtL ?_ | refine step ?_ | refine Exists.intro _ (And.intro (congrFun hM _) ?_) | refine Exists.intro _ (And.intro rfl ?_) | refine And.intro rfl ?_ | refine And.intro trivial ?_ | (refine And.intro (by intro hz; exfalso; omega) ?_; intro hz9) | refine And.intro (by omega) ?_ | refine And.intro (by simp only [lnM_TAPE, lnM_SIGN, lnM_LENG, lnM_CLAU, lnM_CLSS, lnM_READ, lnM_OPEN, lnM_STCK, lnM_WORD, lnM_SAID, lnM_WASS, lnM_KEPT, lnM_FAR, lnM_WASI, lnM_OUTO, lnM_HASB, lnM_WHER, lnM_ISFI, lnM_CELT, lnM_IMGS, lnM_IMGF, lnM_IMGX, lnM_ISMA]; omega) ?_ | (refine And.intro ?_ (by intro hz; exfalso; omega); intro hz9))
    refine Or.inl (t_takesWord (W := wIF) H5 (by decide) (fun hno p6 H6 T6 => ?_) (fun hyes p6 H6 T6 => ?_))
    · have ni : ¬ wdB T n (skp T n j1) wIF = true := fun z => hno (wdB_iff.mp z)
      have T36 := (T45.up (A' := [mCLAU]) (B' := [8]) (by decide) (by decide)).tr (T6.up (by decide) (by decide))
      have res : turS T n i m = .inr (skp T n j1, m1, (f, fun _ => 1)) := by unfold turS; rw [hv]; exact if_neg ni
      have st := last (skp T n j1) m1 l3 (-1) (fun _ => 1) p6 res H6 ⟨by rw [T36.f (by decide)]; exact m31, m32, m33⟩ (by rw [T36.f (by decide)]; exact t31) (by rw [T36.i (by decide) (by decide)]; exact e31) (Int.le_refl _) (by omega) (fun x _ => by rw [T36.i (by decide) (by decide)]) (by rw [T6.i (by decide) (by decide)]; exact cs5) (by
        rw [T6.i (by decide) (by decide), cl5]
        funext x
        show (if x = at0 + 2 then _ else _) = (if x = at0 + 2 then _ else if x = at0 + 2 then _ else _)
        split <;> rfl) (Or.inl ⟨rfl, fun _ => rfl⟩) (ff5.tr (FRR.of T6 (by decide) (by decide) (by decide) (by decide) (by decide)))
      repeat (first | (exact st) | refine wtA (by decide) ?_ | refine wtM ?_ | refine wtL ?_ | refine step ?_ | refine Exists.intro _ (And.intro (congrFun hM _) ?_) | refine Exists.intro _ (And.intro rfl ?_) | refine And.intro rfl ?_ | refine And.intro trivial ?_ | (refine And.intro (by intro hz; exfalso; omega) ?_; intro hz9) | refine And.intro (by omega) ?_ | refine And.intro (by simp only [lnM_TAPE, lnM_SIGN, lnM_LENG, lnM_CLAU, lnM_CLSS, lnM_READ, lnM_OPEN, lnM_STCK, lnM_WORD, lnM_SAID, lnM_WASS, lnM_KEPT, lnM_FAR, lnM_WASI, lnM_OUTO, lnM_HASB, lnM_WHER, lnM_ISFI, lnM_CELT, lnM_IMGS, lnM_IMGF, lnM_IMGX, lnM_ISMA]; omega) ?_ | (refine And.intro ?_ (by intro hz; exfalso; omega); intro hz9))
    · have yi := wdB_iff.mpr hyes
      have lq := lep_ok (T := T) sk.2
      have lq2 := hyes.1
      have hM := H6.1
      have T36 := (T45.up (A' := [mCLAU]) (B' := [8]) (by decide) (by decide)).tr (T6.up (by decide) (by decide))
      have t6 : hI p6 M 11 = t := by rw [T36.f (by decide)]; exact t31
      have g6 : hI p6 mLENG (hI p6 M 11) = l3 := by rw [t6, T36.i (by decide) (by decide)]; exact e31
      have f6 : FRR t h p6 := ff5.tr (FRR.of T6 (by decide) (by decide) (by decide) (by decide) (by decide))
      repeat (first | refine wtA (by decide) ?_ | refine wtM ?_ | refine wtL ?_ | refine step ?_ | refine Exists.intro _ (And.intro (congrFun hM _) ?_) | refine Exists.intro _ (And.intro rfl ?_) | refine And.intro rfl ?_ | refine And.intro trivial ?_ | (refine And.intro (by intro hz; exfalso; omega) ?_; intro hz9) | refine And.intro (by omega) ?_ | refine And.intro (by simp only [lnM_TAPE, lnM_SIGN, lnM_LENG, lnM_CLAU, lnM_CLSS, lnM_READ, lnM_OPEN, lnM_STCK, lnM_WORD, lnM_SAID, lnM_WASS, lnM_KEPT, lnM_FAR, lnM_WASI, lnM_OUTO, lnM_HASB, lnM_WHER, lnM_ISFI, lnM_CELT, lnM_IMGS, lnM_IMGF, lnM_IMGX, lnM_ISMA]; omega) ?_ | (refine And.intro ?_ (by intro hz; exfalso; omega); intro hz9))
      intro p7 e7 T7; have hM := T7.m hM
      rw [g6] at e7
      have f7 : FRR t h p7 := f6.tr (FRR.cl T7 e7 (by omega))
      have T37 := T36.tr (T7.up (by decide) (by decide))
      have H7 : RX p7 T n (lep T n (skp T n j1)) := H6.to T7 (by decide) (by decide) (by decide) (by rw [T7.f (by decide)]; exact H6.2.2.2.1) (by omega) lq.2
      have P7 : PS p7 T n (lep T n (skp T n j1)) m1 t l3 l3 0 [] := PS.st H7 ⟨by rw [T37.f (by decide)]; exact m31, m32, m33⟩ ⟨by rw [T37.f (by decide)]; exact t31, ht.2⟩ (by rw [T37.i (by decide) (by decide)]; exact e31) (by omega) (by omega)
      have en := ends_tes hB n1 (k := 500) (i := lep T n (skp T n j1)) (m := m1) (by omega) lq.2 m33 (by omega)
      have tr0 : turS T n i m = (match tesS T n 500 (lep T n (skp T n j1)) m1 0 with
        | (_, .inl e) => .inl e
        | (m2, .inr (j2, t)) => .inr (skp T n j2, m2, (f, t))) := by unfold turS; rw [hv]; exact if_pos yi
      have K0 : ∀ e, turS T n i m = .inl e → ∀ p, hI p M 9 = e → FRR t h p → Φ (.inl (some (vi 0))) p := fun e he => K0 e (by rw [← he]; unfold turS; rw [hv])
      rcases htes : tesS T n 500 (lep T n (skp T n j1)) m1 0 with ⟨m2, e | ⟨j2, g⟩⟩
      · rw [htes] at en tr0
        repeat (first | refine wtA (by decide) ?_ | refine wtM ?_ | refine wtL ?_ | refine step ?_ | refine Exists.intro _ (And.intro (congrFun hM _) ?_) | refine Exists.intro _ (And.intro rfl ?_) | refine And.intro rfl ?_ | refine And.intro trivial ?_ | (refine And.intro (by intro hz; exfalso; omega) ?_; intro hz9) | refine And.intro (by omega) ?_ | refine And.intro (by simp only [lnM_TAPE, lnM_SIGN, lnM_LENG, lnM_CLAU, lnM_CLSS, lnM_READ, lnM_OPEN, lnM_STCK, lnM_WORD, lnM_SAID, lnM_WASS, lnM_KEPT, lnM_FAR, lnM_WASI, lnM_OUTO, lnM_HASB, lnM_WHER, lnM_ISFI, lnM_CELT, lnM_IMGS, lnM_IMGF, lnM_IMGX, lnM_ISMA]; omega) ?_ | (refine And.intro ?_ (by intro hz; exfalso; omega); intro hz9))
        refine Or.inl (t_tested P7 en (fun m4 e4 hr p8 e9 f8 => ?_) (fun m4 j4 f4 hr => by cases hr))
        have he : (m2, Sum.inl e) = ((m4, .inl e4) : PRS) := hr
        cases he
        repeat (first | refine wtA (by decide) ?_ | refine wtM ?_ | refine wtL ?_ | refine step ?_ | refine Exists.intro _ (And.intro (congrFun hM _) ?_) | refine Exists.intro _ (And.intro rfl ?_) | refine And.intro rfl ?_ | refine And.intro trivial ?_ | (refine And.intro (by intro hz; exfalso; omega) ?_; intro hz9) | refine And.intro (by omega) ?_ | refine And.intro (by simp only [lnM_TAPE, lnM_SIGN, lnM_LENG, lnM_CLAU, lnM_CLSS, lnM_READ, lnM_OPEN, lnM_STCK, lnM_WORD, lnM_SAID, lnM_WASS, lnM_KEPT, lnM_FAR, lnM_WASI, lnM_OUTO, lnM_HASB, lnM_WHER, lnM_ISFI, lnM_CELT, lnM_IMGS, lnM_IMGF, lnM_IMGX, lnM_ISMA]; omega) ?_ | (refine And.intro ?_ (by intro hz; exfalso; omega); intro hz9))
        exact K0 e tr0 p8 e9 (f7.tr (FRR.fr f8 (by omega) (by decide) (by decide) (by decide) (by decide)))
      · rw [htes] at en tr0
        repeat (first | refine wtA (by decide) ?_ | refine wtM ?_ | refine wtL ?_ | refine step ?_ | refine Exists.intro _ (And.intro (congrFun hM _) ?_) | refine Exists.intro _ (And.intro rfl ?_) | refine And.intro rfl ?_ | refine And.intro trivial ?_ | (refine And.intro (by intro hz; exfalso; omega) ?_; intro hz9) | refine And.intro (by omega) ?_ | refine And.intro (by simp only [lnM_TAPE, lnM_SIGN, lnM_LENG, lnM_CLAU, lnM_CLSS, lnM_READ, lnM_OPEN, lnM_STCK, lnM_WORD, lnM_SAID, lnM_WASS, lnM_KEPT, lnM_FAR, lnM_WASI, lnM_OUTO, lnM_HASB, lnM_WHER, lnM_ISFI, lnM_CELT, lnM_IMGS, lnM_IMGF, lnM_IMGX, lnM_ISMA]; omega) ?_ | (refine And.intro ?_ (by intro hz; exfalso; omega); intro hz9))
        refine Or.inl (t_tested P7 en (fun m4 e4 hr => by cases hr) (fun m4 j4 f4 hr p8 l8 hl8 P8 f8 => ?_))
        have he : (m2, Sum.inr (skp T n j2, g)) = ((m4, .inr (j4, f4)) : PRS) := hr
        cases he
        have st := last (skp T n j2) m2 l8 l3 g p8 tr0 P8.1 P8.2.1 P8.2.2.1.1 P8.2.2.2.1.1 hl8 (by have := P8.2.2.2.1.2.2.2.2; omega) (fun x hx => by rw [f8.2 x hx, T37.i (by decide) (by decide)]) (by rw [f8.1.i (by decide) (by decide), T7.i (by decide) (by decide), T6.i (by decide) (by decide)]; exact cs5) (by rw [f8.1.i (by decide) (by decide), e7, T6.i (by decide) (by decide), cl5]) (Or.inr ⟨rfl, P8.2.2.2.2.2.1, P8.2.2.2.2.2.2⟩) (f7.tr (FRR.fr f8 (by omega) (by decide) (by decide) (by decide) (by decide)))
        repeat (first | (exact st) | refine wtA (by decide) ?_ | refine wtM ?_ | refine wtL ?_ | refine step ?_ | refine Exists.intro _ (And.intro (congrFun hM _) ?_) | refine Exists.intro _ (And.intro rfl ?_) | refine And.intro rfl ?_ | refine And.intro trivial ?_ | (refine And.intro (by intro hz; exfalso; omega) ?_; intro hz9) | refine And.intro (by omega) ?_ | refine And.intro (by simp only [lnM_TAPE, lnM_SIGN, lnM_LENG, lnM_CLAU, lnM_CLSS, lnM_READ, lnM_OPEN, lnM_STCK, lnM_WORD, lnM_SAID, lnM_WASS, lnM_KEPT, lnM_FAR, lnM_WASI, lnM_OUTO, lnM_HASB, lnM_WHER, lnM_ISFI, lnM_CELT, lnM_IMGS, lnM_IMGF, lnM_IMGX, lnM_ISMA]; omega) ?_ | (refine And.intro ?_ (by intro hz; exfalso; omega); intro hz9))
