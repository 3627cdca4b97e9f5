-- NEEDS: 68 97
/-! THE TWIN'S READER: a rule -/
def rclS (T : Int → Int) (n i : Int) (s : Int × RLE) : Int ⊕ (Int × (Int × RLE)) :=
  if wdB T n (skp T n i) wTURN = true then (if s.2.length = 12 then .inl (1 + 8 * skp T n i + 4) else match turS T n (skp T n i) s.1 with
    | .inl e => .inl e
    | .inr (j, m2, cl) => .inr (j, (m2, s.2 ++ [cl]))) else .inl (1 + 8 * skp T n i + 0)
/-- what a text says as a rule -/
def rulS (T : Int → Int) (n : Int) : Int ⊕ (Int × RLE) := rdL (rclS T n) T n (n + 1).toNat 0 (0, [])
theorem tesS_ok {T : Int → Int} {n i m : Int} {k : Nat} (i0 : 0 ≤ i) (i1 : i ≤ n) (m1 : m ≤ 60) : OKR n i m (tesS T n k i m 0) := by
  have q := (cndS_ok (T := T) (n := n) k 0 i m 0 (fun _ => 0) i0 i1 m1).1
  exact bnd_OKR (bnd_OKR q (fun j m2 t a1 a2 a3 a4 => (cndS_ok k 1 j m2 0 t (by omega) a2 a4).1)) (fun j m2 t a1 a2 a3 a4 => (cndS_ok k 2 j m2 0 t (by omega) a2 a4).1)
theorem turS_ok {T : Int → Int} {n i m : Int} (i0 : 0 ≤ i) (i1 : i ≤ n) (m1 : m ≤ 60) : match turS T n i m with
    | .inl e => 1 ≤ e ∧ e ≤ 1 + 8 * n + 3
    | .inr (j, m2, _) => i < j ∧ j ≤ n ∧ m < m2 ∧ m2 ≤ 60 := by
  have lp := lep_ok (T := T) i1
  have s := smS_ok (T := T) (n := n) (i := lep T n i) (m := m) (by omega) lp.2 m1
  unfold turS
  rcases hv : smS T n (lep T n i) m with ⟨m2, e | ⟨j, f⟩⟩
  · rw [hv] at s
    exact s.2.2
  · rw [hv] at s
    obtain ⟨s1, s2, ⟨s3, s4⟩, s5⟩ := s
    have s5 : m < m2 := s5
    have s2 : m2 ≤ 60 := s2
    have sk := skp_ok (T := T) s4
    show match (if wdB T n (skp T n j) wIF = true then _ else _ : Int ⊕ (Int × Int × (FN × FN))) with
      | .inl e => 1 ≤ e ∧ e ≤ 1 + 8 * n + 3
      | .inr (j, m2, _) => i < j ∧ j ≤ n ∧ m < m2 ∧ m2 ≤ 60
    by_cases hw : wdB T n (skp T n j) wIF = true
    · rw [if_pos hw]
      have lq := lep_ok (T := T) sk.2
      have t := tesS_ok (T := T) (n := n) (i := lep T n (skp T n j)) (m := m2) (k := 500) (by omega) lq.2 s2
      rcases ht : tesS T n 500 (lep T n (skp T n j)) m2 0 with ⟨m3, e | ⟨j3, g⟩⟩
      · rw [ht] at t
        exact t.2.2
      · rw [ht] at t
        obtain ⟨t1, t2, t3, t4⟩ := t
        have t1 : m2 ≤ m3 := t1
        have sk3 := skp_ok (T := T) t4
        exact ⟨by omega, sk3.2, by omega, t2⟩
    · rw [if_neg hw]
      exact ⟨by omega, sk.2, s5, s2⟩
theorem rclS_ok {T : Int → Int} {n i : Int} {s : Int × RLE} (i0 : 0 ≤ i) (i1 : i ≤ n) (m1 : s.1 ≤ 60) : match rclS T n i s with
    | .inl e => 1 ≤ e ∧ e ≤ 1 + 8 * n + 4
    | .inr (j, s2) => i < j ∧ j ≤ n ∧ s.1 < s2.1 ∧ s2.1 ≤ 60 := by
  have sk := skp_ok (T := T) i1
  unfold rclS
  by_cases hw : wdB T n (skp T n i) wTURN = true
  · rw [if_pos hw]
    by_cases h12 : s.2.length = 12
    · rw [if_pos h12]
      exact ⟨by omega, by omega⟩
    · rw [if_neg h12]
      have t := turS_ok (T := T) (n := n) (i := skp T n i) (m := s.1) (by omega) sk.2 m1
      rcases ht : turS T n (skp T n i) s.1 with e | ⟨j, m2, cl⟩
      · rw [ht] at t
        exact ⟨t.1, by have := t.2; show e ≤ _; omega⟩
      · rw [ht] at t
        exact ⟨by have := t.1; show i < j; omega, t.2.1, t.2.2.1, t.2.2.2⟩
  · rw [if_neg hw]
    exact ⟨by omega, by omega⟩
def FRQ (t : Int) (h p : AH) : Prop := TA [mSIGN, mLENG, mOPEN, mCLAU, mCLSS] [8, 9, 10, 12, 13, 14, 16] h p ∧ (∀ x, x < 400 * t → hI p mSIGN x = hI h mSIGN x) ∧ (∀ x, x < 48 * t → hI p mCLAU x = hI h mCLAU x) ∧ ∀ x, x < t → hI p mCLSS x = hI h mCLSS x
theorem FRQ.tr {t : Int} {h p q : AH} (x : FRQ t h p) (y : FRQ t p q) : FRQ t h q := ⟨x.1.tr y.1, fun z hz => (y.2.1 z hz).trans (x.2.1 z hz), fun z hz => (y.2.2.1 z hz).trans (x.2.2.1 z hz), fun z hz => (y.2.2.2 z hz).trans (x.2.2.2 z hz)⟩
theorem FRQ.of {A : List Nat} {B : List Int} {t : Int} {h p : AH} (X : TA A B h p) (h1 : mSIGN ∉ A) (h2 : mCLAU ∉ A) (h3 : mCLSS ∉ A) (ha : ∀ a ∈ A, a ∈ [mSIGN, mLENG, mOPEN, mCLAU, mCLSS]) (hb : ∀ b ∈ B, b ∈ ([8, 9, 10, 12, 13, 14, 16] : List Int)) : FRQ t h p := ⟨X.up ha hb, fun x _ => congrFun (X.i h1 (by decide)) x, fun x _ => congrFun (X.i h2 (by decide)) x, fun x _ => congrFun (X.i h3 (by decide)) x⟩
theorem FRR.q {t : Int} {h p : AH} (x : FRR t h p) : FRQ t h p := ⟨x.1.up (by decide) (by decide), x.2⟩
/-- the reader of rule t, in between clauses -/
def RI (T : Int → Int) (n t : Int) (p : AH) (i : Int) (s : Int × RLE) : Prop := ∃ l, PS p T n i s.1 t l l 0 [] ∧ RCH p t l s.2 ∧ hI p M 14 = s.2.length
theorem t_clauseR {d : Nat} {h : AH} {Φ : OUT → AH → Prop} {T : Int → Int} {n t i : Int} {s : Int × RLE} (H : RI T n t h i s)
    (K0 : ∀ e, rclS T n i s = .inl e → 1 ≤ e → e ≤ 4000 → ∀ p, hP p M = MP → hI p M 9 = e → FRQ t h p → Φ (.inl (some (vi 0))) p)
    (K : ∀ j s2, rclS T n i s = .inr (j, s2) → i < j → ∀ p, RI T n t p j s2 → FRQ t h p → Φ (.inl (some (vi 1))) p) : CT (d + 12) 0 0 J_X4_clauseHere [vo M] h Φ := by
  obtain ⟨l, P, R, l14⟩ := H
  obtain ⟨m, acc⟩ := s
  obtain ⟨hRX, ⟨b1, b2, b3⟩, ⟨d1, d2, d3⟩, ⟨e1, e2, e3, e4, e5⟩, -, -, -⟩ := id P
  obtain ⟨hM, -, -, -, ⟨i0, i1⟩, n1, hB, -⟩ := id hRX
  have sk := skp_ok (T := T) i1
  have id2 := skp_idem (T := T) i1
  have ok := rclS_ok (T := T) (n := n) (i := i) (s := (m, acc)) i0 i1 b3
  have a12 : acc.length ≤ 12 := R.2.1
  unfold rclS at K0 K ok
  refine e_X4_clauseHere ?_; intro k step keep
  repeat (first | refine wtA (by decide) ?_ | refine wtM ?_ | refine wtL ?_ | refine step ?_ | refine Exists.intro _ (And.intro (congrFun hM _) ?_) | refine Exists.intro _ (And.intro rfl ?_) | refine And.intro rfl ?_ | refine And.intro trivial ?_ | (refine And.intro (by intro hz; exfalso; omega) ?_; intro hz9) | refine And.intro (by omega) ?_ | refine And.intro (by simp only [lnM_TAPE, lnM_SIGN, lnM_LENG, lnM_CLAU, lnM_CLSS, lnM_READ, lnM_OPEN, lnM_STCK, lnM_WORD, lnM_SAID, lnM_WASS, lnM_KEPT, lnM_FAR, lnM_WASI, lnM_OUTO, lnM_HASB, lnM_WHER, lnM_ISFI, lnM_CELT, lnM_IMGS, lnM_IMGF, lnM_IMGX, lnM_ISMA]; omega) ?_ | (refine And.intro ?_ (by intro hz; exfalso; omega); intro hz9))
  refine Or.inl (t_seeR hRX (fun p1 H1 T1 => ?_))
  obtain ⟨hM, -, -, h8, -, -, -, h9⟩ := id H1
  have t1 : hI p1 M 11 = t := by rw [T1.f (by decide)]; exact d1
  repeat (first | refine wtA (by decide) ?_ | refine wtM ?_ | refine wtL ?_ | refine step ?_ | refine Exists.intro _ (And.intro (congrFun hM _) ?_) | refine Exists.intro _ (And.intro rfl ?_) | refine And.intro rfl ?_ | refine And.intro trivial ?_ | (refine And.intro (by intro hz; exfalso; omega) ?_; intro hz9) | refine And.intro (by omega) ?_ | refine And.intro (by simp only [lnM_TAPE, lnM_SIGN, lnM_LENG, lnM_CLAU, lnM_CLSS, lnM_READ, lnM_OPEN, lnM_STCK, lnM_WORD, lnM_SAID, lnM_WASS, lnM_KEPT, lnM_FAR, lnM_WASI, lnM_OUTO, lnM_HASB, lnM_WHER, lnM_ISFI, lnM_CELT, lnM_IMGS, lnM_IMGF, lnM_IMGX, lnM_ISMA]; omega) ?_ | (refine And.intro ?_ (by intro hz; exfalso; omega); intro hz9))
  rw [h8]
  refine Or.inl (t_isWordR (W := wTURN) H1 (by decide) (fun p2 r2 hr2 H2 T2 => ?_))
  rw [id2] at hr2 H2
  obtain ⟨hM, -, -, h8, -, -, -, h9⟩ := id H2
  have T12 := T1.tr T2
  have f2 : FRQ t h p2 := FRQ.of T12 (by decide) (by decide) (by decide) (by decide) (by decide)
  have w14 : hI p2 M 14 = acc.length := by rw [T12.f (by decide)]; exact l14
  have R2 : RCH p2 t l acc := by
    unfold RCH
    rw [T12.i (b := mCLSS) (by decide) (by decide), T12.i (b := mSIGN) (by decide) (by decide), T12.i (b := mCLAU) (by decide) (by decide)]
    exact R
  repeat (first | refine wtA (by decide) ?_ | refine wtM ?_ | refine wtL ?_ | refine step ?_ | refine Exists.intro _ (And.intro (congrFun hM _) ?_) | refine Exists.intro _ (And.intro rfl ?_) | refine And.intro rfl ?_ | refine And.intro trivial ?_ | (refine And.intro (by intro hz; exfalso; omega) ?_; intro hz9) | refine And.intro (by omega) ?_ | refine And.intro (by simp only [lnM_TAPE, lnM_SIGN, lnM_LENG, lnM_CLAU, lnM_CLSS, lnM_READ, lnM_OPEN, lnM_STCK, lnM_WORD, lnM_SAID, lnM_WASS, lnM_KEPT, lnM_FAR, lnM_WASI, lnM_OUTO, lnM_HASB, lnM_WHER, lnM_ISFI, lnM_CELT, lnM_IMGS, lnM_IMGF, lnM_IMGX, lnM_ISMA]; omega) ?_ | (refine And.intro ?_ (by intro hz; exfalso; omega); intro hz9))
  refine And.intro (fun hc => ?_) (fun hc => ?_)
  · have hw : wdB T n (skp T n i) wTURN = true := wdB_iff.mpr (by
      rcases hr2 with y | y
      · exact y.2
      · omega)
    rw [if_pos hw] at K0 K ok
    have hjn := wd_by sk.2 hw
    repeat (first | refine wtA (by decide) ?_ | refine wtM ?_ | refine wtL ?_ | refine step ?_ | refine Exists.intro _ (And.intro (congrFun hM _) ?_) | refine Exists.intro _ (And.intro rfl ?_) | refine And.intro rfl ?_ | refine And.intro trivial ?_ | (refine And.intro (by intro hz; exfalso; omega) ?_; intro hz9) | refine And.intro (by omega) ?_ | refine And.intro (by simp only [lnM_TAPE, lnM_SIGN, lnM_LENG, lnM_CLAU, lnM_CLSS, lnM_READ, lnM_OPEN, lnM_STCK, lnM_WORD, lnM_SAID, lnM_WASS, lnM_KEPT, lnM_FAR, lnM_WASI, lnM_OUTO, lnM_HASB, lnM_WHER, lnM_ISFI, lnM_CELT, lnM_IMGS, lnM_IMGF, lnM_IMGX, lnM_ISMA]; omega) ?_ | (refine And.intro ?_ (by intro hz; exfalso; omega); intro hz9))
    rw [w14]
    repeat (first | refine wtA (by decide) ?_ | refine wtM ?_ | refine wtL ?_ | refine step ?_ | refine Exists.intro _ (And.intro (congrFun hM _) ?_) | refine Exists.intro _ (And.intro rfl ?_) | refine And.intro rfl ?_ | refine And.intro trivial ?_ | (refine And.intro (by intro hz; exfalso; omega) ?_; intro hz9) | refine And.intro (by omega) ?_ | refine And.intro (by simp only [lnM_TAPE, lnM_SIGN, lnM_LENG, lnM_CLAU, lnM_CLSS, lnM_READ, lnM_OPEN, lnM_STCK, lnM_WORD, lnM_SAID, lnM_WASS, lnM_KEPT, lnM_FAR, lnM_WASI, lnM_OUTO, lnM_HASB, lnM_WHER, lnM_ISFI, lnM_CELT, lnM_IMGS, lnM_IMGF, lnM_IMGX, lnM_ISMA]; omega) ?_ | (refine And.intro ?_ (by intro hz; exfalso; omega); intro hz9))
    refine And.intro (fun hd => ?_) (fun hd => ?_)
    · have hl : ¬ acc.length = 12 := by omega
      rw [if_neg hl] at K0 K ok
      repeat (first | refine wtA (by decide) ?_ | refine wtM ?_ | refine wtL ?_ | refine step ?_ | refine Exists.intro _ (And.intro (congrFun hM _) ?_) | refine Exists.intro _ (And.intro rfl ?_) | refine And.intro rfl ?_ | refine And.intro trivial ?_ | (refine And.intro (by intro hz; exfalso; omega) ?_; intro hz9) | refine And.intro (by omega) ?_ | refine And.intro (by simp only [lnM_TAPE, lnM_SIGN, lnM_LENG, lnM_CLAU, lnM_CLSS, lnM_READ, lnM_OPEN, lnM_STCK, lnM_WORD, lnM_SAID, lnM_WASS, lnM_KEPT, lnM_FAR, lnM_WASI, lnM_OUTO, lnM_HASB, lnM_WHER, lnM_ISFI, lnM_CELT, lnM_IMGS, lnM_IMGF, lnM_IMGX, lnM_ISMA]; omega) ?_ | (refine And.intro ?_ (by intro hz; exfalso; omega); intro hz9))
      intro p3 e3 T3; have hM := T3.m hM
      rw [w14] at e3
      have H3 : RX p3 T n (skp T n i) := H2.to T3 (by decide) (by decide) (by decide) (by rw [T3.f (by decide)]; exact h8) (by omega) sk.2
      have f3 : FRQ t h p3 := f2.tr (FRQ.of T3 (by decide) (by decide) (by decide) (by decide) (by decide))
      have T13 := (T12.up (A' := []) (B' := [8, 14]) (by decide) (by decide)).tr (T3.up (by decide) (by decide))
      have R3 : RCH p3 t l acc := by
        unfold RCH
        rw [T3.i (b := mCLSS) (by decide) (by decide), T3.i (b := mSIGN) (by decide) (by decide), T3.i (b := mCLAU) (by decide) (by decide)]
        exact R2
      repeat (first | refine wtA (by decide) ?_ | refine wtM ?_ | refine wtL ?_ | refine step ?_ | refine Exists.intro _ (And.intro (congrFun hM _) ?_) | refine Exists.intro _ (And.intro rfl ?_) | refine And.intro rfl ?_ | refine And.intro trivial ?_ | (refine And.intro (by intro hz; exfalso; omega) ?_; intro hz9) | refine And.intro (by omega) ?_ | refine And.intro (by simp only [lnM_TAPE, lnM_SIGN, lnM_LENG, lnM_CLAU, lnM_CLSS, lnM_READ, lnM_OPEN, lnM_STCK, lnM_WORD, lnM_SAID, lnM_WASS, lnM_KEPT, lnM_FAR, lnM_WASI, lnM_OUTO, lnM_HASB, lnM_WHER, lnM_ISFI, lnM_CELT, lnM_IMGS, lnM_IMGF, lnM_IMGX, lnM_ISMA]; omega) ?_ | (refine And.intro ?_ (by intro hz; exfalso; omega); intro hz9))
      refine Or.inl (t_isTurnHere (m := m) (t := t) (l := l) (acc := acc) H3 (wdB_iff.mp hw).1 ⟨by rw [T13.f (by decide)]; exact b1, b2, b3⟩ ⟨by rw [T13.f (by decide)]; exact d1, d2, d3⟩ (by rw [T13.i (by decide) (by decide)]; exact e1) (by omega) (by omega) R3 (by omega) (fun e he p4 h9 f4 => ?_) (fun j m2 cl he p4 l2 P4 R4 f4 => ?_))
      · have he' : turS T n (skp T n i) (m, acc).1 = .inl e := he
        rw [he'] at K0 ok
        repeat (first | refine wtA (by decide) ?_ | refine wtM ?_ | refine wtL ?_ | refine step ?_ | refine Exists.intro _ (And.intro (congrFun hM _) ?_) | refine Exists.intro _ (And.intro rfl ?_) | refine And.intro rfl ?_ | refine And.intro trivial ?_ | (refine And.intro (by intro hz; exfalso; omega) ?_; intro hz9) | refine And.intro (by omega) ?_ | refine And.intro (by simp only [lnM_TAPE, lnM_SIGN, lnM_LENG, lnM_CLAU, lnM_CLSS, lnM_READ, lnM_OPEN, lnM_STCK, lnM_WORD, lnM_SAID, lnM_WASS, lnM_KEPT, lnM_FAR, lnM_WASI, lnM_OUTO, lnM_HASB, lnM_WHER, lnM_ISFI, lnM_CELT, lnM_IMGS, lnM_IMGF, lnM_IMGX, lnM_ISMA]; omega) ?_ | (refine And.intro ?_ (by intro hz; exfalso; omega); intro hz9))
        exact K0 e rfl ok.1 (by have : e ≤ 1 + 8 * n + 4 := ok.2; omega) p4 (f4.1.m hM) h9 (f3.tr f4.q)
      · have he' : turS T n (skp T n i) (m, acc).1 = .inr (j, m2, cl) := he
        rw [he'] at K ok
        repeat (first | refine wtA (by decide) ?_ | refine wtM ?_ | refine wtL ?_ | refine step ?_ | refine Exists.intro _ (And.intro (congrFun hM _) ?_) | refine Exists.intro _ (And.intro rfl ?_) | refine And.intro rfl ?_ | refine And.intro trivial ?_ | (refine And.intro (by intro hz; exfalso; omega) ?_; intro hz9) | refine And.intro (by omega) ?_ | refine And.intro (by simp only [lnM_TAPE, lnM_SIGN, lnM_LENG, lnM_CLAU, lnM_CLSS, lnM_READ, lnM_OPEN, lnM_STCK, lnM_WORD, lnM_SAID, lnM_WASS, lnM_KEPT, lnM_FAR, lnM_WASI, lnM_OUTO, lnM_HASB, lnM_WHER, lnM_ISFI, lnM_CELT, lnM_IMGS, lnM_IMGF, lnM_IMGX, lnM_ISMA]; omega) ?_ | (refine And.intro ?_ (by intro hz; exfalso; omega); intro hz9))
        exact K j _ rfl ok.1 p4 ⟨l2, P4, R4, by rw [f4.1.f (by decide), e3]; simp⟩ (f3.tr f4.q)
    · have hl : acc.length = 12 := by omega
      rw [if_pos hl] at K0 ok
      repeat (first | refine wtA (by decide) ?_ | refine wtM ?_ | refine wtL ?_ | refine step ?_ | refine Exists.intro _ (And.intro (congrFun hM _) ?_) | refine Exists.intro _ (And.intro rfl ?_) | refine And.intro rfl ?_ | refine And.intro trivial ?_ | (refine And.intro (by intro hz; exfalso; omega) ?_; intro hz9) | refine And.intro (by omega) ?_ | refine And.intro (by simp only [lnM_TAPE, lnM_SIGN, lnM_LENG, lnM_CLAU, lnM_CLSS, lnM_READ, lnM_OPEN, lnM_STCK, lnM_WORD, lnM_SAID, lnM_WASS, lnM_KEPT, lnM_FAR, lnM_WASI, lnM_OUTO, lnM_HASB, lnM_WHER, lnM_ISFI, lnM_CELT, lnM_IMGS, lnM_IMGF, lnM_IMGX, lnM_ISMA]; omega) ?_ | (refine And.intro ?_ (by intro hz; exfalso; omega); intro hz9))
      refine Or.inl (t_fails (by omega) (fun p3 e9 T3 => ?_))
      rw [if_pos h9] at e9
      repeat (first | refine wtA (by decide) ?_ | refine wtM ?_ | refine wtL ?_ | refine step ?_ | refine Exists.intro _ (And.intro (congrFun hM _) ?_) | refine Exists.intro _ (And.intro rfl ?_) | refine And.intro rfl ?_ | refine And.intro trivial ?_ | (refine And.intro (by intro hz; exfalso; omega) ?_; intro hz9) | refine And.intro (by omega) ?_ | refine And.intro (by simp only [lnM_TAPE, lnM_SIGN, lnM_LENG, lnM_CLAU, lnM_CLSS, lnM_READ, lnM_OPEN, lnM_STCK, lnM_WORD, lnM_SAID, lnM_WASS, lnM_KEPT, lnM_FAR, lnM_WASI, lnM_OUTO, lnM_HASB, lnM_WHER, lnM_ISFI, lnM_CELT, lnM_IMGS, lnM_IMGF, lnM_IMGX, lnM_ISMA]; omega) ?_ | (refine And.intro ?_ (by intro hz; exfalso; omega); intro hz9))
      exact K0 _ rfl (by omega) (by omega) p3 (T3.m hM) e9 (f2.tr (FRQ.of T3 (by decide) (by decide) (by decide) (by decide) (by decide)))
  · have hw : ¬ wdB T n (skp T n i) wTURN = true := fun z => by
      rcases hr2 with y | y
      · omega
      · exact y.2 (wdB_iff.mp z)
    rw [if_neg hw] at K0
    repeat (first | refine wtA (by decide) ?_ | refine wtM ?_ | refine wtL ?_ | refine step ?_ | refine Exists.intro _ (And.intro (congrFun hM _) ?_) | refine Exists.intro _ (And.intro rfl ?_) | refine And.intro rfl ?_ | refine And.intro trivial ?_ | (refine And.intro (by intro hz; exfalso; omega) ?_; intro hz9) | refine And.intro (by omega) ?_ | refine And.intro (by simp only [lnM_TAPE, lnM_SIGN, lnM_LENG, lnM_CLAU, lnM_CLSS, lnM_READ, lnM_OPEN, lnM_STCK, lnM_WORD, lnM_SAID, lnM_WASS, lnM_KEPT, lnM_FAR, lnM_WASI, lnM_OUTO, lnM_HASB, lnM_WHER, lnM_ISFI, lnM_CELT, lnM_IMGS, lnM_IMGF, lnM_IMGX, lnM_ISMA]; omega) ?_ | (refine And.intro ?_ (by intro hz; exfalso; omega); intro hz9))
    refine Or.inl (t_fails (by omega) (fun p3 e9 T3 => ?_))
    rw [if_pos h9] at e9
    repeat (first | refine wtA (by decide) ?_ | refine wtM ?_ | refine wtL ?_ | refine step ?_ | refine Exists.intro _ (And.intro (congrFun hM _) ?_) | refine Exists.intro _ (And.intro rfl ?_) | refine And.intro rfl ?_ | refine And.intro trivial ?_ | (refine And.intro (by intro hz; exfalso; omega) ?_; intro hz9) | refine And.intro (by omega) ?_ | refine And.intro (by simp only [lnM_TAPE, lnM_SIGN, lnM_LENG, lnM_CLAU, lnM_CLSS, lnM_READ, lnM_OPEN, lnM_STCK, lnM_WORD, lnM_SAID, lnM_WASS, lnM_KEPT, lnM_FAR, lnM_WASI, lnM_OUTO, lnM_HASB, lnM_WHER, lnM_ISFI, lnM_CELT, lnM_IMGS, lnM_IMGF, lnM_IMGX, lnM_ISMA]; omega) ?_ | (refine And.intro ?_ (by intro hz; exfalso; omega); intro hz9))
    exact K0 _ rfl (by omega) (by omega) p3 (T3.m hM) e9 (f2.tr (FRQ.of T3 (by decide) (by decide) (by decide) (by decide) (by decide)))
/-- what the twin's reader of rules may change -/
abbrev RUA : List Nat := [mSIGN, mLENG, mOPEN, mCLAU, mCLSS]
abbrev RUB : List Int := [1, 2, 8, 9, 10, 11, 12, 13, 14, 16]
theorem RCH.rt {p : AH} {t l : Int} {L : RLE} (H : RCH p t l L) : RT (hI p mSIGN) (hI p mCLAU) (hI p mCLSS) t L := ⟨H.1, H.2.1, fun c q hq => (H.2.2 c q hq).1⟩
/-- an older rule is as it was -/
theorem RT.keep {p h : AH} {t r : Int} {L : RLE} (H : RT (hI h mSIGN) (hI h mCLAU) (hI h mCLSS) r L) (hr : r < t) (h1 : ∀ x, x < 400 * t → hI p mSIGN x = hI h mSIGN x) (h2 : ∀ x, x < 48 * t → hI p mCLAU x = hI h mCLAU x) (h3 : ∀ x, x < t → hI p mCLSS x = hI h mCLSS x) : RT (hI p mSIGN) (hI p mCLAU) (hI p mCLSS) r L := by
  obtain ⟨a, b, c⟩ := H
  refine ⟨by rw [h3 r hr]; exact a, b, fun k q hq => ?_⟩
  obtain ⟨⟨⟨q1, q2, q3⟩, q4, q5⟩, q6⟩ := c k q hq
  have hk : k < L.length := by
    rcases Nat.lt_or_ge k L.length with z | z
    · exact z
    · rw [List.getElem?_eq_none z] at hq; cases hq
  have u : ∀ y, 0 ≤ y → y ≤ 3 → hI p mCLAU (48 * r + 4 * k + y) = hI h mCLAU (48 * r + 4 * k + y) := fun y y0 y1 => h2 _ (by omega)
  have u0 := u 0 (by omega) (by omega)
  have u1 := u 1 (by omega) (by omega)
  have u2 := u 2 (by omega) (by omega)
  have u3 := u 3 (by omega) (by omega)
  rw [Int.add_zero] at u0
  unfold CLS
  rw [u0, u1, u2, u3]
  refine ⟨⟨⟨q1, q2, q3⟩, fun x x0 x1 => ?_, fun w => ?_⟩, ?_⟩
  · rw [h1 _ (by omega)]; exact q4 x x0 x1
  · rw [runS_congr (sg := fun x => hI h mSIGN (400 * r + x)) _ _ _ (fun x x0 x1 => h1 _ (by omega))]
    exact q5 w
  · rcases q6 with q6 | ⟨⟨v1, v2, v3⟩, v4, v5⟩
    · exact Or.inl q6
    · refine Or.inr ⟨⟨v1, v2, v3⟩, fun x x0 x1 => ?_, fun w => ?_⟩
      · rw [h1 _ (by omega)]; exact v4 x x0 x1
      · rw [runS_congr (sg := fun x => hI h mSIGN (400 * r + x)) _ _ _ (fun x x0 x1 => h1 _ (by omega))]
        exact v5 w
theorem t_rule {d : Nat} {h : AH} {Φ : OUT → AH → Prop} {T : Int → Int} {n r : Int} {ρ : Int → RLE} (hM : hP h M = MP) (hT : hI h mTAPE = T) (hn : hI h M 1 = n) (n0 : 0 ≤ n) (n1 : n ≤ 400) (hB : TB T) (hr : hI h M 2 = r) (r0 : 0 ≤ r) (r6 : r ≤ 6) (hR : ∀ x, 0 ≤ x → x < r → RT (hI h mSIGN) (hI h mCLAU) (hI h mCLSS) x (ρ x))
    (K6 : r = 6 → Φ (.inl (some (vi (-1)))) h)
    (K0 : r < 6 → ∀ e, rulS T n = .inl e → 1 ≤ e → e ≤ 4000 → ∀ p, hI p M 1 = 0 → hI p M 2 = r → (∀ x, 0 ≤ x → x < r → RT (hI p mSIGN) (hI p mCLAU) (hI p mCLSS) x (ρ x)) → TA RUA RUB h p → Φ (.inl (some (vi (-2 - e)))) p)
    (K : r < 6 → ∀ m L, rulS T n = .inr (m, L) → ∀ p, hI p M 1 = 0 → hI p M 2 = r + 1 → (∀ x, 0 ≤ x → x < r → RT (hI p mSIGN) (hI p mCLAU) (hI p mCLSS) x (ρ x)) → RT (hI p mSIGN) (hI p mCLAU) (hI p mCLSS) r L → TA RUA RUB h p → Φ (.inl (some (vi r))) p) : CT (d + 14) 0 0 J_X4_rule [vo M] h Φ := by
  refine e_X4_rule ?_; intro k step keep
  repeat (first | refine wtA (by decide) ?_ | refine wtM ?_ | refine wtL ?_ | refine step ?_ | refine Exists.intro _ (And.intro (congrFun hM _) ?_) | refine Exists.intro _ (And.intro rfl ?_) | refine And.intro rfl ?_ | refine And.intro trivial ?_ | (refine And.intro (by intro hz; exfalso; omega) ?_; intro hz9) | refine And.intro (by omega) ?_ | refine And.intro (by simp only [lnM_TAPE, lnM_SIGN, lnM_LENG, lnM_CLAU, lnM_CLSS, lnM_READ, lnM_OPEN, lnM_STCK, lnM_WORD, lnM_SAID, lnM_WASS, lnM_KEPT, lnM_FAR, lnM_WASI, lnM_OUTO, lnM_HASB, lnM_WHER, lnM_ISFI, lnM_CELT, lnM_IMGS, lnM_IMGF, lnM_IMGX, lnM_ISMA]; omega) ?_ | (refine And.intro ?_ (by intro hz; exfalso; omega); intro hz9))
  refine And.intro (fun hc => ?_) (fun hc => ?_)
  · have r5 : r < 6 := by omega
    repeat (first | refine wtA (by decide) ?_ | refine wtM ?_ | refine wtL ?_ | refine step ?_ | refine Exists.intro _ (And.intro (congrFun hM _) ?_) | refine Exists.intro _ (And.intro rfl ?_) | refine And.intro rfl ?_ | refine And.intro trivial ?_ | (refine And.intro (by intro hz; exfalso; omega) ?_; intro hz9) | refine And.intro (by omega) ?_ | refine And.intro (by simp only [lnM_TAPE, lnM_SIGN, lnM_LENG, lnM_CLAU, lnM_CLSS, lnM_READ, lnM_OPEN, lnM_STCK, lnM_WORD, lnM_SAID, lnM_WASS, lnM_KEPT, lnM_FAR, lnM_WASI, lnM_OUTO, lnM_HASB, lnM_WHER, lnM_ISFI, lnM_CELT, lnM_IMGS, lnM_IMGF, lnM_IMGX, lnM_ISMA]; omega) ?_ | (refine And.intro ?_ (by intro hz; exfalso; omega); intro hz9))
    intro p1 e1 T1; have hM := T1.m hM
    rw [hr] at e1
    repeat (first | refine wtA (by decide) ?_ | refine wtM ?_ | refine wtL ?_ | refine step ?_ | refine Exists.intro _ (And.intro (congrFun hM _) ?_) | refine Exists.intro _ (And.intro rfl ?_) | refine And.intro rfl ?_ | refine And.intro trivial ?_ | (refine And.intro (by intro hz; exfalso; omega) ?_; intro hz9) | refine And.intro (by omega) ?_ | refine And.intro (by simp only [lnM_TAPE, lnM_SIGN, lnM_LENG, lnM_CLAU, lnM_CLSS, lnM_READ, lnM_OPEN, lnM_STCK, lnM_WORD, lnM_SAID, lnM_WASS, lnM_KEPT, lnM_FAR, lnM_WASI, lnM_OUTO, lnM_HASB, lnM_WHER, lnM_ISFI, lnM_CELT, lnM_IMGS, lnM_IMGF, lnM_IMGX, lnM_ISMA]; omega) ?_ | (refine And.intro ?_ (by intro hz; exfalso; omega); intro hz9))
    rw [e1]
    repeat (first | refine wtA (by decide) ?_ | refine wtM ?_ | refine wtL ?_ | refine step ?_ | refine Exists.intro _ (And.intro (congrFun hM _) ?_) | refine Exists.intro _ (And.intro rfl ?_) | refine And.intro rfl ?_ | refine And.intro trivial ?_ | (refine And.intro (by intro hz; exfalso; omega) ?_; intro hz9) | refine And.intro (by omega) ?_ | refine And.intro (by simp only [lnM_TAPE, lnM_SIGN, lnM_LENG, lnM_CLAU, lnM_CLSS, lnM_READ, lnM_OPEN, lnM_STCK, lnM_WORD, lnM_SAID, lnM_WASS, lnM_KEPT, lnM_FAR, lnM_WASI, lnM_OUTO, lnM_HASB, lnM_WHER, lnM_ISFI, lnM_CELT, lnM_IMGS, lnM_IMGF, lnM_IMGX, lnM_ISMA]; omega) ?_ | (refine And.intro ?_ (by intro hz; exfalso; omega); intro hz9))
    intro p2 e2 T2; have hM := T2.m hM
    have T12 := (T1.up (A' := [mCLSS]) (B' := [11]) (by decide) (by decide)).tr (T2.up (by decide) (by decide))
    have c2 : hI p2 mCLSS r = 0 := by rw [e2]; exact if_pos rfl
    have q2 : ∀ p, FRQ r p2 p → (∀ x, x < 400 * r → hI p mSIGN x = hI h mSIGN x) ∧ (∀ x, x < 48 * r → hI p mCLAU x = hI h mCLAU x) ∧ ∀ x, x < r → hI p mCLSS x = hI h mCLSS x := fun p f => ⟨fun x hx => by rw [f.2.1 x hx, T12.i (by decide) (by decide)], fun x hx => by rw [f.2.2.1 x hx, T12.i (by decide) (by decide)], fun x hx => by
      rw [f.2.2.2 x hx, e2]
      show (if x = r then _ else _) = _
      rw [if_neg (by omega), T1.i (by decide) (by decide)]⟩
    repeat (first | refine wtA (by decide) ?_ | refine wtM ?_ | refine wtL ?_ | refine step ?_ | refine Exists.intro _ (And.intro (congrFun hM _) ?_) | refine Exists.intro _ (And.intro rfl ?_) | refine And.intro rfl ?_ | refine And.intro trivial ?_ | (refine And.intro (by intro hz; exfalso; omega) ?_; intro hz9) | refine And.intro (by omega) ?_ | refine And.intro (by simp only [lnM_TAPE, lnM_SIGN, lnM_LENG, lnM_CLAU, lnM_CLSS, lnM_READ, lnM_OPEN, lnM_STCK, lnM_WORD, lnM_SAID, lnM_WASS, lnM_KEPT, lnM_FAR, lnM_WASI, lnM_OUTO, lnM_HASB, lnM_WHER, lnM_ISFI, lnM_CELT, lnM_IMGS, lnM_IMGF, lnM_IMGX, lnM_ISMA]; omega) ?_ | (refine And.intro ?_ (by intro hz; exfalso; omega); intro hz9))
    refine Or.inl (t_readsAll (σ := Int × RLE) (s0 := ((0, []) : Int × RLE)) (cl := rclS T n) (Inv := RI T n r) (FF := FRQ r) hM (by rw [T12.i (by decide) (by decide)]; exact hT) (by rw [T12.f (by decide)]; exact hn) n0 n1 hB (by rw [T2.f (by decide)]; exact e1) r0 r6 (fun p H0 g e14 e12 T0 => ?_) (fun p i s hi => ?_) (fun p q i j s hi hij Hq Tq => ?_) (fun p i s Ψ hi k0 k1 => t_clauseR hi k0 k1) (fun p q X => FRQ.of X (by decide) (by decide) (by decide) (by decide) (by decide)) (fun p q r x y => x.tr y) (fun e he e1' e2' p p1 hM h9 h1 f1 T1' => ?_) (fun s2 he p p1 i hM hi h1 f1 T1' => ?_))
    · refine ⟨⟨0, PS.st H0 ⟨e12, by decide, by decide⟩ ⟨by rw [T0.f (by decide), T2.f (by decide)]; exact e1, r0, by omega⟩ (by rw [g]; exact if_pos rfl) (Int.le_refl _) (Int.le_refl _), ⟨by rw [T0.i (by decide) (by decide)]; exact c2, by decide, fun c q hq => by simp at hq⟩, e14⟩, FRQ.of T0 (by decide) (by decide) (by decide) (by decide) (by decide)⟩
    · obtain ⟨l, P, -, -⟩ := hi
      exact P.1
    · obtain ⟨l, P, R, l14⟩ := hi
      have pp := P.2.2.2.1
      refine ⟨l, P.mv Tq (by decide) (by decide) (by decide) Hq (by rw [Tq.f (by decide)]; exact P.2.1.1) (Int.le_refl _) P.2.1.2.2 (Int.le_refl _) (by omega), ?_, by rw [Tq.f (by decide)]; exact l14⟩
      unfold RCH
      rw [Tq.i (b := mCLSS) (by decide) (by decide), Tq.i (b := mSIGN) (by decide) (by decide), Tq.i (b := mCLAU) (by decide) (by decide)]
      exact R
    · obtain ⟨q1, q3, q4⟩ := q2 p1 f1
      have TT := ((T12.up (A' := RUA) (B' := RUB) (by decide) (by decide)).tr (f1.1.up (by decide) (by decide))).tr (T1'.up (by decide) (by decide))
      repeat (first | refine wtA (by decide) ?_ | refine wtM ?_ | refine wtL ?_ | refine step ?_ | refine Exists.intro _ (And.intro (congrFun hM _) ?_) | refine Exists.intro _ (And.intro rfl ?_) | refine And.intro rfl ?_ | refine And.intro trivial ?_ | (refine And.intro (by intro hz; exfalso; omega) ?_; intro hz9) | refine And.intro (by omega) ?_ | refine And.intro (by simp only [lnM_TAPE, lnM_SIGN, lnM_LENG, lnM_CLAU, lnM_CLSS, lnM_READ, lnM_OPEN, lnM_STCK, lnM_WORD, lnM_SAID, lnM_WASS, lnM_KEPT, lnM_FAR, lnM_WASI, lnM_OUTO, lnM_HASB, lnM_WHER, lnM_ISFI, lnM_CELT, lnM_IMGS, lnM_IMGF, lnM_IMGX, lnM_ISMA]; omega) ?_ | (refine And.intro ?_ (by intro hz; exfalso; omega); intro hz9))
      rw [h9]
      refine K0 r5 e he e1' e2' p h1 ?_ (fun x x0 x1 => ?_) TT
      · rw [T1'.f (by decide), f1.1.f (by decide), T12.f (by decide)]; exact hr
      · rw [T1'.i (b := mCLSS) (by decide) (by decide), T1'.i (b := mSIGN) (by decide) (by decide), T1'.i (b := mCLAU) (by decide) (by decide)]
        exact (hR x x0 x1).keep x1 q1 q3 q4
    · obtain ⟨q1, q3, q4⟩ := q2 p1 f1
      have TT := ((T12.up (A' := RUA) (B' := RUB) (by decide) (by decide)).tr (f1.1.up (by decide) (by decide))).tr (T1'.up (by decide) (by decide))
      have w2 : hI p M 2 = r := by rw [T1'.f (by decide), f1.1.f (by decide), T12.f (by decide)]; exact hr
      obtain ⟨l, P, R, l14⟩ := hi
      obtain ⟨m, L⟩ := s2
      repeat (first | refine wtA (by decide) ?_ | refine wtM ?_ | refine wtL ?_ | refine step ?_ | refine Exists.intro _ (And.intro (congrFun hM _) ?_) | refine Exists.intro _ (And.intro rfl ?_) | refine And.intro rfl ?_ | refine And.intro trivial ?_ | (refine And.intro (by intro hz; exfalso; omega) ?_; intro hz9) | refine And.intro (by omega) ?_ | refine And.intro (by simp only [lnM_TAPE, lnM_SIGN, lnM_LENG, lnM_CLAU, lnM_CLSS, lnM_READ, lnM_OPEN, lnM_STCK, lnM_WORD, lnM_SAID, lnM_WASS, lnM_KEPT, lnM_FAR, lnM_WASI, lnM_OUTO, lnM_HASB, lnM_WHER, lnM_ISFI, lnM_CELT, lnM_IMGS, lnM_IMGF, lnM_IMGX, lnM_ISMA]; omega) ?_ | (refine And.intro ?_ (by intro hz; exfalso; omega); intro hz9))
      intro p8 e8 T8; have hM := T8.m hM
      rw [w2] at e8
      repeat (first | refine wtA (by decide) ?_ | refine wtM ?_ | refine wtL ?_ | refine step ?_ | refine Exists.intro _ (And.intro (congrFun hM _) ?_) | refine Exists.intro _ (And.intro rfl ?_) | refine And.intro rfl ?_ | refine And.intro trivial ?_ | (refine And.intro (by intro hz; exfalso; omega) ?_; intro hz9) | refine And.intro (by omega) ?_ | refine And.intro (by simp only [lnM_TAPE, lnM_SIGN, lnM_LENG, lnM_CLAU, lnM_CLSS, lnM_READ, lnM_OPEN, lnM_STCK, lnM_WORD, lnM_SAID, lnM_WASS, lnM_KEPT, lnM_FAR, lnM_WASI, lnM_OUTO, lnM_HASB, lnM_WHER, lnM_ISFI, lnM_CELT, lnM_IMGS, lnM_IMGF, lnM_IMGX, lnM_ISMA]; omega) ?_ | (refine And.intro ?_ (by intro hz; exfalso; omega); intro hz9))
      rw [e8, show r + 1 - 1 = r by omega]
      refine K r5 m L he p8 (by rw [T8.f (by decide)]; exact h1) e8 (fun x x0 x1 => ?_) ?_ (TT.tr (T8.up (by decide) (by decide)))
      · rw [T8.i (b := mCLSS) (by decide) (by decide), T8.i (b := mSIGN) (by decide) (by decide), T8.i (b := mCLAU) (by decide) (by decide), T1'.i (b := mCLSS) (by decide) (by decide), T1'.i (b := mSIGN) (by decide) (by decide), T1'.i (b := mCLAU) (by decide) (by decide)]
        exact (hR x x0 x1).keep x1 q1 q3 q4
      · rw [T8.i (b := mCLSS) (by decide) (by decide), T8.i (b := mSIGN) (by decide) (by decide), T8.i (b := mCLAU) (by decide) (by decide), T1'.i (b := mCLSS) (by decide) (by decide), T1'.i (b := mSIGN) (by decide) (by decide), T1'.i (b := mCLAU) (by decide) (by decide)]
        exact R.rt
  · repeat (first | refine wtA (by decide) ?_ | refine wtM ?_ | refine wtL ?_ | refine step ?_ | refine Exists.intro _ (And.intro (congrFun hM _) ?_) | refine Exists.intro _ (And.intro rfl ?_) | refine And.intro rfl ?_ | refine And.intro trivial ?_ | (refine And.intro (by intro hz; exfalso; omega) ?_; intro hz9) | refine And.intro (by omega) ?_ | refine And.intro (by simp only [lnM_TAPE, lnM_SIGN, lnM_LENG, lnM_CLAU, lnM_CLSS, lnM_READ, lnM_OPEN, lnM_STCK, lnM_WORD, lnM_SAID, lnM_WASS, lnM_KEPT, lnM_FAR, lnM_WASI, lnM_OUTO, lnM_HASB, lnM_WHER, lnM_ISFI, lnM_CELT, lnM_IMGS, lnM_IMGF, lnM_IMGX, lnM_ISMA]; omega) ?_ | (refine And.intro ?_ (by intro hz; exfalso; omega); intro hz9))
    exact K6 (by omega)
