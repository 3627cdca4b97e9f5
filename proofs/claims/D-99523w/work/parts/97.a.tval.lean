-- NEEDS: 96
/-! THE TWIN'S READER: values, terms, sums, comparisons -/
theorem runS_snoc {sg : Int → Int} {w : Int → Int64} : ∀ (a : Nat) (i : Int) (st : List Int64), runS sg w (a + 1) i st = (match runS sg w a i st with
    | none => none
    | some q => stS (sg (i + a)) w q) := by
  intro a
  induction a with
  | zero =>
    intro i st
    show (match stS (sg i) w st with
      | none => none
      | some st2 => some st2) = stS (sg (i + 0)) w st
    rw [show i + 0 = i by omega]
    cases stS (sg i) w st <;> rfl
  | succ a ih =>
    intro i st
    show (match stS (sg i) w st with
      | none => none
      | some st2 => runS sg w (a + 1) (i + 1) st2) = (match (match stS (sg i) w st with
        | none => none
        | some st2 => runS sg w a (i + 1) st2) with
      | none => none
      | some q => stS (sg (i + (a + 1 : Nat))) w q)
    cases stS (sg i) w st with
    | none => rfl
    | some st2 =>
      show runS sg w (a + 1) (i + 1) st2 = _
      rw [ih (i + 1) st2, show i + 1 + (a : Int) = i + (a + 1 : Nat) by omega]
theorem runS_congr {sg sg2 : Int → Int} {w : Int → Int64} : ∀ (a : Nat) (i : Int) (st : List Int64), (∀ x, i ≤ x → x < i + a → sg2 x = sg x) → runS sg2 w a i st = runS sg w a i st := by
  intro a
  induction a with
  | zero => intro i st _; rfl
  | succ a ih =>
    intro i st h
    unfold runS
    rw [h i (Int.le_refl _) (by omega)]
    cases stS (sg i) w st with
    | none => rfl
    | some q => exact ih (i + 1) q (fun x x0 x1 => h x (by omega) (by omega))
/-- the twin's reader at i, m made; text t's signs from l0 to l compute F; c places kept free -/
def PS (h : AH) (T : Int → Int) (n i m t l0 l c : Int) (F : List FN) : Prop := RX h T n i ∧ (hI h M 12 = m ∧ 0 ≤ m ∧ m ≤ 60) ∧ (hI h M 11 = t ∧ 0 ≤ t ∧ t ≤ 5) ∧ (hI h mLENG t = l ∧ 0 ≤ l0 ∧ l0 ≤ l ∧ 0 ≤ c ∧ l + c ≤ i) ∧ (F.length : Int) ≤ m ∧ (∀ x, l0 ≤ x → x < l → 0 ≤ hI h mSIGN (400 * t + x) ∧ hI h mSIGN (400 * t + x) < 2147483648) ∧ ∀ w, runS (fun x => hI h mSIGN (400 * t + x)) w (l - l0).toNat l0 [] = some (F.map (fun f => f w))
def FR (A : List Nat) (B : List Int) (t l : Int) (h p : AH) : Prop := TA A B h p ∧ ∀ x, x < 400 * t + l → hI p mSIGN x = hI h mSIGN x
theorem FR.rf {A : List Nat} {B : List Int} {t l : Int} {h : AH} : FR A B t l h h := ⟨TA.rf, fun _ _ => rfl⟩
theorem FR.tr {A : List Nat} {B : List Int} {t l l2 : Int} {h p q : AH} (x : FR A B t l h p) (y : FR A B t l2 p q) (hl : l ≤ l2) : FR A B t l h q := ⟨x.1.tr y.1, fun z hz => (y.2 z (by omega)).trans (x.2 z hz)⟩
theorem FR.of {A A' : List Nat} {B B' : List Int} {t l : Int} {h p : AH} (X : TA A' B' h p) (hs : mSIGN ∉ A') (ha : ∀ a ∈ A', a ∈ A) (hb : ∀ b ∈ B', b ∈ B) : FR A B t l h p := ⟨X.up ha hb, fun x _ => congrFun (X.i hs (by decide)) x⟩
theorem FR.up {A A' : List Nat} {B B' : List Int} {t l : Int} {h p : AH} (x : FR A' B' t l h p) (ha : ∀ a ∈ A', a ∈ A) (hb : ∀ b ∈ B', b ∈ B) : FR A B t l h p := ⟨x.1.up ha hb, x.2⟩
abbrev VA : List Nat := [mSIGN, mLENG]
abbrev VB : List Int := [8, 9, 10, 12]
theorem PS.mv {A : List Nat} {B : List Int} {h p : AH} {T : Int → Int} {n i j m m2 t l0 l c c2 : Int} {F : List FN} (H : PS h T n i m t l0 l c F) (X : TA A B h p) (hs : mSIGN ∉ A) (hl : mLENG ∉ A) (h11 : 11 ∉ B) (hR : RX p T n j) (e12 : hI p M 12 = m2) (m0 : m ≤ m2) (m1 : m2 ≤ 60) (c0 : 0 ≤ c2) (hc : l + c2 ≤ j) : PS p T n j m2 t l0 l c2 F := by
  obtain ⟨a1, ⟨b1, b2, b3⟩, ⟨d1, d2, d3⟩, ⟨e1, e2, e3, e4, e5⟩, f, g, r⟩ := H
  have s : hI p mSIGN = hI h mSIGN := X.i hs (by decide)
  have l : hI p mLENG = hI h mLENG := X.i hl (by decide)
  refine ⟨hR, ⟨e12, by omega, m1⟩, ⟨by rw [X.f h11]; exact d1, d2, d3⟩, ⟨by rw [l]; exact e1, e2, e3, c0, hc⟩, by omega, ?_, ?_⟩
  · rw [s]; exact g
  · rw [s]; exact r
theorem PS.put {h p : AH} {T : Int → Int} {n i m t l0 l c c2 g : Int} {F F2 : List FN} (H : PS h T n i m t l0 l c F) (X : TA [mSIGN, mLENG] [] h p) (eS : hI p mSIGN = upF (hI h mSIGN) (400 * t + l) g) (eL : hI p mLENG = upF (hI h mLENG) t (l + 1)) (g0 : 0 ≤ g) (g1 : g < 2147483648) (c0 : 0 ≤ c2) (hi : l + 1 + c2 ≤ i) (hF : (F2.length : Int) ≤ m) (hst : ∀ w, stS g w (F.map (fun f => f w)) = some (F2.map (fun f => f w))) : PS p T n i m t l0 (l + 1) c2 F2 := by
  obtain ⟨a1, ⟨b1, b2, b3⟩, ⟨d1, d2, d3⟩, ⟨e1, e2, e3, e4, e5⟩, f, gg, r⟩ := H
  have ne : ∀ x, x < l → hI p mSIGN (400 * t + x) = hI h mSIGN (400 * t + x) := fun x hx => by rw [eS]; exact if_neg (by omega)
  refine ⟨a1.to X (by decide) (by decide) (by decide) (by rw [X.f (by decide)]; exact a1.2.2.2.1) a1.2.2.2.2.1.1 a1.2.2.2.2.1.2, ⟨by rw [X.f (by decide)]; exact b1, b2, b3⟩, ⟨by rw [X.f (by decide)]; exact d1, d2, d3⟩, ⟨by rw [eL]; exact if_pos rfl, e2, by omega, c0, by omega⟩, hF, fun x x0 x1 => ?_, fun w => ?_⟩
  · by_cases hx : x = l
    · rw [hx, eS]
      show 0 ≤ (if 400 * t + l = 400 * t + l then g else _) ∧ (if 400 * t + l = 400 * t + l then g else _) < _
      rw [if_pos rfl]
      exact ⟨g0, g1⟩
    · rw [ne x (by omega)]
      exact gg x x0 (by omega)
  · rw [show (l + 1 - l0).toNat = (l - l0).toNat + 1 by omega, runS_snoc, runS_congr (sg := fun x => hI h mSIGN (400 * t + x)) _ _ _ (fun x x0 x1 => ne x (by omega)), r w]
    show stS (hI p mSIGN (400 * t + (l0 + ((l - l0).toNat : Nat)))) w _ = _
    rw [show l0 + (((l - l0).toNat : Nat) : Int) = l by omega, eS]
    show stS (if 400 * t + l = 400 * t + l then g else _) w _ = _
    rw [if_pos rfl]
    exact hst w
theorem t_seeR {d : Nat} {h : AH} {Φ : OUT → AH → Prop} {T : Int → Int} {n i : Int} (H : RX h T n i) (K : ∀ p, RX p T n (skp T n i) → TA [] [8] h p → Φ (.inl (some (vi (byF T n (skp T n i))))) p) : CT (d + 1) 0 0 J_X4_see [vo M] h Φ := by
  obtain ⟨a1, a2, a3, a4, ⟨i0, i1⟩, a6, a7, a8⟩ := id H
  have sk := skp_ok (T := T) i1
  exact t_see a1 a2 a3 a4 i0 i1 a6 a7 (fun p hM h8 X => K p (H.to X (by decide) (by decide) (by decide) h8 (by omega) sk.2) X)
theorem t_passWordR {d : Nat} {h : AH} {Φ : OUT → AH → Prop} {T : Int → Int} {n i : Int} (H : RX h T n i) (K : ∀ p, RX p T n (lep T n i) → TA [] [8] h p → Φ (.inl none) p) : CT (d + 2) 0 0 J_X4_passWord [vo M] h Φ := by
  obtain ⟨a1, a2, a3, a4, ⟨i0, i1⟩, a6, a7, a8⟩ := id H
  have lp := lep_ok (T := T) i1
  exact t_passWord a1 a2 a3 a4 i0 i1 a6 a7 (fun p hM h8 X => K p (H.to X (by decide) (by decide) (by decide) h8 (by omega) lp.2) X)
theorem t_value {d : Nat} {h : AH} {Φ : OUT → AH → Prop} {T : Int → Int} {n i m t l0 l c : Int} {F : List FN} (H : PS h T n i m t l0 l c F)
    (K0 : ∀ m2 e, valS T n i m = (m2, .inl e) → ∀ p, hI p M 9 = e → FR VA VB t l h p → Φ (.inl (some (vi 0))) p)
    (K : ∀ m2 j f, valS T n i m = (m2, .inr (j, f)) → ∀ p, PS p T n j m2 t l0 (l + 1) c (f :: F) → FR VA VB t l h p → Φ (.inl (some (vi 1))) p) : CT (d + 4) 0 0 J_X4_value [vo M] h Φ := by
  refine e_X4_value ?_; intro k step keep
  obtain ⟨hX, ⟨b1, b2, b3⟩, ⟨d1, d2, d3⟩, ⟨e1, e2, e3, e4, e5⟩, fl, -, -⟩ := id H
  obtain ⟨hM, -, -, -, ⟨i0, i1⟩, n1, hB, -⟩ := id hX
  have sk := skp_ok (T := T) i1
  have id2 := skp_idem (T := T) i1
  unfold valS at K0 K
  repeat (first | refine wtA (by decide) ?_ | refine wtM ?_ | refine wtL ?_ | refine step ?_ | refine Exists.intro _ (And.intro (congrFun hM _) ?_) | refine Exists.intro _ (And.intro rfl ?_) | refine And.intro rfl ?_ | refine And.intro trivial ?_ | (refine And.intro (by intro hz; exfalso; omega) ?_; intro hz9) | refine And.intro (by omega) ?_ | refine And.intro (by simp only [lnM_TAPE, lnM_SIGN, lnM_LENG, lnM_CLAU, lnM_CLSS, lnM_READ, lnM_OPEN, lnM_STCK, lnM_WORD, lnM_SAID, lnM_WASS, lnM_KEPT, lnM_FAR, lnM_WASI, lnM_OUTO, lnM_HASB, lnM_WHER, lnM_ISFI, lnM_CELT, lnM_IMGS, lnM_IMGF, lnM_IMGX, lnM_ISMA]; omega) ?_ | (refine And.intro ?_ (by intro hz; exfalso; omega); intro hz9))
  refine Or.inl (t_seeR hX (fun p1 H1 T1 => ?_))
  generalize hJ : skp T n i = j at *
  obtain ⟨hM, g2, g3, g4, ⟨j0, j1⟩, -, -, g8⟩ := id H1
  repeat (first | refine wtA (by decide) ?_ | refine wtM ?_ | refine wtL ?_ | refine step ?_ | refine Exists.intro _ (And.intro (congrFun hM _) ?_) | refine Exists.intro _ (And.intro rfl ?_) | refine And.intro rfl ?_ | refine And.intro trivial ?_ | (refine And.intro (by intro hz; exfalso; omega) ?_; intro hz9) | refine And.intro (by omega) ?_ | refine And.intro (by simp only [lnM_TAPE, lnM_SIGN, lnM_LENG, lnM_CLAU, lnM_CLSS, lnM_READ, lnM_OPEN, lnM_STCK, lnM_WORD, lnM_SAID, lnM_WASS, lnM_KEPT, lnM_FAR, lnM_WASI, lnM_OUTO, lnM_HASB, lnM_WHER, lnM_ISFI, lnM_CELT, lnM_IMGS, lnM_IMGF, lnM_IMGX, lnM_ISMA]; omega) ?_ | (refine And.intro ?_ (by intro hz; exfalso; omega); intro hz9))
  rw [g4]
  refine Or.inl (t_isDigit hM g2 g3 (by omega) (by omega) n1 (by omega) hB (fun r hr => ?_))
  have P1 : PS p1 T n j m t l0 l c F := H.mv T1 (by decide) (by decide) (by decide) H1 (by rw [T1.f (by decide)]; exact b1) (Int.le_refl _) b3 e4 (by omega)
  have f1 : FR VA VB t l h p1 := FR.of T1 (by decide) (by decide) (by decide)
  repeat (first | refine wtA (by decide) ?_ | refine wtM ?_ | refine wtL ?_ | refine step ?_ | refine Exists.intro _ (And.intro (congrFun hM _) ?_) | refine Exists.intro _ (And.intro rfl ?_) | refine And.intro rfl ?_ | refine And.intro trivial ?_ | (refine And.intro (by intro hz; exfalso; omega) ?_; intro hz9) | refine And.intro (by omega) ?_ | refine And.intro (by simp only [lnM_TAPE, lnM_SIGN, lnM_LENG, lnM_CLAU, lnM_CLSS, lnM_READ, lnM_OPEN, lnM_STCK, lnM_WORD, lnM_SAID, lnM_WASS, lnM_KEPT, lnM_FAR, lnM_WASI, lnM_OUTO, lnM_HASB, lnM_WHER, lnM_ISFI, lnM_CELT, lnM_IMGS, lnM_IMGF, lnM_IMGX, lnM_ISMA]; omega) ?_ | (refine And.intro ?_ (by intro hz; exfalso; omega); intro hz9))
  refine And.intro (fun hc => ?_) (fun hc => ?_)
  · have hnd : ¬ dgP T n j := by omega
    rw [if_neg hnd] at K0 K
    repeat (first | refine wtA (by decide) ?_ | refine wtM ?_ | refine wtL ?_ | refine step ?_ | refine Exists.intro _ (And.intro (congrFun hM _) ?_) | refine Exists.intro _ (And.intro rfl ?_) | refine And.intro rfl ?_ | refine And.intro trivial ?_ | (refine And.intro (by intro hz; exfalso; omega) ?_; intro hz9) | refine And.intro (by omega) ?_ | refine And.intro (by simp only [lnM_TAPE, lnM_SIGN, lnM_LENG, lnM_CLAU, lnM_CLSS, lnM_READ, lnM_OPEN, lnM_STCK, lnM_WORD, lnM_SAID, lnM_WASS, lnM_KEPT, lnM_FAR, lnM_WASI, lnM_OUTO, lnM_HASB, lnM_WHER, lnM_ISFI, lnM_CELT, lnM_IMGS, lnM_IMGF, lnM_IMGX, lnM_ISMA]; omega) ?_ | (refine And.intro ?_ (by intro hz; exfalso; omega); intro hz9))
    refine Or.inl (t_wordHere H1 (fun p2 r2 hw w0 w1 H2 T2 => ?_))
    rw [id2] at hw H2
    have wr := wrdF_of hw
    rw [wr] at K0 K
    have hM := H2.1
    have f2 : FR VA VB t l h p2 := f1.tr (FR.of T2 (by decide) (by decide) (by decide)) (Int.le_refl _)
    repeat (first | refine wtA (by decide) ?_ | refine wtM ?_ | refine wtL ?_ | refine step ?_ | refine Exists.intro _ (And.intro (congrFun hM _) ?_) | refine Exists.intro _ (And.intro rfl ?_) | refine And.intro rfl ?_ | refine And.intro trivial ?_ | (refine And.intro (by intro hz; exfalso; omega) ?_; intro hz9) | refine And.intro (by omega) ?_ | refine And.intro (by simp only [lnM_TAPE, lnM_SIGN, lnM_LENG, lnM_CLAU, lnM_CLSS, lnM_READ, lnM_OPEN, lnM_STCK, lnM_WORD, lnM_SAID, lnM_WASS, lnM_KEPT, lnM_FAR, lnM_WASI, lnM_OUTO, lnM_HASB, lnM_WHER, lnM_ISFI, lnM_CELT, lnM_IMGS, lnM_IMGF, lnM_IMGX, lnM_ISMA]; omega) ?_ | (refine And.intro ?_ (by intro hz; exfalso; omega); intro hz9))
    refine And.intro (fun hd => ?_) (fun hd => ?_)
    · rw [if_neg (by omega)] at K0 K
      repeat (first | refine wtA (by decide) ?_ | refine wtM ?_ | refine wtL ?_ | refine step ?_ | refine Exists.intro _ (And.intro (congrFun hM _) ?_) | refine Exists.intro _ (And.intro rfl ?_) | refine And.intro rfl ?_ | refine And.intro trivial ?_ | (refine And.intro (by intro hz; exfalso; omega) ?_; intro hz9) | refine And.intro (by omega) ?_ | refine And.intro (by simp only [lnM_TAPE, lnM_SIGN, lnM_LENG, lnM_CLAU, lnM_CLSS, lnM_READ, lnM_OPEN, lnM_STCK, lnM_WORD, lnM_SAID, lnM_WASS, lnM_KEPT, lnM_FAR, lnM_WASI, lnM_OUTO, lnM_HASB, lnM_WHER, lnM_ISFI, lnM_CELT, lnM_IMGS, lnM_IMGF, lnM_IMGX, lnM_ISMA]; omega) ?_ | (refine And.intro ?_ (by intro hz; exfalso; omega); intro hz9))
      refine Or.inl (t_makes (a := j) (m := m) (by rw [T2.f (by decide), T1.f (by decide)]; exact b1) ⟨b2, b3⟩ H2.2.2.2.2.2.2.2 (fun hm p3 e9 T3 => ?_) (fun hm p3 e12 T3 => ?_))
      · rw [if_pos hm] at K0
        repeat (first | refine wtA (by decide) ?_ | refine wtM ?_ | refine wtL ?_ | refine step ?_ | refine Exists.intro _ (And.intro (congrFun hM _) ?_) | refine Exists.intro _ (And.intro rfl ?_) | refine And.intro rfl ?_ | refine And.intro trivial ?_ | (refine And.intro (by intro hz; exfalso; omega) ?_; intro hz9) | refine And.intro (by omega) ?_ | refine And.intro (by simp only [lnM_TAPE, lnM_SIGN, lnM_LENG, lnM_CLAU, lnM_CLSS, lnM_READ, lnM_OPEN, lnM_STCK, lnM_WORD, lnM_SAID, lnM_WASS, lnM_KEPT, lnM_FAR, lnM_WASI, lnM_OUTO, lnM_HASB, lnM_WHER, lnM_ISFI, lnM_CELT, lnM_IMGS, lnM_IMGF, lnM_IMGX, lnM_ISMA]; omega) ?_ | (refine And.intro ?_ (by intro hz; exfalso; omega); intro hz9))
        exact K0 _ _ rfl p3 e9 (f2.tr (FR.of T3 (by decide) (by decide) (by decide)) (Int.le_refl _))
      · rw [if_neg (by omega)] at K
        have H3 : RX p3 T n j := H2.to T3 (by decide) (by decide) (by decide) (by rw [T3.f (by decide)]; exact H2.2.2.2.1) j0 j1
        have hM := H3.1
        have f3 : FR VA VB t l h p3 := f2.tr (FR.of T3 (by decide) (by decide) (by decide)) (Int.le_refl _)
        have P3 : PS p3 T n j (m + 1) t l0 l c F := P1.mv ((T2.up (A' := []) (B' := [8, 12]) (by decide) (by decide)).tr (T3.up (by decide) (by decide))) (by decide) (by decide) (by decide) H3 e12 (by omega) (by omega) e4 (by omega)
        repeat (first | refine wtA (by decide) ?_ | refine wtM ?_ | refine wtL ?_ | refine step ?_ | refine Exists.intro _ (And.intro (congrFun hM _) ?_) | refine Exists.intro _ (And.intro rfl ?_) | refine And.intro rfl ?_ | refine And.intro trivial ?_ | (refine And.intro (by intro hz; exfalso; omega) ?_; intro hz9) | refine And.intro (by omega) ?_ | refine And.intro (by simp only [lnM_TAPE, lnM_SIGN, lnM_LENG, lnM_CLAU, lnM_CLSS, lnM_READ, lnM_OPEN, lnM_STCK, lnM_WORD, lnM_SAID, lnM_WASS, lnM_KEPT, lnM_FAR, lnM_WASI, lnM_OUTO, lnM_HASB, lnM_WHER, lnM_ISFI, lnM_CELT, lnM_IMGS, lnM_IMGF, lnM_IMGX, lnM_ISMA]; omega) ?_ | (refine And.intro ?_ (by intro hz; exfalso; omega); intro hz9))
        refine Or.inl (t_passWordR H3 (fun p4 H4 T4 => ?_))
        have hM := H4.1
        have wb := wrdF_b T n j
        have f4 : FR VA VB t l h p4 := f3.tr (FR.of T4 (by decide) (by decide) (by decide)) (Int.le_refl _)
        have P4 : PS p4 T n (lep T n j) (m + 1) t l0 l c F := P3.mv T4 (by decide) (by decide) (by decide) H4 (by rw [T4.f (by decide)]; exact e12) (Int.le_refl _) (by omega) e4 (by have := lep_ok (T := T) j1; omega)
        have lpb := lep_ok (T := T) j1
        repeat (first | refine wtA (by decide) ?_ | refine wtM ?_ | refine wtL ?_ | refine step ?_ | refine Exists.intro _ (And.intro (congrFun hM _) ?_) | refine Exists.intro _ (And.intro rfl ?_) | refine And.intro rfl ?_ | refine And.intro trivial ?_ | (refine And.intro (by intro hz; exfalso; omega) ?_; intro hz9) | refine And.intro (by omega) ?_ | refine And.intro (by simp only [lnM_TAPE, lnM_SIGN, lnM_LENG, lnM_CLAU, lnM_CLSS, lnM_READ, lnM_OPEN, lnM_STCK, lnM_WORD, lnM_SAID, lnM_WASS, lnM_KEPT, lnM_FAR, lnM_WASI, lnM_OUTO, lnM_HASB, lnM_WHER, lnM_ISFI, lnM_CELT, lnM_IMGS, lnM_IMGF, lnM_IMGX, lnM_ISMA]; omega) ?_ | (refine And.intro ?_ (by intro hz; exfalso; omega); intro hz9))
        refine Or.inl (t_puts hM P4.2.2.1.1 d2 d3 P4.2.2.2.1.1 (by omega) (by omega) (fun p5 hM q1 q2 T5 => ?_))
        repeat (first | refine wtA (by decide) ?_ | refine wtM ?_ | refine wtL ?_ | refine step ?_ | refine Exists.intro _ (And.intro (congrFun hM _) ?_) | refine Exists.intro _ (And.intro rfl ?_) | refine And.intro rfl ?_ | refine And.intro trivial ?_ | (refine And.intro (by intro hz; exfalso; omega) ?_; intro hz9) | refine And.intro (by omega) ?_ | refine And.intro (by simp only [lnM_TAPE, lnM_SIGN, lnM_LENG, lnM_CLAU, lnM_CLSS, lnM_READ, lnM_OPEN, lnM_STCK, lnM_WORD, lnM_SAID, lnM_WASS, lnM_KEPT, lnM_FAR, lnM_WASI, lnM_OUTO, lnM_HASB, lnM_WHER, lnM_ISFI, lnM_CELT, lnM_IMGS, lnM_IMGF, lnM_IMGX, lnM_ISMA]; omega) ?_ | (refine And.intro ?_ (by intro hz; exfalso; omega); intro hz9))
        refine K _ _ _ rfl p5 (P4.put T5 q1 q2 (by omega) (by omega) e4 (by omega) (by simp; omega) (fun w => ?_)) ⟨f4.1.tr (T5.up (by decide) (by decide)), fun x hx => ?_⟩
        · unfold stS
          rw [if_neg (by omega), if_pos (by omega), if_pos ⟨by simp; omega, by omega⟩, show (1 + 16 * r2) / 16 = r2 by omega]
          rfl
        · rw [q1]
          show (if x = 400 * t + l then _ else _) = _
          rw [if_neg (by omega)]
          exact f4.2 x hx
    · rw [if_pos (by omega)] at K0
      repeat (first | refine wtA (by decide) ?_ | refine wtM ?_ | refine wtL ?_ | refine step ?_ | refine Exists.intro _ (And.intro (congrFun hM _) ?_) | refine Exists.intro _ (And.intro rfl ?_) | refine And.intro rfl ?_ | refine And.intro trivial ?_ | (refine And.intro (by intro hz; exfalso; omega) ?_; intro hz9) | refine And.intro (by omega) ?_ | refine And.intro (by simp only [lnM_TAPE, lnM_SIGN, lnM_LENG, lnM_CLAU, lnM_CLSS, lnM_READ, lnM_OPEN, lnM_STCK, lnM_WORD, lnM_SAID, lnM_WASS, lnM_KEPT, lnM_FAR, lnM_WASI, lnM_OUTO, lnM_HASB, lnM_WHER, lnM_ISFI, lnM_CELT, lnM_IMGS, lnM_IMGF, lnM_IMGX, lnM_ISMA]; omega) ?_ | (refine And.intro ?_ (by intro hz; exfalso; omega); intro hz9))
      refine Or.inl (t_fails (by have := H2.2.2.2.2.2.2.2; omega) (fun p3 e9 T3 => ?_))
      rw [if_pos H2.2.2.2.2.2.2.2] at e9
      repeat (first | refine wtA (by decide) ?_ | refine wtM ?_ | refine wtL ?_ | refine step ?_ | refine Exists.intro _ (And.intro (congrFun hM _) ?_) | refine Exists.intro _ (And.intro rfl ?_) | refine And.intro rfl ?_ | refine And.intro trivial ?_ | (refine And.intro (by intro hz; exfalso; omega) ?_; intro hz9) | refine And.intro (by omega) ?_ | refine And.intro (by simp only [lnM_TAPE, lnM_SIGN, lnM_LENG, lnM_CLAU, lnM_CLSS, lnM_READ, lnM_OPEN, lnM_STCK, lnM_WORD, lnM_SAID, lnM_WASS, lnM_KEPT, lnM_FAR, lnM_WASI, lnM_OUTO, lnM_HASB, lnM_WHER, lnM_ISFI, lnM_CELT, lnM_IMGS, lnM_IMGF, lnM_IMGX, lnM_ISMA]; omega) ?_ | (refine And.intro ?_ (by intro hz; exfalso; omega); intro hz9))
      exact K0 _ _ rfl p3 e9 (f2.tr (FR.of T3 (by decide) (by decide) (by decide)) (Int.le_refl _))
  · have hdg : dgP T n j := by omega
    rw [if_pos hdg] at K0 K
    repeat (first | refine wtA (by decide) ?_ | refine wtM ?_ | refine wtL ?_ | refine step ?_ | refine Exists.intro _ (And.intro (congrFun hM _) ?_) | refine Exists.intro _ (And.intro rfl ?_) | refine And.intro rfl ?_ | refine And.intro trivial ?_ | (refine And.intro (by intro hz; exfalso; omega) ?_; intro hz9) | refine And.intro (by omega) ?_ | refine And.intro (by simp only [lnM_TAPE, lnM_SIGN, lnM_LENG, lnM_CLAU, lnM_CLSS, lnM_READ, lnM_OPEN, lnM_STCK, lnM_WORD, lnM_SAID, lnM_WASS, lnM_KEPT, lnM_FAR, lnM_WASI, lnM_OUTO, lnM_HASB, lnM_WHER, lnM_ISFI, lnM_CELT, lnM_IMGS, lnM_IMGF, lnM_IMGX, lnM_ISMA]; omega) ?_ | (refine And.intro ?_ (by intro hz; exfalso; omega); intro hz9))
    refine Or.inl (t_numberHere hM g2 g3 g4 j0 j1 n1 hB g8 (by omega) (by omega) (fun hz => ?_) (fun hz hq p2 e9 T2 => ?_) (fun hz hq p2 hM e8 e9 e10 T2 => ?_))
    · rw [id2] at hz
      exact absurd hdg hz
    · rw [id2] at hq e9
      rw [if_neg hq] at K0
      repeat (first | refine wtA (by decide) ?_ | refine wtM ?_ | refine wtL ?_ | refine step ?_ | refine Exists.intro _ (And.intro (congrFun hM _) ?_) | refine Exists.intro _ (And.intro rfl ?_) | refine And.intro rfl ?_ | refine And.intro trivial ?_ | (refine And.intro (by intro hz; exfalso; omega) ?_; intro hz9) | refine And.intro (by omega) ?_ | refine And.intro (by simp only [lnM_TAPE, lnM_SIGN, lnM_LENG, lnM_CLAU, lnM_CLSS, lnM_READ, lnM_OPEN, lnM_STCK, lnM_WORD, lnM_SAID, lnM_WASS, lnM_KEPT, lnM_FAR, lnM_WASI, lnM_OUTO, lnM_HASB, lnM_WHER, lnM_ISFI, lnM_CELT, lnM_IMGS, lnM_IMGF, lnM_IMGX, lnM_ISMA]; omega) ?_ | (refine And.intro ?_ (by intro hz; exfalso; omega); intro hz9))
      exact K0 _ _ rfl p2 e9 (f1.tr (FR.of T2 (by decide) (by decide) (by decide)) (Int.le_refl _))
    · rw [id2] at hq e8 e10
      rw [if_pos hq] at K0 K
      have ng := num_gt j1 hdg
      have H2 : RX p2 T n (num T n j).2 := ⟨hM, by rw [T2.i (by decide) (by decide)]; exact g2, by rw [T2.f (by decide)]; exact g3, e8, ⟨by omega, by omega⟩, n1, hB, e9⟩
      have f2 : FR VA VB t l h p2 := f1.tr (FR.of T2 (by decide) (by decide) (by decide)) (Int.le_refl _)
      repeat (first | refine wtA (by decide) ?_ | refine wtM ?_ | refine wtL ?_ | refine step ?_ | refine Exists.intro _ (And.intro (congrFun hM _) ?_) | refine Exists.intro _ (And.intro rfl ?_) | refine And.intro rfl ?_ | refine And.intro trivial ?_ | (refine And.intro (by intro hz; exfalso; omega) ?_; intro hz9) | refine And.intro (by omega) ?_ | refine And.intro (by simp only [lnM_TAPE, lnM_SIGN, lnM_LENG, lnM_CLAU, lnM_CLSS, lnM_READ, lnM_OPEN, lnM_STCK, lnM_WORD, lnM_SAID, lnM_WASS, lnM_KEPT, lnM_FAR, lnM_WASI, lnM_OUTO, lnM_HASB, lnM_WHER, lnM_ISFI, lnM_CELT, lnM_IMGS, lnM_IMGF, lnM_IMGX, lnM_ISMA]; omega) ?_ | (refine And.intro ?_ (by intro hz; exfalso; omega); intro hz9))
      refine Or.inl (t_makes (a := j) (m := m) (by rw [T2.f (by decide), T1.f (by decide)]; exact b1) ⟨b2, b3⟩ e9 (fun hm p3 e9 T3 => ?_) (fun hm p3 e12 T3 => ?_))
      · rw [if_pos hm] at K0
        repeat (first | refine wtA (by decide) ?_ | refine wtM ?_ | refine wtL ?_ | refine step ?_ | refine Exists.intro _ (And.intro (congrFun hM _) ?_) | refine Exists.intro _ (And.intro rfl ?_) | refine And.intro rfl ?_ | refine And.intro trivial ?_ | (refine And.intro (by intro hz; exfalso; omega) ?_; intro hz9) | refine And.intro (by omega) ?_ | refine And.intro (by simp only [lnM_TAPE, lnM_SIGN, lnM_LENG, lnM_CLAU, lnM_CLSS, lnM_READ, lnM_OPEN, lnM_STCK, lnM_WORD, lnM_SAID, lnM_WASS, lnM_KEPT, lnM_FAR, lnM_WASI, lnM_OUTO, lnM_HASB, lnM_WHER, lnM_ISFI, lnM_CELT, lnM_IMGS, lnM_IMGF, lnM_IMGX, lnM_ISMA]; omega) ?_ | (refine And.intro ?_ (by intro hz; exfalso; omega); intro hz9))
        exact K0 _ _ rfl p3 e9 (f2.tr (FR.of T3 (by decide) (by decide) (by decide)) (Int.le_refl _))
      · rw [if_neg (by omega)] at K
        have H3 : RX p3 T n (num T n j).2 := H2.to T3 (by decide) (by decide) (by decide) (by rw [T3.f (by decide)]; exact e8) (by omega) (by omega)
        have hM := H3.1
        have f3 : FR VA VB t l h p3 := f2.tr (FR.of T3 (by decide) (by decide) (by decide)) (Int.le_refl _)
        have P3 : PS p3 T n (num T n j).2 (m + 1) t l0 l c F := P1.mv ((T2.up (A' := []) (B' := [8, 9, 10, 12]) (by decide) (by decide)).tr (T3.up (by decide) (by decide))) (by decide) (by decide) (by decide) H3 e12 (by omega) (by omega) e4 (by omega)
        have v10 : hI p3 M 10 = (num T n j).1 := by rw [T3.f (by decide)]; exact e10
        repeat (first | refine wtA (by decide) ?_ | refine wtM ?_ | refine wtL ?_ | refine step ?_ | refine Exists.intro _ (And.intro (congrFun hM _) ?_) | refine Exists.intro _ (And.intro rfl ?_) | refine And.intro rfl ?_ | refine And.intro trivial ?_ | (refine And.intro (by intro hz; exfalso; omega) ?_; intro hz9) | refine And.intro (by omega) ?_ | refine And.intro (by simp only [lnM_TAPE, lnM_SIGN, lnM_LENG, lnM_CLAU, lnM_CLSS, lnM_READ, lnM_OPEN, lnM_STCK, lnM_WORD, lnM_SAID, lnM_WASS, lnM_KEPT, lnM_FAR, lnM_WASI, lnM_OUTO, lnM_HASB, lnM_WHER, lnM_ISFI, lnM_CELT, lnM_IMGS, lnM_IMGF, lnM_IMGX, lnM_ISMA]; omega) ?_ | (refine And.intro ?_ (by intro hz; exfalso; omega); intro hz9))
        rw [v10]
        refine Or.inl (t_puts hM P3.2.2.1.1 d2 d3 P3.2.2.2.1.1 (by omega) (by omega) (fun p5 hM q1 q2 T5 => ?_))
        repeat (first | refine wtA (by decide) ?_ | refine wtM ?_ | refine wtL ?_ | refine step ?_ | refine Exists.intro _ (And.intro (congrFun hM _) ?_) | refine Exists.intro _ (And.intro rfl ?_) | refine And.intro rfl ?_ | refine And.intro trivial ?_ | (refine And.intro (by intro hz; exfalso; omega) ?_; intro hz9) | refine And.intro (by omega) ?_ | refine And.intro (by simp only [lnM_TAPE, lnM_SIGN, lnM_LENG, lnM_CLAU, lnM_CLSS, lnM_READ, lnM_OPEN, lnM_STCK, lnM_WORD, lnM_SAID, lnM_WASS, lnM_KEPT, lnM_FAR, lnM_WASI, lnM_OUTO, lnM_HASB, lnM_WHER, lnM_ISFI, lnM_CELT, lnM_IMGS, lnM_IMGF, lnM_IMGX, lnM_ISMA]; omega) ?_ | (refine And.intro ?_ (by intro hz; exfalso; omega); intro hz9))
        refine K _ _ _ rfl p5 (P3.put T5 q1 q2 (by omega) (by omega) e4 (by omega) (by simp; omega) (fun w => ?_)) ⟨f3.1.tr (T5.up (by decide) (by decide)), fun x hx => ?_⟩
        · unfold stS
          rw [if_pos (by omega), if_pos (by simp; omega), show (0 + 16 * (num T n j).1) / 16 = (num T n j).1 by omega]
          rfl
        · rw [q1]
          show (if x = 400 * t + l then _ else _) = _
          rw [if_neg (by omega)]
          exact f3.2 x hx
