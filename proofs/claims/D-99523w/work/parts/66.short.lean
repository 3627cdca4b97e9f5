/-! THE TWIN: shortest ways -/
def toF (s : Int → Int) (c f : Int) : Int := if nextF (s 1) c f < 0 then cellF (s 1) (s (46 + f)) (alonF (s 1) c f) else nextF (s 1) c f
def wtF (s : Int → Int) (c f : Int) : Int := if nextF (s 1) c f < 0 then s (86 + f) + 2 else 1
abbrev nrP (s a : Int → Int) (c f : Int) : Prop := a c ≤ 99 ∧ s (50 + toF s c f) ≠ 1 ∧ a c + wtF s c f < a (toF s c f)
def relF (s : Int → Int) (x : (Int → Int) × Int) (c f : Int) : (Int → Int) × Int := if nrP s x.1 c f then (upF x.1 (toF s c f) (x.1 c + wtF s c f), 1) else x
def rowF (s : Int → Int) (c : Int) : Nat → Int → (Int → Int) × Int → (Int → Int) × Int
  | 0, _, x => x
  | n + 1, f, x => rowF s c n (f + 1) (relF s x c f)
def swpF (s : Int → Int) : Nat → Int → (Int → Int) × Int → (Int → Int) × Int
  | 0, _, x => x
  | n + 1, c, x => swpF s n (c + 1) (rowF s c 4 0 x)
def shoI (s : Int → Int) : Nat → (Int → Int) → Int → Int
  | 0, a => a
  | n + 1, a => if (swpF s (s 1 * s 1).toNat 0 (a, 0)).2 = 0 then (swpF s (s 1 * s 1).toNat 0 (a, 0)).1 else shoI s n (swpF s (s 1 * s 1).toNat 0 (a, 0)).1
def shrtF (s : Int → Int) (g c : Int) : Int := if 99 < shoI s 3601 (fun x => if x = s (11 + 7 * g) then 0 else 100) c then -2 else shoI s 3601 (fun x => if x = s (11 + 7 * g) then 0 else 100) c
def sumS (a : Int → Int) : Nat → Int
  | 0 => 0
  | n + 1 => sumS a n + a n
theorem sumS_up {a : Int → Int} {t v : Int} (t0 : 0 ≤ t) : ∀ n : Nat, sumS (upF a t v) n = sumS a n + (if t < n then v - a t else 0) := by
  intro n
  induction n with
  | zero => rw [if_neg (by omega)]; rfl
  | succ n ih =>
    show sumS (upF a t v) n + upF a t v n = sumS a n + a n + _
    rw [ih]
    show sumS a n + _ + (if (n : Int) = t then v else a n) = _
    by_cases h : (n : Int) = t
    · rw [if_pos h, if_neg (by omega), if_pos (by omega), h]; omega
    · rw [if_neg h]
      by_cases h2 : t < (n : Int)
      · rw [if_pos h2, if_pos (by omega)]; omega
      · rw [if_neg h2, if_neg (by omega)]; omega
theorem sumS_ok {a : Int → Int} : ∀ n : Nat, (∀ x : Int, 0 ≤ x → x < n → 0 ≤ a x ∧ a x ≤ 100) → 0 ≤ sumS a n ∧ sumS a n ≤ 100 * n := by
  intro n
  induction n with
  | zero => intro _; exact ⟨by unfold sumS; omega, by unfold sumS; omega⟩
  | succ n ih =>
    intro hx
    have := ih (fun x x0 x1 => hx x x0 (by omega))
    have := hx n (by omega) (by omega)
    unfold sumS
    omega
/-- what a sweep keeps -/
def SJ (N : Int) (S : Int) (x : (Int → Int) × Int) : Prop := (∀ c, 0 ≤ c → c < N → 0 ≤ x.1 c ∧ x.1 c ≤ 100) ∧ (x.2 = 0 ∨ x.2 = 1) ∧ sumS x.1 N.toNat + x.2 ≤ S
theorem toF_ok {s : Int → Int} {c f : Int} (hS : GS s) (c0 : 0 ≤ c) (c1 : c < s 1 * s 1) (f0 : 0 ≤ f) (f1 : f < 4) : (0 ≤ toF s c f ∧ toF s c f < s 1 * s 1) ∧ 1 ≤ wtF s c f ∧ wtF s c f ≤ 11 := by
  obtain ⟨⟨a1, a2⟩, -, -, a4, -, a6⟩ := hS
  have n1 := nextF_ok a1 a2 c0 c1 f0 (show f ≤ 3 by omega)
  have al := alonF_ok (f := f) a1 a2 c0 c1
  have ce := cellF_ok (e := s (46 + f)) a1 a2 al.1 al.2
  have d := a6 f f0 f1
  unfold toF wtF
  split <;> omega
theorem relF_ok {s : Int → Int} {x : (Int → Int) × Int} {c f S : Int} (hS : GS s) (c0 : 0 ≤ c) (c1 : c < s 1 * s 1) (f0 : 0 ≤ f) (f1 : f < 4) (hj : SJ (s 1 * s 1) S x) : SJ (s 1 * s 1) S (relF s x c f) := by
  obtain ⟨⟨t0, t1⟩, w0, w1⟩ := toF_ok hS c0 c1 f0 f1
  obtain ⟨j1, j2, j3⟩ := hj
  unfold relF
  split
  · rename_i hn
    obtain ⟨n1, n2, n3⟩ := hn
    have b1 := j1 c c0 c1
    have b2 := j1 _ t0 t1
    refine ⟨fun y y0 y1 => ?_, Or.inr rfl, ?_⟩
    · show 0 ≤ (if y = toF s c f then x.1 c + wtF s c f else x.1 y) ∧ (if y = toF s c f then x.1 c + wtF s c f else x.1 y) ≤ 100
      have := j1 y y0 y1
      split <;> omega
    · show sumS (upF x.1 (toF s c f) (x.1 c + wtF s c f)) _ + 1 ≤ S
      rw [sumS_up t0, if_pos (by omega)]
      omega
  · exact ⟨j1, j2, j3⟩
theorem rowF_ok {s : Int → Int} {c S : Int} (hS : GS s) (c0 : 0 ≤ c) (c1 : c < s 1 * s 1) : ∀ (n : Nat) (f : Int) (x : (Int → Int) × Int), 0 ≤ f → f + n ≤ 4 → SJ (s 1 * s 1) S x → SJ (s 1 * s 1) S (rowF s c n f x) := by
  intro n
  induction n with
  | zero => intro f x _ _ h; exact h
  | succ n ih => intro f x f0 hn h; exact ih _ _ (by omega) (by omega) (relF_ok hS c0 c1 f0 (by omega) h)
theorem rowF_far {s : Int → Int} {c : Int} : ∀ (n : Nat) (f : Int) (x : (Int → Int) × Int), 99 < x.1 c → rowF s c n f x = x := by
  intro n
  induction n with
  | zero => intro f x _; rfl
  | succ n ih =>
    intro f x hx
    have e : relF s x c f = x := if_neg (fun z => by have := z.1; omega)
    unfold rowF
    rw [e]
    exact ih _ _ hx
theorem t_nears {d : Nat} {h : AH} {Φ : OUT → AH → Prop} {c v : Int} (hM : hP h M = MP) (c0 : 0 ≤ c) (c1 : c < 36) (hs : (hI h mSAID) (50 + c) = 0 ∨ (hI h mSAID) (50 + c) = 1) (hv : iR v) (hf : iR (hI h mFAR c))
    (K0 : ¬ ((hI h mSAID) (50 + c) ≠ 1 ∧ v < hI h mFAR c) → Φ (.inl (some (vi 0))) h) (K : (hI h mSAID) (50 + c) ≠ 1 → v < hI h mFAR c → ∀ p, hI p mFAR = upF (hI h mFAR) c v → TA [mFAR] [] h p → Φ (.inl (some (vi 1))) p) : CT (d + 2) 0 0 J_X4_nears [vo M, vi c, vi v] h Φ := by
  refine e_X4_nears ?_; intro k step keep
  repeat (first | refine wtA (by decide) ?_ | refine wtM ?_ | refine wtL ?_ | refine step ?_ | refine Exists.intro _ (And.intro (congrFun hM _) ?_) | refine Exists.intro _ (And.intro rfl ?_) | refine And.intro rfl ?_ | refine And.intro trivial ?_ | (refine And.intro (by intro hz; exfalso; omega) ?_; intro hz9) | refine And.intro (by omega) ?_ | refine And.intro (by simp only [lnM_TAPE, lnM_SIGN, lnM_LENG, lnM_CLAU, lnM_CLSS, lnM_READ, lnM_OPEN, lnM_STCK, lnM_WORD, lnM_SAID, lnM_WASS, lnM_KEPT, lnM_FAR, lnM_WASI, lnM_OUTO, lnM_HASB, lnM_WHER, lnM_ISFI, lnM_CELT, lnM_IMGS, lnM_IMGF, lnM_IMGX, lnM_ISMA]; omega) ?_ | (refine And.intro ?_ (by intro hz; exfalso; omega); intro hz9))
  refine Or.inl (t_isStone hM c0 c1 hs ?_)
  repeat (first | refine wtA (by decide) ?_ | refine wtM ?_ | refine wtL ?_ | refine step ?_ | refine Exists.intro _ (And.intro (congrFun hM _) ?_) | refine Exists.intro _ (And.intro rfl ?_) | refine And.intro rfl ?_ | refine And.intro trivial ?_ | (refine And.intro (by intro hz; exfalso; omega) ?_; intro hz9) | refine And.intro (by omega) ?_ | refine And.intro (by simp only [lnM_TAPE, lnM_SIGN, lnM_LENG, lnM_CLAU, lnM_CLSS, lnM_READ, lnM_OPEN, lnM_STCK, lnM_WORD, lnM_SAID, lnM_WASS, lnM_KEPT, lnM_FAR, lnM_WASI, lnM_OUTO, lnM_HASB, lnM_WHER, lnM_ISFI, lnM_CELT, lnM_IMGS, lnM_IMGF, lnM_IMGX, lnM_ISMA]; omega) ?_ | (refine And.intro ?_ (by intro hz; exfalso; omega); intro hz9))
  refine And.intro (fun hc => ?_) (fun hc => ?_)
  · repeat (first | refine wtA (by decide) ?_ | refine wtM ?_ | refine wtL ?_ | refine step ?_ | refine Exists.intro _ (And.intro (congrFun hM _) ?_) | refine Exists.intro _ (And.intro rfl ?_) | refine And.intro rfl ?_ | refine And.intro trivial ?_ | (refine And.intro (by intro hz; exfalso; omega) ?_; intro hz9) | refine And.intro (by omega) ?_ | refine And.intro (by simp only [lnM_TAPE, lnM_SIGN, lnM_LENG, lnM_CLAU, lnM_CLSS, lnM_READ, lnM_OPEN, lnM_STCK, lnM_WORD, lnM_SAID, lnM_WASS, lnM_KEPT, lnM_FAR, lnM_WASI, lnM_OUTO, lnM_HASB, lnM_WHER, lnM_ISFI, lnM_CELT, lnM_IMGS, lnM_IMGF, lnM_IMGX, lnM_ISMA]; omega) ?_ | (refine And.intro ?_ (by intro hz; exfalso; omega); intro hz9))
    exact K0 (by omega)
  · repeat (first | refine wtA (by decide) ?_ | refine wtM ?_ | refine wtL ?_ | refine step ?_ | refine Exists.intro _ (And.intro (congrFun hM _) ?_) | refine Exists.intro _ (And.intro rfl ?_) | refine And.intro rfl ?_ | refine And.intro trivial ?_ | (refine And.intro (by intro hz; exfalso; omega) ?_; intro hz9) | refine And.intro (by omega) ?_ | refine And.intro (by simp only [lnM_TAPE, lnM_SIGN, lnM_LENG, lnM_CLAU, lnM_CLSS, lnM_READ, lnM_OPEN, lnM_STCK, lnM_WORD, lnM_SAID, lnM_WASS, lnM_KEPT, lnM_FAR, lnM_WASI, lnM_OUTO, lnM_HASB, lnM_WHER, lnM_ISFI, lnM_CELT, lnM_IMGS, lnM_IMGF, lnM_IMGX, lnM_ISMA]; omega) ?_ | (refine And.intro ?_ (by intro hz; exfalso; omega); intro hz9))
    refine And.intro (fun hd => ?_) (fun hd => ?_)
    · repeat (first | refine wtA (by decide) ?_ | refine wtM ?_ | refine wtL ?_ | refine step ?_ | refine Exists.intro _ (And.intro (congrFun hM _) ?_) | refine Exists.intro _ (And.intro rfl ?_) | refine And.intro rfl ?_ | refine And.intro trivial ?_ | (refine And.intro (by intro hz; exfalso; omega) ?_; intro hz9) | refine And.intro (by omega) ?_ | refine And.intro (by simp only [lnM_TAPE, lnM_SIGN, lnM_LENG, lnM_CLAU, lnM_CLSS, lnM_READ, lnM_OPEN, lnM_STCK, lnM_WORD, lnM_SAID, lnM_WASS, lnM_KEPT, lnM_FAR, lnM_WASI, lnM_OUTO, lnM_HASB, lnM_WHER, lnM_ISFI, lnM_CELT, lnM_IMGS, lnM_IMGF, lnM_IMGX, lnM_ISMA]; omega) ?_ | (refine And.intro ?_ (by intro hz; exfalso; omega); intro hz9))
      intro p1 e1 T1
      repeat (first | refine wtA (by decide) ?_ | refine wtM ?_ | refine wtL ?_ | refine step ?_ | refine Exists.intro _ (And.intro (congrFun hM _) ?_) | refine Exists.intro _ (And.intro rfl ?_) | refine And.intro rfl ?_ | refine And.intro trivial ?_ | (refine And.intro (by intro hz; exfalso; omega) ?_; intro hz9) | refine And.intro (by omega) ?_ | refine And.intro (by simp only [lnM_TAPE, lnM_SIGN, lnM_LENG, lnM_CLAU, lnM_CLSS, lnM_READ, lnM_OPEN, lnM_STCK, lnM_WORD, lnM_SAID, lnM_WASS, lnM_KEPT, lnM_FAR, lnM_WASI, lnM_OUTO, lnM_HASB, lnM_WHER, lnM_ISFI, lnM_CELT, lnM_IMGS, lnM_IMGF, lnM_IMGX, lnM_ISMA]; omega) ?_ | (refine And.intro ?_ (by intro hz; exfalso; omega); intro hz9))
      exact K (by omega) hd p1 e1 T1
    · repeat (first | refine wtA (by decide) ?_ | refine wtM ?_ | refine wtL ?_ | refine step ?_ | refine Exists.intro _ (And.intro (congrFun hM _) ?_) | refine Exists.intro _ (And.intro rfl ?_) | refine And.intro rfl ?_ | refine And.intro trivial ?_ | (refine And.intro (by intro hz; exfalso; omega) ?_; intro hz9) | refine And.intro (by omega) ?_ | refine And.intro (by simp only [lnM_TAPE, lnM_SIGN, lnM_LENG, lnM_CLAU, lnM_CLSS, lnM_READ, lnM_OPEN, lnM_STCK, lnM_WORD, lnM_SAID, lnM_WASS, lnM_KEPT, lnM_FAR, lnM_WASI, lnM_OUTO, lnM_HASB, lnM_WHER, lnM_ISFI, lnM_CELT, lnM_IMGS, lnM_IMGF, lnM_IMGX, lnM_ISMA]; omega) ?_ | (refine And.intro ?_ (by intro hz; exfalso; omega); intro hz9))
      exact K0 (by omega)
theorem t_goesFrom {d : Nat} {h : AH} {Φ : OUT → AH → Prop} {c f : Int} {a : Int → Int} (hM : hP h M = MP) (hS : GS (hI h mSAID)) (c0 : 0 ≤ c) (c1 : c < (hI h mSAID) 1 * (hI h mSAID) 1) (f0 : 0 ≤ f) (f1 : f < 4) (ha : ∀ x, 0 ≤ x → x < (hI h mSAID) 1 * (hI h mSAID) 1 → hI h mFAR x = a x ∧ 0 ≤ a x ∧ a x ≤ 100) (hac : a c ≤ 99)
    (K0 : ¬ nrP (hI h mSAID) a c f → Φ (.inl (some (vi 0))) h) (K : nrP (hI h mSAID) a c f → ∀ p, hI p mFAR = upF (hI h mFAR) (toF (hI h mSAID) c f) (a c + wtF (hI h mSAID) c f) → TA [mFAR] [] h p → Φ (.inl (some (vi 1))) p) : CT (d + 3) 0 0 J_X4_goesFrom [vo M, vi c, vi f] h Φ := by
  refine e_X4_goesFrom ?_; intro k step keep
  have tk := toF_ok hS c0 c1 f0 f1
  obtain ⟨⟨a1, a2⟩, -, -, a4, a5, a6⟩ := id hS
  have sq := sq_le a1 a2
  have mg := margF_ok (f := f) a1 a2 c0 c1
  have al := alonF_ok (f := f) a1 a2 c0 c1
  have d6 := a6 f f0 f1
  have l4 := a4 f f0 f1
  have hc := ha c c0 c1
  have n1 := nextF_ok a1 a2 c0 c1 f0 (show f ≤ 3 by omega)
  unfold toF wtF at tk
  unfold nrP toF wtF at K K0
  repeat (first | refine wtA (by decide) ?_ | refine wtM ?_ | refine wtL ?_ | refine step ?_ | refine Exists.intro _ (And.intro (congrFun hM _) ?_) | refine Exists.intro _ (And.intro rfl ?_) | refine And.intro rfl ?_ | refine And.intro trivial ?_ | (refine And.intro (by intro hz; exfalso; omega) ?_; intro hz9) | refine And.intro (by omega) ?_ | refine And.intro (by simp only [lnM_TAPE, lnM_SIGN, lnM_LENG, lnM_CLAU, lnM_CLSS, lnM_READ, lnM_OPEN, lnM_STCK, lnM_WORD, lnM_SAID, lnM_WASS, lnM_KEPT, lnM_FAR, lnM_WASI, lnM_OUTO, lnM_HASB, lnM_WHER, lnM_ISFI, lnM_CELT, lnM_IMGS, lnM_IMGF, lnM_IMGX, lnM_ISMA]; omega) ?_ | (refine And.intro ?_ (by intro hz; exfalso; omega); intro hz9))
  refine Or.inl (t_nextOf hM c0 (by omega) a1 a2 (by omega) (by omega) (fun r hr => ?_))
  rw [← hr] at tk n1 K K0
  repeat (first | refine wtA (by decide) ?_ | refine wtM ?_ | refine wtL ?_ | refine step ?_ | refine Exists.intro _ (And.intro (congrFun hM _) ?_) | refine Exists.intro _ (And.intro rfl ?_) | refine And.intro rfl ?_ | refine And.intro trivial ?_ | (refine And.intro (by intro hz; exfalso; omega) ?_; intro hz9) | refine And.intro (by omega) ?_ | refine And.intro (by simp only [lnM_TAPE, lnM_SIGN, lnM_LENG, lnM_CLAU, lnM_CLSS, lnM_READ, lnM_OPEN, lnM_STCK, lnM_WORD, lnM_SAID, lnM_WASS, lnM_KEPT, lnM_FAR, lnM_WASI, lnM_OUTO, lnM_HASB, lnM_WHER, lnM_ISFI, lnM_CELT, lnM_IMGS, lnM_IMGF, lnM_IMGX, lnM_ISMA]; omega) ?_ | (refine And.intro ?_ (by intro hz; exfalso; omega); intro hz9))
  refine And.intro (fun hd => ?_) (fun hd => ?_)
  · rw [if_pos hd] at tk K K0
    rw [if_pos hd] at tk K K0
    repeat (first | refine wtA (by decide) ?_ | refine wtM ?_ | refine wtL ?_ | refine step ?_ | refine Exists.intro _ (And.intro (congrFun hM _) ?_) | refine Exists.intro _ (And.intro rfl ?_) | refine And.intro rfl ?_ | refine And.intro trivial ?_ | (refine And.intro (by intro hz; exfalso; omega) ?_; intro hz9) | refine And.intro (by omega) ?_ | refine And.intro (by simp only [lnM_TAPE, lnM_SIGN, lnM_LENG, lnM_CLAU, lnM_CLSS, lnM_READ, lnM_OPEN, lnM_STCK, lnM_WORD, lnM_SAID, lnM_WASS, lnM_KEPT, lnM_FAR, lnM_WASI, lnM_OUTO, lnM_HASB, lnM_WHER, lnM_ISFI, lnM_CELT, lnM_IMGS, lnM_IMGF, lnM_IMGX, lnM_ISMA]; omega) ?_ | (refine And.intro ?_ (by intro hz; exfalso; omega); intro hz9))
    refine Or.inl (t_placeAlong hM c0 (by omega) a1 a2 f0 (by omega) (fun r2 hr2 => ?_))
    repeat (first | refine wtA (by decide) ?_ | refine wtM ?_ | refine wtL ?_ | refine step ?_ | refine Exists.intro _ (And.intro (congrFun hM _) ?_) | refine Exists.intro _ (And.intro rfl ?_) | refine And.intro rfl ?_ | refine And.intro trivial ?_ | (refine And.intro (by intro hz; exfalso; omega) ?_; intro hz9) | refine And.intro (by omega) ?_ | refine And.intro (by simp only [lnM_TAPE, lnM_SIGN, lnM_LENG, lnM_CLAU, lnM_CLSS, lnM_READ, lnM_OPEN, lnM_STCK, lnM_WORD, lnM_SAID, lnM_WASS, lnM_KEPT, lnM_FAR, lnM_WASI, lnM_OUTO, lnM_HASB, lnM_WHER, lnM_ISFI, lnM_CELT, lnM_IMGS, lnM_IMGF, lnM_IMGX, lnM_ISMA]; omega) ?_ | (refine And.intro ?_ (by intro hz; exfalso; omega); intro hz9))
    refine Or.inl (t_cellAt hM (by omega) (fun r3 hr3 => ?_))
    rw [← hr2, ← hr3] at tk K K0
    have h3 := ha r3 (by omega) (by omega)
    repeat (first | refine wtA (by decide) ?_ | refine wtM ?_ | refine wtL ?_ | refine step ?_ | refine Exists.intro _ (And.intro (congrFun hM _) ?_) | refine Exists.intro _ (And.intro rfl ?_) | refine And.intro rfl ?_ | refine And.intro trivial ?_ | (refine And.intro (by intro hz; exfalso; omega) ?_; intro hz9) | refine And.intro (by omega) ?_ | refine And.intro (by simp only [lnM_TAPE, lnM_SIGN, lnM_LENG, lnM_CLAU, lnM_CLSS, lnM_READ, lnM_OPEN, lnM_STCK, lnM_WORD, lnM_SAID, lnM_WASS, lnM_KEPT, lnM_FAR, lnM_WASI, lnM_OUTO, lnM_HASB, lnM_WHER, lnM_ISFI, lnM_CELT, lnM_IMGS, lnM_IMGF, lnM_IMGX, lnM_ISMA]; omega) ?_ | (refine And.intro ?_ (by intro hz; exfalso; omega); intro hz9))
    refine Or.inl (t_nears hM (by omega) (by omega) (a5 _ (by omega) (by omega)) (by omega) (by omega) (fun z => ?_) (fun z1 z2 p e T => ?_))
    · repeat (first | refine wtA (by decide) ?_ | refine wtM ?_ | refine wtL ?_ | refine step ?_ | refine Exists.intro _ (And.intro (congrFun hM _) ?_) | refine Exists.intro _ (And.intro rfl ?_) | refine And.intro rfl ?_ | refine And.intro trivial ?_ | (refine And.intro (by intro hz; exfalso; omega) ?_; intro hz9) | refine And.intro (by omega) ?_ | refine And.intro (by simp only [lnM_TAPE, lnM_SIGN, lnM_LENG, lnM_CLAU, lnM_CLSS, lnM_READ, lnM_OPEN, lnM_STCK, lnM_WORD, lnM_SAID, lnM_WASS, lnM_KEPT, lnM_FAR, lnM_WASI, lnM_OUTO, lnM_HASB, lnM_WHER, lnM_ISFI, lnM_CELT, lnM_IMGS, lnM_IMGF, lnM_IMGX, lnM_ISMA]; omega) ?_ | (refine And.intro ?_ (by intro hz; exfalso; omega); intro hz9))
      exact K0 (by omega)
    · repeat (first | refine wtA (by decide) ?_ | refine wtM ?_ | refine wtL ?_ | refine step ?_ | refine Exists.intro _ (And.intro (congrFun hM _) ?_) | refine Exists.intro _ (And.intro rfl ?_) | refine And.intro rfl ?_ | refine And.intro trivial ?_ | (refine And.intro (by intro hz; exfalso; omega) ?_; intro hz9) | refine And.intro (by omega) ?_ | refine And.intro (by simp only [lnM_TAPE, lnM_SIGN, lnM_LENG, lnM_CLAU, lnM_CLSS, lnM_READ, lnM_OPEN, lnM_STCK, lnM_WORD, lnM_SAID, lnM_WASS, lnM_KEPT, lnM_FAR, lnM_WASI, lnM_OUTO, lnM_HASB, lnM_WHER, lnM_ISFI, lnM_CELT, lnM_IMGS, lnM_IMGF, lnM_IMGX, lnM_ISMA]; omega) ?_ | (refine And.intro ?_ (by intro hz; exfalso; omega); intro hz9))
      rw [show hI h mFAR c + (hI h mSAID) (86 + f) + 2 = a c + ((hI h mSAID) (86 + f) + 2) by omega] at e
      exact K (by omega) p e T
  · rw [if_neg (by omega)] at tk K K0
    rw [if_neg (by omega)] at tk K K0
    have h3 := ha r (by omega) (by omega)
    repeat (first | refine wtA (by decide) ?_ | refine wtM ?_ | refine wtL ?_ | refine step ?_ | refine Exists.intro _ (And.intro (congrFun hM _) ?_) | refine Exists.intro _ (And.intro rfl ?_) | refine And.intro rfl ?_ | refine And.intro trivial ?_ | (refine And.intro (by intro hz; exfalso; omega) ?_; intro hz9) | refine And.intro (by omega) ?_ | refine And.intro (by simp only [lnM_TAPE, lnM_SIGN, lnM_LENG, lnM_CLAU, lnM_CLSS, lnM_READ, lnM_OPEN, lnM_STCK, lnM_WORD, lnM_SAID, lnM_WASS, lnM_KEPT, lnM_FAR, lnM_WASI, lnM_OUTO, lnM_HASB, lnM_WHER, lnM_ISFI, lnM_CELT, lnM_IMGS, lnM_IMGF, lnM_IMGX, lnM_ISMA]; omega) ?_ | (refine And.intro ?_ (by intro hz; exfalso; omega); intro hz9))
    refine Or.inl (t_nears hM (by omega) (by omega) (a5 _ (by omega) (by omega)) (by omega) (by omega) (fun z => ?_) (fun z1 z2 p e T => ?_))
    · repeat (first | refine wtA (by decide) ?_ | refine wtM ?_ | refine wtL ?_ | refine step ?_ | refine Exists.intro _ (And.intro (congrFun hM _) ?_) | refine Exists.intro _ (And.intro rfl ?_) | refine And.intro rfl ?_ | refine And.intro trivial ?_ | (refine And.intro (by intro hz; exfalso; omega) ?_; intro hz9) | refine And.intro (by omega) ?_ | refine And.intro (by simp only [lnM_TAPE, lnM_SIGN, lnM_LENG, lnM_CLAU, lnM_CLSS, lnM_READ, lnM_OPEN, lnM_STCK, lnM_WORD, lnM_SAID, lnM_WASS, lnM_KEPT, lnM_FAR, lnM_WASI, lnM_OUTO, lnM_HASB, lnM_WHER, lnM_ISFI, lnM_CELT, lnM_IMGS, lnM_IMGF, lnM_IMGX, lnM_ISMA]; omega) ?_ | (refine And.intro ?_ (by intro hz; exfalso; omega); intro hz9))
      exact K0 (by omega)
    · repeat (first | refine wtA (by decide) ?_ | refine wtM ?_ | refine wtL ?_ | refine step ?_ | refine Exists.intro _ (And.intro (congrFun hM _) ?_) | refine Exists.intro _ (And.intro rfl ?_) | refine And.intro rfl ?_ | refine And.intro trivial ?_ | (refine And.intro (by intro hz; exfalso; omega) ?_; intro hz9) | refine And.intro (by omega) ?_ | refine And.intro (by simp only [lnM_TAPE, lnM_SIGN, lnM_LENG, lnM_CLAU, lnM_CLSS, lnM_READ, lnM_OPEN, lnM_STCK, lnM_WORD, lnM_SAID, lnM_WASS, lnM_KEPT, lnM_FAR, lnM_WASI, lnM_OUTO, lnM_HASB, lnM_WHER, lnM_ISFI, lnM_CELT, lnM_IMGS, lnM_IMGF, lnM_IMGX, lnM_ISMA]; omega) ?_ | (refine And.intro ?_ (by intro hz; exfalso; omega); intro hz9))
      rw [hc.1] at e
      exact K (by omega) p e T
theorem swpF_ok {s : Int → Int} {S : Int} (hS : GS s) : ∀ (n : Nat) (c : Int) (x : (Int → Int) × Int), 0 ≤ c → c + n ≤ s 1 * s 1 → SJ (s 1 * s 1) S x → SJ (s 1 * s 1) S (swpF s n c x) := by
  intro n
  induction n with
  | zero => intro c x _ _ h; exact h
  | succ n ih => intro c x c0 hn h; exact ih _ _ (by omega) (by omega) (rowF_ok hS c0 (by omega) 4 0 x (by omega) (by omega) h)
theorem t_shortest {d : Nat} {h : AH} {Φ : OUT → AH → Prop} {b g c : Int} (hM : hP h M = MP) (hW : TW b (hI h mSAID)) (hg : iR g) (hgc : iR c)
    (K : ∀ p r, r = (if 0 ≤ g ∧ g < (hI h mSAID) 2 ∧ (hI h mSAID) (11 + 7 * g + 3) = 0 ∧ 0 ≤ c ∧ c < (hI h mSAID) 1 * (hI h mSAID) 1 then shrtF (hI h mSAID) g c else -1) → (hI p mSAID) = (hI h mSAID) → TA QA QB h p → Φ (.inl (some (vi r))) p) : CT (d + 10) 0 0 J_X4_shortest [vo M, vi g, vi c] h Φ := by
  refine e_X4_shortest ?_; intro k step keep
  have s2 := hW.s2
  have sq0 := hW.sq
  repeat (first | refine wtA (by decide) ?_ | refine wtM ?_ | refine wtL ?_ | refine step ?_ | refine Exists.intro _ (And.intro (congrFun hM _) ?_) | refine Exists.intro _ (And.intro rfl ?_) | refine And.intro rfl ?_ | refine And.intro trivial ?_ | (refine And.intro (by intro hz; exfalso; omega) ?_; intro hz9) | refine And.intro (by omega) ?_ | refine And.intro (by simp only [lnM_TAPE, lnM_SIGN, lnM_LENG, lnM_CLAU, lnM_CLSS, lnM_READ, lnM_OPEN, lnM_STCK, lnM_WORD, lnM_SAID, lnM_WASS, lnM_KEPT, lnM_FAR, lnM_WASI, lnM_OUTO, lnM_HASB, lnM_WHER, lnM_ISFI, lnM_CELT, lnM_IMGS, lnM_IMGF, lnM_IMGX, lnM_ISMA]; omega) ?_ | (refine And.intro ?_ (by intro hz; exfalso; omega); intro hz9))
  refine Or.inl (t_isGoer hM hg s2.1 s2.2 (fun r hr => ?_))
  repeat (first | refine wtA (by decide) ?_ | refine wtM ?_ | refine wtL ?_ | refine step ?_ | refine Exists.intro _ (And.intro (congrFun hM _) ?_) | refine Exists.intro _ (And.intro rfl ?_) | refine And.intro rfl ?_ | refine And.intro trivial ?_ | (refine And.intro (by intro hz; exfalso; omega) ?_; intro hz9) | refine And.intro (by omega) ?_ | refine And.intro (by simp only [lnM_TAPE, lnM_SIGN, lnM_LENG, lnM_CLAU, lnM_CLSS, lnM_READ, lnM_OPEN, lnM_STCK, lnM_WORD, lnM_SAID, lnM_WASS, lnM_KEPT, lnM_FAR, lnM_WASI, lnM_OUTO, lnM_HASB, lnM_WHER, lnM_ISFI, lnM_CELT, lnM_IMGS, lnM_IMGF, lnM_IMGX, lnM_ISMA]; omega) ?_ | (refine And.intro ?_ (by intro hz; exfalso; omega); intro hz9))
  refine And.intro (fun hc => ?_) (fun hc => ?_)
  · (repeat (first | refine wtA (by decide) ?_ | refine wtM ?_ | refine wtL ?_ | refine step ?_ | refine Exists.intro _ (And.intro (congrFun hM _) ?_) | refine Exists.intro _ (And.intro rfl ?_) | refine And.intro rfl ?_ | refine And.intro trivial ?_ | (refine And.intro (by intro hz; exfalso; omega) ?_; intro hz9) | refine And.intro (by omega) ?_ | refine And.intro (by simp only [lnM_TAPE, lnM_SIGN, lnM_LENG, lnM_CLAU, lnM_CLSS, lnM_READ, lnM_OPEN, lnM_STCK, lnM_WORD, lnM_SAID, lnM_WASS, lnM_KEPT, lnM_FAR, lnM_WASI, lnM_OUTO, lnM_HASB, lnM_WHER, lnM_ISFI, lnM_CELT, lnM_IMGS, lnM_IMGF, lnM_IMGX, lnM_ISMA]; omega) ?_ | (refine And.intro ?_ (by intro hz; exfalso; omega); intro hz9))); exact K _ _ (by rw [if_neg (by omega)]) rfl TA.rf
  · have hA := (hW.go (g := g) (by omega) (by omega)).2
    have hS := hA.1
    have st := hA.st (g := g) (by omega) (by omega)
    have cg := (hA.2.2 g (by omega) (by omega)).1
    have sq := sq_le hS.1.1 hS.1.2
    repeat (first | refine wtA (by decide) ?_ | refine wtM ?_ | refine wtL ?_ | refine step ?_ | refine Exists.intro _ (And.intro (congrFun hM _) ?_) | refine Exists.intro _ (And.intro rfl ?_) | refine And.intro rfl ?_ | refine And.intro trivial ?_ | (refine And.intro (by intro hz; exfalso; omega) ?_; intro hz9) | refine And.intro (by omega) ?_ | refine And.intro (by simp only [lnM_TAPE, lnM_SIGN, lnM_LENG, lnM_CLAU, lnM_CLSS, lnM_READ, lnM_OPEN, lnM_STCK, lnM_WORD, lnM_SAID, lnM_WASS, lnM_KEPT, lnM_FAR, lnM_WASI, lnM_OUTO, lnM_HASB, lnM_WHER, lnM_ISFI, lnM_CELT, lnM_IMGS, lnM_IMGF, lnM_IMGX, lnM_ISMA]; omega) ?_ | (refine And.intro ?_ (by intro hz; exfalso; omega); intro hz9))
    refine Or.inl (t_isOn hM (by omega) (by omega) (by omega) ?_)
    by_cases hd : (hI h mSAID) (11 + 7 * g + 3) = 0
    · rw [if_pos hd]
      repeat (first | refine wtA (by decide) ?_ | refine wtM ?_ | refine wtL ?_ | refine step ?_ | refine Exists.intro _ (And.intro (congrFun hM _) ?_) | refine Exists.intro _ (And.intro rfl ?_) | refine And.intro rfl ?_ | refine And.intro trivial ?_ | (refine And.intro (by intro hz; exfalso; omega) ?_; intro hz9) | refine And.intro (by omega) ?_ | refine And.intro (by simp only [lnM_TAPE, lnM_SIGN, lnM_LENG, lnM_CLAU, lnM_CLSS, lnM_READ, lnM_OPEN, lnM_STCK, lnM_WORD, lnM_SAID, lnM_WASS, lnM_KEPT, lnM_FAR, lnM_WASI, lnM_OUTO, lnM_HASB, lnM_WHER, lnM_ISFI, lnM_CELT, lnM_IMGS, lnM_IMGF, lnM_IMGX, lnM_ISMA]; omega) ?_ | (refine And.intro ?_ (by intro hz; exfalso; omega); intro hz9))
      refine Or.inl (t_isCell hM hgc sq0.1 sq0.2 (fun r2 hr2 => ?_))
      repeat (first | refine wtA (by decide) ?_ | refine wtM ?_ | refine wtL ?_ | refine step ?_ | refine Exists.intro _ (And.intro (congrFun hM _) ?_) | refine Exists.intro _ (And.intro rfl ?_) | refine And.intro rfl ?_ | refine And.intro trivial ?_ | (refine And.intro (by intro hz; exfalso; omega) ?_; intro hz9) | refine And.intro (by omega) ?_ | refine And.intro (by simp only [lnM_TAPE, lnM_SIGN, lnM_LENG, lnM_CLAU, lnM_CLSS, lnM_READ, lnM_OPEN, lnM_STCK, lnM_WORD, lnM_SAID, lnM_WASS, lnM_KEPT, lnM_FAR, lnM_WASI, lnM_OUTO, lnM_HASB, lnM_WHER, lnM_ISFI, lnM_CELT, lnM_IMGS, lnM_IMGF, lnM_IMGX, lnM_ISMA]; omega) ?_ | (refine And.intro ?_ (by intro hz; exfalso; omega); intro hz9))
      refine And.intro (fun he => ?_) (fun he => ?_)
      · rw [if_pos (by omega)] at K
        unfold shrtF at K
        generalize hX : shoI (hI h mSAID) 3601 (fun x => if x = (hI h mSAID) (11 + 7 * g) then 0 else 100) = X at K
        have fin : ∀ (p : AH), hP p M = MP → (hI p mSAID) = (hI h mSAID) → TA QA QB h p → (∀ x, 0 ≤ x → x < (hI h mSAID) 1 * (hI h mSAID) 1 → hI p mFAR x = X x ∧ 0 ≤ X x ∧ X x ≤ 100) → k 0 0 61 [(0, vo M), (1, vi g), (2, vi c), (3, vi 0)] [] p := by
          intro p hM es T hx
          obtain ⟨y1, y2, y3⟩ := hx c (by omega) (by omega)
          repeat (first | refine wtA (by decide) ?_ | refine wtM ?_ | refine wtL ?_ | refine step ?_ | refine Exists.intro _ (And.intro (congrFun hM _) ?_) | refine Exists.intro _ (And.intro rfl ?_) | refine And.intro rfl ?_ | refine And.intro trivial ?_ | (refine And.intro (by intro hz; exfalso; omega) ?_; intro hz9) | refine And.intro (by omega) ?_ | refine And.intro (by simp only [lnM_TAPE, lnM_SIGN, lnM_LENG, lnM_CLAU, lnM_CLSS, lnM_READ, lnM_OPEN, lnM_STCK, lnM_WORD, lnM_SAID, lnM_WASS, lnM_KEPT, lnM_FAR, lnM_WASI, lnM_OUTO, lnM_HASB, lnM_WHER, lnM_ISFI, lnM_CELT, lnM_IMGS, lnM_IMGF, lnM_IMGX, lnM_ISMA]; omega) ?_ | (refine And.intro ?_ (by intro hz; exfalso; omega); intro hz9))
          refine And.intro (fun hi => ?_) (fun hi => ?_)
          · rw [if_neg (by omega)] at K
            repeat (first | refine wtA (by decide) ?_ | refine wtM ?_ | refine wtL ?_ | refine step ?_ | refine Exists.intro _ (And.intro (congrFun hM _) ?_) | refine Exists.intro _ (And.intro rfl ?_) | refine And.intro rfl ?_ | refine And.intro trivial ?_ | (refine And.intro (by intro hz; exfalso; omega) ?_; intro hz9) | refine And.intro (by omega) ?_ | refine And.intro (by simp only [lnM_TAPE, lnM_SIGN, lnM_LENG, lnM_CLAU, lnM_CLSS, lnM_READ, lnM_OPEN, lnM_STCK, lnM_WORD, lnM_SAID, lnM_WASS, lnM_KEPT, lnM_FAR, lnM_WASI, lnM_OUTO, lnM_HASB, lnM_WHER, lnM_ISFI, lnM_CELT, lnM_IMGS, lnM_IMGF, lnM_IMGX, lnM_ISMA]; omega) ?_ | (refine And.intro ?_ (by intro hz; exfalso; omega); intro hz9))
            exact K _ _ y1 es T
          · rw [if_pos (by omega)] at K
            repeat (first | refine wtA (by decide) ?_ | refine wtM ?_ | refine wtL ?_ | refine step ?_ | refine Exists.intro _ (And.intro (congrFun hM _) ?_) | refine Exists.intro _ (And.intro rfl ?_) | refine And.intro rfl ?_ | refine And.intro trivial ?_ | (refine And.intro (by intro hz; exfalso; omega) ?_; intro hz9) | refine And.intro (by omega) ?_ | refine And.intro (by simp only [lnM_TAPE, lnM_SIGN, lnM_LENG, lnM_CLAU, lnM_CLSS, lnM_READ, lnM_OPEN, lnM_STCK, lnM_WORD, lnM_SAID, lnM_WASS, lnM_KEPT, lnM_FAR, lnM_WASI, lnM_OUTO, lnM_HASB, lnM_WHER, lnM_ISFI, lnM_CELT, lnM_IMGS, lnM_IMGF, lnM_IMGX, lnM_ISMA]; omega) ?_ | (refine And.intro ?_ (by intro hz; exfalso; omega); intro hz9))
            exact K _ _ rfl es T
        have L3 : ∀ (n : Nat) (a : Int → Int) (p : AH), hP p M = MP → (hI p mSAID) = (hI h mSAID) → TA QA QB h p → (∀ x, 0 ≤ x → x < (hI h mSAID) 1 * (hI h mSAID) 1 → hI p mFAR x = a x ∧ 0 ≤ a x ∧ a x ≤ 100) → sumS a ((hI h mSAID) 1 * (hI h mSAID) 1).toNat < n → X = shoI (hI h mSAID) n a → k 0 0 61 [(0, vo M), (1, vi g), (2, vi c), (3, vi 1)] [] p := by
          intro n
          induction n with
          | zero =>
            intro a p hM es T hx hs e
            have := sumS_ok (a := a) ((hI h mSAID) 1 * (hI h mSAID) 1).toNat (fun x x0 x1 => (hx x x0 (by omega)).2)
            omega
          | succ n ih =>
            intro a p hM es T hx hs e
            unfold shoI at e
            generalize hZ : swpF (hI h mSAID) ((hI h mSAID) 1 * (hI h mSAID) 1).toNat 0 (a, 0) = Z at e
            have rowL : ∀ (i : Nat) (y : Int) (z : (Int → Int) × Int) (p : AH), hP p M = MP → (hI p mSAID) = (hI h mSAID) → TA QA QB h p → 0 ≤ y → y + i = (hI h mSAID) 1 * (hI h mSAID) 1 → SJ ((hI h mSAID) 1 * (hI h mSAID) 1) (sumS a ((hI h mSAID) 1 * (hI h mSAID) 1).toNat) z → (∀ x, 0 ≤ x → x < (hI h mSAID) 1 * (hI h mSAID) 1 → hI p mFAR x = z.1 x) → Z = swpF (hI h mSAID) i y z → k 0 0 70 [(0, vo M), (1, vi g), (2, vi c), (3, vi z.2), (4, vi y)] [] p := by
              intro i
              induction i with
              | zero =>
                intro y z p hM es T y0 hy hj hx e2
                have e3 : Z = z := e2
                rw [e3] at e
                refine step ?_
                repeat (first | refine wtA (by decide) ?_ | refine wtM ?_ | refine wtL ?_ | refine step ?_ | refine Exists.intro _ (And.intro (congrFun hM _) ?_) | refine Exists.intro _ (And.intro rfl ?_) | refine And.intro rfl ?_ | refine And.intro trivial ?_ | (refine And.intro (by intro hz; exfalso; omega) ?_; intro hz9) | refine And.intro (by omega) ?_ | refine And.intro (by simp only [lnM_TAPE, lnM_SIGN, lnM_LENG, lnM_CLAU, lnM_CLSS, lnM_READ, lnM_OPEN, lnM_STCK, lnM_WORD, lnM_SAID, lnM_WASS, lnM_KEPT, lnM_FAR, lnM_WASI, lnM_OUTO, lnM_HASB, lnM_WHER, lnM_ISFI, lnM_CELT, lnM_IMGS, lnM_IMGF, lnM_IMGX, lnM_ISMA]; omega) ?_ | (refine And.intro ?_ (by intro hz; exfalso; omega); intro hz9))
                refine Or.inl (t_cells hM ?_)
                rw [es]
                by_cases hz : z.2 = 0
                · rw [if_pos hz] at e
                  rw [hz]
                  repeat (first | (exact keep [0, 1, 2, 3] (fin p hM es T (fun x x0 x1 => by rw [e]; exact ⟨hx x x0 x1, hj.1 x x0 x1⟩))) | refine wtA (by decide) ?_ | refine wtM ?_ | refine wtL ?_ | refine step ?_ | refine Exists.intro _ (And.intro (congrFun hM _) ?_) | refine Exists.intro _ (And.intro rfl ?_) | refine And.intro rfl ?_ | refine And.intro trivial ?_ | (refine And.intro (by intro hz; exfalso; omega) ?_; intro hz9) | refine And.intro (by omega) ?_ | refine And.intro (by simp only [lnM_TAPE, lnM_SIGN, lnM_LENG, lnM_CLAU, lnM_CLSS, lnM_READ, lnM_OPEN, lnM_STCK, lnM_WORD, lnM_SAID, lnM_WASS, lnM_KEPT, lnM_FAR, lnM_WASI, lnM_OUTO, lnM_HASB, lnM_WHER, lnM_ISFI, lnM_CELT, lnM_IMGS, lnM_IMGF, lnM_IMGX, lnM_ISMA]; omega) ?_ | (refine And.intro ?_ (by intro hz; exfalso; omega); intro hz9))
                · rw [if_neg hz] at e
                  have hz1 : z.2 = 1 := by have := hj.2.1; omega
                  rw [hz1]
                  have hj3 := hj.2.2
                  repeat (first | (exact keep [0, 1, 2, 3] (ih z.1 p hM es T (fun x x0 x1 => ⟨hx x x0 x1, hj.1 x x0 x1⟩) (by omega) e)) | refine wtA (by decide) ?_ | refine wtM ?_ | refine wtL ?_ | refine step ?_ | refine Exists.intro _ (And.intro (congrFun hM _) ?_) | refine Exists.intro _ (And.intro rfl ?_) | refine And.intro rfl ?_ | refine And.intro trivial ?_ | (refine And.intro (by intro hz; exfalso; omega) ?_; intro hz9) | refine And.intro (by omega) ?_ | refine And.intro (by simp only [lnM_TAPE, lnM_SIGN, lnM_LENG, lnM_CLAU, lnM_CLSS, lnM_READ, lnM_OPEN, lnM_STCK, lnM_WORD, lnM_SAID, lnM_WASS, lnM_KEPT, lnM_FAR, lnM_WASI, lnM_OUTO, lnM_HASB, lnM_WHER, lnM_ISFI, lnM_CELT, lnM_IMGS, lnM_IMGF, lnM_IMGX, lnM_ISMA]; omega) ?_ | (refine And.intro ?_ (by intro hz; exfalso; omega); intro hz9))
              | succ i ihr =>
                intro y z p hM es T y0 hy hj hx e2
                unfold swpF at e2
                have nx : ∀ (f : Int) (z2 : (Int → Int) × Int) (p2 : AH), hP p2 M = MP → (hI p2 mSAID) = (hI h mSAID) → TA QA QB h p2 → SJ ((hI h mSAID) 1 * (hI h mSAID) 1) (sumS a ((hI h mSAID) 1 * (hI h mSAID) 1).toNat) z2 → (∀ x, 0 ≤ x → x < (hI h mSAID) 1 * (hI h mSAID) 1 → hI p2 mFAR x = z2.1 x) → Z = swpF (hI h mSAID) i (y + 1) z2 → k 0 0 119 [(0, vo M), (1, vi g), (2, vi c), (3, vi z2.2), (4, vi y), (5, vi f)] [] p2 := by
                  intro f z2 p2 hM es T hj hx e
                  repeat (first | (exact keep [0, 1, 2, 3, 4] (ihr (y + 1) z2 p2 hM es T (by omega) (by omega) hj hx e)) | refine wtA (by decide) ?_ | refine wtM ?_ | refine wtL ?_ | refine step ?_ | refine Exists.intro _ (And.intro (congrFun hM _) ?_) | refine Exists.intro _ (And.intro rfl ?_) | refine And.intro rfl ?_ | refine And.intro trivial ?_ | (refine And.intro (by intro hz; exfalso; omega) ?_; intro hz9) | refine And.intro (by omega) ?_ | refine And.intro (by simp only [lnM_TAPE, lnM_SIGN, lnM_LENG, lnM_CLAU, lnM_CLSS, lnM_READ, lnM_OPEN, lnM_STCK, lnM_WORD, lnM_SAID, lnM_WASS, lnM_KEPT, lnM_FAR, lnM_WASI, lnM_OUTO, lnM_HASB, lnM_WHER, lnM_ISFI, lnM_CELT, lnM_IMGS, lnM_IMGF, lnM_IMGX, lnM_ISMA]; omega) ?_ | (refine And.intro ?_ (by intro hz; exfalso; omega); intro hz9))
                have colL : ∀ (j : Nat) (f : Int) (z2 : (Int → Int) × Int) (p2 : AH), hP p2 M = MP → (hI p2 mSAID) = (hI h mSAID) → TA QA QB h p2 → 0 ≤ f → f + j = 4 → SJ ((hI h mSAID) 1 * (hI h mSAID) 1) (sumS a ((hI h mSAID) 1 * (hI h mSAID) 1).toNat) z2 → (∀ x, 0 ≤ x → x < (hI h mSAID) 1 * (hI h mSAID) 1 → hI p2 mFAR x = z2.1 x) → Z = swpF (hI h mSAID) i (y + 1) (rowF (hI h mSAID) y j f z2) → k 0 0 82 [(0, vo M), (1, vi g), (2, vi c), (3, vi z2.2), (4, vi y), (5, vi f)] [] p2 := by
                  intro j
                  induction j with
                  | zero =>
                    intro f z2 p2 hM es T f0 hf hj hx e
                    repeat (first | (exact nx f z2 p2 hM es T hj hx e) | refine wtA (by decide) ?_ | refine wtM ?_ | refine wtL ?_ | refine step ?_ | refine Exists.intro _ (And.intro (congrFun hM _) ?_) | refine Exists.intro _ (And.intro rfl ?_) | refine And.intro rfl ?_ | refine And.intro trivial ?_ | (refine And.intro (by intro hz; exfalso; omega) ?_; intro hz9) | refine And.intro (by omega) ?_ | refine And.intro (by simp only [lnM_TAPE, lnM_SIGN, lnM_LENG, lnM_CLAU, lnM_CLSS, lnM_READ, lnM_OPEN, lnM_STCK, lnM_WORD, lnM_SAID, lnM_WASS, lnM_KEPT, lnM_FAR, lnM_WASI, lnM_OUTO, lnM_HASB, lnM_WHER, lnM_ISFI, lnM_CELT, lnM_IMGS, lnM_IMGF, lnM_IMGX, lnM_ISMA]; omega) ?_ | (refine And.intro ?_ (by intro hz; exfalso; omega); intro hz9))
                  | succ j ihc =>
                    intro f z2 p2 hM es T f0 hf hj hx e
                    have hxy := hx y (by omega) (by omega)
                    have hjy := hj.1 y (by omega) (by omega)
                    by_cases hbig : 99 < z2.1 y
                    · rw [rowF_far _ _ _ hbig] at e
                      repeat (first | (exact nx f z2 p2 hM es T hj hx e) | refine wtA (by decide) ?_ | refine wtM ?_ | refine wtL ?_ | refine step ?_ | refine Exists.intro _ (And.intro (congrFun hM _) ?_) | refine Exists.intro _ (And.intro rfl ?_) | refine And.intro rfl ?_ | refine And.intro trivial ?_ | (refine And.intro (by intro hz; exfalso; omega) ?_; intro hz9) | refine And.intro (by omega) ?_ | refine And.intro (by simp only [lnM_TAPE, lnM_SIGN, lnM_LENG, lnM_CLAU, lnM_CLSS, lnM_READ, lnM_OPEN, lnM_STCK, lnM_WORD, lnM_SAID, lnM_WASS, lnM_KEPT, lnM_FAR, lnM_WASI, lnM_OUTO, lnM_HASB, lnM_WHER, lnM_ISFI, lnM_CELT, lnM_IMGS, lnM_IMGF, lnM_IMGX, lnM_ISMA]; omega) ?_ | (refine And.intro ?_ (by intro hz; exfalso; omega); intro hz9))
                    · unfold rowF at e
                      have hj' := relF_ok (c := y) (f := f) hS (by omega) (by omega) (by omega) (by omega) hj
                      have e1 := congrFun es 1
                      refine step ?_
                      repeat (first | refine wtA (by decide) ?_ | refine wtM ?_ | refine wtL ?_ | refine step ?_ | refine Exists.intro _ (And.intro (congrFun hM _) ?_) | refine Exists.intro _ (And.intro rfl ?_) | refine And.intro rfl ?_ | refine And.intro trivial ?_ | (refine And.intro (by intro hz; exfalso; omega) ?_; intro hz9) | refine And.intro (by omega) ?_ | refine And.intro (by simp only [lnM_TAPE, lnM_SIGN, lnM_LENG, lnM_CLAU, lnM_CLSS, lnM_READ, lnM_OPEN, lnM_STCK, lnM_WORD, lnM_SAID, lnM_WASS, lnM_KEPT, lnM_FAR, lnM_WASI, lnM_OUTO, lnM_HASB, lnM_WHER, lnM_ISFI, lnM_CELT, lnM_IMGS, lnM_IMGF, lnM_IMGX, lnM_ISMA]; omega) ?_ | (refine And.intro ?_ (by intro hz; exfalso; omega); intro hz9))
                      refine Or.inl (t_goesFrom (a := z2.1) hM (by rw [es]; exact hS) (by omega) (by rw [es]; omega) (by omega) (by omega) (fun x x0 x1 => by rw [es] at x1; exact ⟨hx x x0 x1, hj.1 x x0 x1⟩) (by omega) (fun hn => ?_) (fun hn p3 e3 T3 => ?_))
                      · have er : relF (hI h mSAID) z2 y f = z2 := if_neg (by rw [← es]; exact hn)
                        rw [er] at e
                        repeat (first | (exact ihc (f + 1) z2 p2 hM es T (by omega) (by omega) hj hx e) | refine wtA (by decide) ?_ | refine wtM ?_ | refine wtL ?_ | refine step ?_ | refine Exists.intro _ (And.intro (congrFun hM _) ?_) | refine Exists.intro _ (And.intro rfl ?_) | refine And.intro rfl ?_ | refine And.intro trivial ?_ | (refine And.intro (by intro hz; exfalso; omega) ?_; intro hz9) | refine And.intro (by omega) ?_ | refine And.intro (by simp only [lnM_TAPE, lnM_SIGN, lnM_LENG, lnM_CLAU, lnM_CLSS, lnM_READ, lnM_OPEN, lnM_STCK, lnM_WORD, lnM_SAID, lnM_WASS, lnM_KEPT, lnM_FAR, lnM_WASI, lnM_OUTO, lnM_HASB, lnM_WHER, lnM_ISFI, lnM_CELT, lnM_IMGS, lnM_IMGF, lnM_IMGX, lnM_ISMA]; omega) ?_ | (refine And.intro ?_ (by intro hz; exfalso; omega); intro hz9))
                      · have er : relF (hI h mSAID) z2 y f = (upF z2.1 (toF (hI h mSAID) y f) (z2.1 y + wtF (hI h mSAID) y f), 1) := if_pos (by rw [← es]; exact hn)
                        rw [er] at e hj'
                        rw [es] at e3
                        have hx3 : ∀ x, 0 ≤ x → x < (hI h mSAID) 1 * (hI h mSAID) 1 → hI p3 mFAR x = (upF z2.1 (toF (hI h mSAID) y f) (z2.1 y + wtF (hI h mSAID) y f), (1 : Int)).1 x := fun x x0 x1 => by
                          rw [e3]
                          show (if x = _ then _ else hI p2 mFAR x) = if x = _ then _ else z2.1 x
                          rw [hx x x0 x1]
                        repeat (first | (exact ihc (f + 1) (_, 1) p3 (T3.m hM) (by rw [T3.i (by decide) (by decide)]; exact es) (T.tr (T3.up (by decide) (by decide))) (by omega) (by omega) hj' hx3 e) | refine wtA (by decide) ?_ | refine wtM ?_ | refine wtL ?_ | refine step ?_ | refine Exists.intro _ (And.intro (congrFun hM _) ?_) | refine Exists.intro _ (And.intro rfl ?_) | refine And.intro rfl ?_ | refine And.intro trivial ?_ | (refine And.intro (by intro hz; exfalso; omega) ?_; intro hz9) | refine And.intro (by omega) ?_ | refine And.intro (by simp only [lnM_TAPE, lnM_SIGN, lnM_LENG, lnM_CLAU, lnM_CLSS, lnM_READ, lnM_OPEN, lnM_STCK, lnM_WORD, lnM_SAID, lnM_WASS, lnM_KEPT, lnM_FAR, lnM_WASI, lnM_OUTO, lnM_HASB, lnM_WHER, lnM_ISFI, lnM_CELT, lnM_IMGS, lnM_IMGF, lnM_IMGX, lnM_ISMA]; omega) ?_ | (refine And.intro ?_ (by intro hz; exfalso; omega); intro hz9))
                refine step ?_
                repeat (first | refine wtA (by decide) ?_ | refine wtM ?_ | refine wtL ?_ | refine step ?_ | refine Exists.intro _ (And.intro (congrFun hM _) ?_) | refine Exists.intro _ (And.intro rfl ?_) | refine And.intro rfl ?_ | refine And.intro trivial ?_ | (refine And.intro (by intro hz; exfalso; omega) ?_; intro hz9) | refine And.intro (by omega) ?_ | refine And.intro (by simp only [lnM_TAPE, lnM_SIGN, lnM_LENG, lnM_CLAU, lnM_CLSS, lnM_READ, lnM_OPEN, lnM_STCK, lnM_WORD, lnM_SAID, lnM_WASS, lnM_KEPT, lnM_FAR, lnM_WASI, lnM_OUTO, lnM_HASB, lnM_WHER, lnM_ISFI, lnM_CELT, lnM_IMGS, lnM_IMGF, lnM_IMGX, lnM_ISMA]; omega) ?_ | (refine And.intro ?_ (by intro hz; exfalso; omega); intro hz9))
                refine Or.inl (t_cells hM ?_)
                rw [es]
                repeat (first | (exact colL 4 0 z p hM es T (by omega) (by omega) hj hx e2) | refine wtA (by decide) ?_ | refine wtM ?_ | refine wtL ?_ | refine step ?_ | refine Exists.intro _ (And.intro (congrFun hM _) ?_) | refine Exists.intro _ (And.intro rfl ?_) | refine And.intro rfl ?_ | refine And.intro trivial ?_ | (refine And.intro (by intro hz; exfalso; omega) ?_; intro hz9) | refine And.intro (by omega) ?_ | refine And.intro (by simp only [lnM_TAPE, lnM_SIGN, lnM_LENG, lnM_CLAU, lnM_CLSS, lnM_READ, lnM_OPEN, lnM_STCK, lnM_WORD, lnM_SAID, lnM_WASS, lnM_KEPT, lnM_FAR, lnM_WASI, lnM_OUTO, lnM_HASB, lnM_WHER, lnM_ISFI, lnM_CELT, lnM_IMGS, lnM_IMGF, lnM_IMGX, lnM_ISMA]; omega) ?_ | (refine And.intro ?_ (by intro hz; exfalso; omega); intro hz9))
            refine step ?_
            repeat (first | (exact rowL ((hI h mSAID) 1 * (hI h mSAID) 1).toNat 0 (a, 0) p hM es T (by omega) (by omega) ⟨fun x x0 x1 => (hx x x0 x1).2, Or.inl rfl, Int.le_of_eq (Int.add_zero _)⟩ (fun x x0 x1 => (hx x x0 x1).1) hZ.symm) | refine wtA (by decide) ?_ | refine wtM ?_ | refine wtL ?_ | refine step ?_ | refine Exists.intro _ (And.intro (congrFun hM _) ?_) | refine Exists.intro _ (And.intro rfl ?_) | refine And.intro rfl ?_ | refine And.intro trivial ?_ | (refine And.intro (by intro hz; exfalso; omega) ?_; intro hz9) | refine And.intro (by omega) ?_ | refine And.intro (by simp only [lnM_TAPE, lnM_SIGN, lnM_LENG, lnM_CLAU, lnM_CLSS, lnM_READ, lnM_OPEN, lnM_STCK, lnM_WORD, lnM_SAID, lnM_WASS, lnM_KEPT, lnM_FAR, lnM_WASI, lnM_OUTO, lnM_HASB, lnM_WHER, lnM_ISFI, lnM_CELT, lnM_IMGS, lnM_IMGF, lnM_IMGX, lnM_ISMA]; omega) ?_ | (refine And.intro ?_ (by intro hz; exfalso; omega); intro hz9))
        have L1 : ∀ (m : Nat) (y : Int) (p : AH), hP p M = MP → 0 ≤ y → y + m = 36 → (hI p mSAID) = (hI h mSAID) → TA QA QB h p → (∀ x, 0 ≤ x → x < y → hI p mFAR x = 100) → k 0 0 28 [(0, vo M), (1, vi g), (2, vi c), (3, vi y)] [] p := by
          intro m
          induction m with
          | zero =>
            intro y p hM y0 hm es T hf
            have eg := congrFun es (11 + 7 * g)
            repeat (first | refine wtA (by decide) ?_ | refine wtM ?_ | refine wtL ?_ | refine step ?_ | refine Exists.intro _ (And.intro (congrFun hM _) ?_) | refine Exists.intro _ (And.intro rfl ?_) | refine And.intro rfl ?_ | refine And.intro trivial ?_ | (refine And.intro (by intro hz; exfalso; omega) ?_; intro hz9) | refine And.intro (by omega) ?_ | refine And.intro (by simp only [lnM_TAPE, lnM_SIGN, lnM_LENG, lnM_CLAU, lnM_CLSS, lnM_READ, lnM_OPEN, lnM_STCK, lnM_WORD, lnM_SAID, lnM_WASS, lnM_KEPT, lnM_FAR, lnM_WASI, lnM_OUTO, lnM_HASB, lnM_WHER, lnM_ISFI, lnM_CELT, lnM_IMGS, lnM_IMGF, lnM_IMGX, lnM_ISMA]; omega) ?_ | (refine And.intro ?_ (by intro hz; exfalso; omega); intro hz9))
            refine Or.inl (t_cellOf hM (by omega) (by omega) ?_)
            rw [eg]
            repeat (first | refine wtA (by decide) ?_ | refine wtM ?_ | refine wtL ?_ | refine step ?_ | refine Exists.intro _ (And.intro (congrFun hM _) ?_) | refine Exists.intro _ (And.intro rfl ?_) | refine And.intro rfl ?_ | refine And.intro trivial ?_ | (refine And.intro (by intro hz; exfalso; omega) ?_; intro hz9) | refine And.intro (by omega) ?_ | refine And.intro (by simp only [lnM_TAPE, lnM_SIGN, lnM_LENG, lnM_CLAU, lnM_CLSS, lnM_READ, lnM_OPEN, lnM_STCK, lnM_WORD, lnM_SAID, lnM_WASS, lnM_KEPT, lnM_FAR, lnM_WASI, lnM_OUTO, lnM_HASB, lnM_WHER, lnM_ISFI, lnM_CELT, lnM_IMGS, lnM_IMGF, lnM_IMGX, lnM_ISMA]; omega) ?_ | (refine And.intro ?_ (by intro hz; exfalso; omega); intro hz9))
            intro p1 e1 T1; have hM := T1.m hM
            have hx1 : ∀ x, 0 ≤ x → x < (hI h mSAID) 1 * (hI h mSAID) 1 → hI p1 mFAR x = (fun x => if x = (hI h mSAID) (11 + 7 * g) then 0 else 100) x ∧ 0 ≤ (fun x => if x = (hI h mSAID) (11 + 7 * g) then (0 : Int) else 100) x ∧ (fun x => if x = (hI h mSAID) (11 + 7 * g) then (0 : Int) else 100) x ≤ 100 := fun x x0 x1 => by
              rw [e1]
              show (if x = (hI h mSAID) (11 + 7 * g) then 0 else hI p mFAR x) = (if x = (hI h mSAID) (11 + 7 * g) then 0 else 100) ∧ 0 ≤ (if x = (hI h mSAID) (11 + 7 * g) then (0 : Int) else 100) ∧ (if x = (hI h mSAID) (11 + 7 * g) then (0 : Int) else 100) ≤ 100
              rw [hf x x0 (by omega)]
              split <;> omega
            have hsum := sumS_ok (a := fun x => if x = (hI h mSAID) (11 + 7 * g) then (0 : Int) else 100) ((hI h mSAID) 1 * (hI h mSAID) 1).toNat (fun x x0 x1 => (hx1 x x0 (by omega)).2)
            repeat (first | (exact L3 3601 _ p1 hM (by rw [T1.i (by decide) (by decide)]; exact es) (T.tr (T1.up (by decide) (by decide))) hx1 (by omega) hX.symm) | refine wtA (by decide) ?_ | refine wtM ?_ | refine wtL ?_ | refine step ?_ | refine Exists.intro _ (And.intro (congrFun hM _) ?_) | refine Exists.intro _ (And.intro rfl ?_) | refine And.intro rfl ?_ | refine And.intro trivial ?_ | (refine And.intro (by intro hz; exfalso; omega) ?_; intro hz9) | refine And.intro (by omega) ?_ | refine And.intro (by simp only [lnM_TAPE, lnM_SIGN, lnM_LENG, lnM_CLAU, lnM_CLSS, lnM_READ, lnM_OPEN, lnM_STCK, lnM_WORD, lnM_SAID, lnM_WASS, lnM_KEPT, lnM_FAR, lnM_WASI, lnM_OUTO, lnM_HASB, lnM_WHER, lnM_ISFI, lnM_CELT, lnM_IMGS, lnM_IMGF, lnM_IMGX, lnM_ISMA]; omega) ?_ | (refine And.intro ?_ (by intro hz; exfalso; omega); intro hz9))
          | succ m ih =>
            intro y p hM y0 hm es T hf
            refine step ?_
            repeat (first | refine wtA (by decide) ?_ | refine wtM ?_ | refine wtL ?_ | refine step ?_ | refine Exists.intro _ (And.intro (congrFun hM _) ?_) | refine Exists.intro _ (And.intro rfl ?_) | refine And.intro rfl ?_ | refine And.intro trivial ?_ | (refine And.intro (by intro hz; exfalso; omega) ?_; intro hz9) | refine And.intro (by omega) ?_ | refine And.intro (by simp only [lnM_TAPE, lnM_SIGN, lnM_LENG, lnM_CLAU, lnM_CLSS, lnM_READ, lnM_OPEN, lnM_STCK, lnM_WORD, lnM_SAID, lnM_WASS, lnM_KEPT, lnM_FAR, lnM_WASI, lnM_OUTO, lnM_HASB, lnM_WHER, lnM_ISFI, lnM_CELT, lnM_IMGS, lnM_IMGF, lnM_IMGX, lnM_ISMA]; omega) ?_ | (refine And.intro ?_ (by intro hz; exfalso; omega); intro hz9))
            intro p1 e1 T1; have hM := T1.m hM
            have hf1 : ∀ x, 0 ≤ x → x < y + 1 → hI p1 mFAR x = 100 := fun x x0 x1 => by
              rw [e1]
              show (if x = y then 100 else hI p mFAR x) = 100
              by_cases hx : x = y
              · rw [if_pos hx]
              · rw [if_neg hx]; exact hf x x0 (by omega)
            repeat (first | (exact ih _ _ hM (by omega) (by omega) (by rw [T1.i (by decide) (by decide)]; exact es) (T.tr (T1.up (by decide) (by decide))) hf1) | refine wtA (by decide) ?_ | refine wtM ?_ | refine wtL ?_ | refine step ?_ | refine Exists.intro _ (And.intro (congrFun hM _) ?_) | refine Exists.intro _ (And.intro rfl ?_) | refine And.intro rfl ?_ | refine And.intro trivial ?_ | (refine And.intro (by intro hz; exfalso; omega) ?_; intro hz9) | refine And.intro (by omega) ?_ | refine And.intro (by simp only [lnM_TAPE, lnM_SIGN, lnM_LENG, lnM_CLAU, lnM_CLSS, lnM_READ, lnM_OPEN, lnM_STCK, lnM_WORD, lnM_SAID, lnM_WASS, lnM_KEPT, lnM_FAR, lnM_WASI, lnM_OUTO, lnM_HASB, lnM_WHER, lnM_ISFI, lnM_CELT, lnM_IMGS, lnM_IMGF, lnM_IMGX, lnM_ISMA]; omega) ?_ | (refine And.intro ?_ (by intro hz; exfalso; omega); intro hz9))
        repeat (first | (exact L1 36 0 h hM (by omega) (by omega) rfl TA.rf (fun x x0 x1 => by omega)) | refine wtA (by decide) ?_ | refine wtM ?_ | refine wtL ?_ | refine step ?_ | refine Exists.intro _ (And.intro (congrFun hM _) ?_) | refine Exists.intro _ (And.intro rfl ?_) | refine And.intro rfl ?_ | refine And.intro trivial ?_ | (refine And.intro (by intro hz; exfalso; omega) ?_; intro hz9) | refine And.intro (by omega) ?_ | refine And.intro (by simp only [lnM_TAPE, lnM_SIGN, lnM_LENG, lnM_CLAU, lnM_CLSS, lnM_READ, lnM_OPEN, lnM_STCK, lnM_WORD, lnM_SAID, lnM_WASS, lnM_KEPT, lnM_FAR, lnM_WASI, lnM_OUTO, lnM_HASB, lnM_WHER, lnM_ISFI, lnM_CELT, lnM_IMGS, lnM_IMGF, lnM_IMGX, lnM_ISMA]; omega) ?_ | (refine And.intro ?_ (by intro hz; exfalso; omega); intro hz9))
      · (repeat (first | refine wtA (by decide) ?_ | refine wtM ?_ | refine wtL ?_ | refine step ?_ | refine Exists.intro _ (And.intro (congrFun hM _) ?_) | refine Exists.intro _ (And.intro rfl ?_) | refine And.intro rfl ?_ | refine And.intro trivial ?_ | (refine And.intro (by intro hz; exfalso; omega) ?_; intro hz9) | refine And.intro (by omega) ?_ | refine And.intro (by simp only [lnM_TAPE, lnM_SIGN, lnM_LENG, lnM_CLAU, lnM_CLSS, lnM_READ, lnM_OPEN, lnM_STCK, lnM_WORD, lnM_SAID, lnM_WASS, lnM_KEPT, lnM_FAR, lnM_WASI, lnM_OUTO, lnM_HASB, lnM_WHER, lnM_ISFI, lnM_CELT, lnM_IMGS, lnM_IMGF, lnM_IMGX, lnM_ISMA]; omega) ?_ | (refine And.intro ?_ (by intro hz; exfalso; omega); intro hz9))); exact K _ _ (by rw [if_neg (by omega)]) rfl TA.rf
    · rw [if_neg hd]
      (repeat (first | refine wtA (by decide) ?_ | refine wtM ?_ | refine wtL ?_ | refine step ?_ | refine Exists.intro _ (And.intro (congrFun hM _) ?_) | refine Exists.intro _ (And.intro rfl ?_) | refine And.intro rfl ?_ | refine And.intro trivial ?_ | (refine And.intro (by intro hz; exfalso; omega) ?_; intro hz9) | refine And.intro (by omega) ?_ | refine And.intro (by simp only [lnM_TAPE, lnM_SIGN, lnM_LENG, lnM_CLAU, lnM_CLSS, lnM_READ, lnM_OPEN, lnM_STCK, lnM_WORD, lnM_SAID, lnM_WASS, lnM_KEPT, lnM_FAR, lnM_WASI, lnM_OUTO, lnM_HASB, lnM_WHER, lnM_ISFI, lnM_CELT, lnM_IMGS, lnM_IMGF, lnM_IMGX, lnM_ISMA]; omega) ?_ | (refine And.intro ?_ (by intro hz; exfalso; omega); intro hz9))); exact K _ _ (by rw [if_neg (by omega)]) rfl TA.rf
