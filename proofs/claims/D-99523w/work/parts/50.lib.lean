/-! THE TWIN'S ADDRESSES (as the constructors lay them): the object M, its arrays; what its reference fields hold -/
abbrev M : Nat := 74272768
abbrev mTAPE : Nat := 74453392
abbrev mSIGN : Nat := 74713440
abbrev mLENG : Nat := 74973191
abbrev mCLAU : Nat := 75235616
abbrev mCLSS : Nat := 75497478
abbrev mREAD : Nat := 75759761
abbrev mOPEN : Nat := 76022160
abbrev mSTCK : Nat := 76296256
abbrev mWORD : Nat := 76558347
abbrev mSAID : Nat := 76808368
abbrev mWASS : Nat := 77071856
abbrev mKEPT : Nat := 77332556
abbrev mFAR : Nat := 77594660
abbrev mWASI : Nat := 77864996
abbrev mOUTO : Nat := 78118917
abbrev mHASB : Nat := 78381088
abbrev mWHER : Nat := 78643505
abbrev mISFI : Nat := 78913543
abbrev mCELT : Nat := 79167523
abbrev mIMGS : Nat := 79430336
abbrev mIMGF : Nat := 79691780
abbrev mIMGX : Nat := 79953924
abbrev mISMA : Nat := 80224260
def MP (k : Int) : Option Nat := match k with
  | 0 => some mTAPE
  | 3 => some mSIGN
  | 4 => some mLENG
  | 5 => some mCLAU
  | 6 => some mCLSS
  | 7 => some mREAD
  | 15 => some mOPEN
  | 17 => some mSTCK
  | 19 => some mWORD
  | 20 => some mSAID
  | 23 => some mWASS
  | 25 => some mKEPT
  | 26 => some mFAR
  | 27 => some mWASI
  | 28 => some mOUTO
  | 32 => some mHASB
  | 33 => some mWHER
  | 34 => some mISFI
  | 35 => some mCELT
  | 37 => some mIMGS
  | 38 => some mIMGF
  | 39 => some mIMGX
  | 40 => some mISMA
  | _ => none
theorem lnM_TAPE : ((ln mTAPE : Nat) : Int) = 400 := rfl
theorem lnM_SIGN : ((ln mSIGN : Nat) : Int) = 2400 := rfl
theorem lnM_LENG : ((ln mLENG : Nat) : Int) = 7 := rfl
theorem lnM_CLAU : ((ln mCLAU : Nat) : Int) = 288 := rfl
theorem lnM_CLSS : ((ln mCLSS : Nat) : Int) = 6 := rfl
theorem lnM_READ : ((ln mREAD : Nat) : Int) = 145 := rfl
theorem lnM_OPEN : ((ln mOPEN : Nat) : Int) = 400 := rfl
theorem lnM_STCK : ((ln mSTCK : Nat) : Int) = 64 := rfl
theorem lnM_WORD : ((ln mWORD : Nat) : Int) = 11 := rfl
theorem lnM_SAID : ((ln mSAID : Nat) : Int) = 176 := rfl
theorem lnM_WASS : ((ln mWASS : Nat) : Int) = 1520 := rfl
theorem lnM_KEPT : ((ln mKEPT : Nat) : Int) = 76 := rfl
theorem lnM_FAR : ((ln mFAR : Nat) : Int) = 36 := rfl
theorem lnM_WASI : ((ln mWASI : Nat) : Int) = 36 := rfl
theorem lnM_OUTO : ((ln mOUTO : Nat) : Int) = 5 := rfl
theorem lnM_HASB : ((ln mHASB : Nat) : Int) = 32 := rfl
theorem lnM_WHER : ((ln mWHER : Nat) : Int) = 305 := rfl
theorem lnM_ISFI : ((ln mISFI : Nat) : Int) = 7 := rfl
theorem lnM_CELT : ((ln mCELT : Nat) : Int) = 35 := rfl
theorem lnM_IMGS : ((ln mIMGS : Nat) : Int) = 704 := rfl
theorem lnM_IMGF : ((ln mIMGF : Nat) : Int) = 4 := rfl
theorem lnM_IMGX : ((ln mIMGX : Nat) : Int) = 4 := rfl
theorem lnM_ISMA : ((ln mISMA : Nat) : Int) = 4 := rfl
/-! reads and writes -/
abbrev upF (f : Int → Int) (k v : Int) : Int → Int := fun m => if m = k then v else f m
abbrev upL (f : Int → Int64) (k : Int) (v : Int64) : Int → Int64 := fun m => if m = k then v else f m
theorem hI_eq (h : AH) (a : Nat) (k v : Int) : hI (sI h a k v) a = upF (hI h a) k v := by
  funext m
  show (if a = a ∧ m = k then v else h.2.1 a m) = if m = k then v else h.2.1 a m
  simp only [true_and]
theorem hI_ne {h : AH} {a b : Nat} {k v : Int} (n : b ≠ a) : hI (sI h a k v) b = hI h b := by
  funext m
  show (if b = a ∧ m = k then v else h.2.1 b m) = h.2.1 b m
  rw [if_neg (fun z => n z.1)]
theorem hL_eq (h : AH) (a : Nat) (k : Int) (v : Int64) : hL (sL h a k v) a = upL (hL h a) k v := by
  funext m
  show (if a = a ∧ m = k then v else h.2.2.1 a m) = if m = k then v else h.2.2.1 a m
  simp only [true_and]
theorem hL_ne {h : AH} {a b : Nat} {k : Int} {v : Int64} (n : b ≠ a) : hL (sL h a k v) b = hL h b := by
  funext m
  show (if b = a ∧ m = k then v else h.2.2.1 b m) = h.2.2.1 b m
  rw [if_neg (fun z => n z.1)]
/-- the ones among n from g on whose status is w -/
def onesF (s : Int → Int) (w : Int) : Nat → Int → Int → Int
  | 0, _, acc => acc
  | n + 1, g, acc => onesF s w n (g + 1) (iOr acc (if s (11 + 7 * g + 3) = w then iShl 1 g else 0))
theorem iR_iOr (a b : Int) : iR (iOr a b) := by
  unfold iOr
  have h1 := Int32.le_toInt (Int32.ofInt a ||| Int32.ofInt b)
  have h2 := Int32.toInt_lt (Int32.ofInt a ||| Int32.ofInt b)
  omega

/-! frames of the twin's methods: A the arrays, B the object's own numbers that may change -/
def TA (A : List Nat) (B : List Int) (h h1 : AH) : Prop := h1.1 = h.1 ∧ hP h1 = hP h ∧ (∀ b, b ∉ A → hL h1 b = hL h b) ∧ (∀ b, b ∉ A → b ≠ M → hI h1 b = hI h b) ∧ ∀ m, m ∉ B → hI h1 M m = hI h M m
theorem TA.rf {A : List Nat} {B : List Int} {h : AH} : TA A B h h := ⟨rfl, rfl, fun _ _ => rfl, fun _ _ _ => rfl, fun _ _ => rfl⟩
theorem TA.tr {A : List Nat} {B : List Int} {h h1 h2 : AH} (x : TA A B h h1) (y : TA A B h1 h2) : TA A B h h2 := ⟨y.1.trans x.1, y.2.1.trans x.2.1, fun b hb => (y.2.2.1 b hb).trans (x.2.2.1 b hb), fun b hb hm => (y.2.2.2.1 b hb hm).trans (x.2.2.2.1 b hb hm), fun m hm => (y.2.2.2.2 m hm).trans (x.2.2.2.2 m hm)⟩
theorem TA.up {A A' : List Nat} {B B' : List Int} {h h1 : AH} (x : TA A B h h1) (ha : ∀ a ∈ A, a ∈ A') (hb : ∀ m ∈ B, m ∈ B') : TA A' B' h h1 := ⟨x.1, x.2.1, fun b hn => x.2.2.1 b (fun z => hn (ha b z)), fun b hn hm => x.2.2.2.1 b (fun z => hn (ha b z)) hm, fun m hn => x.2.2.2.2 m (fun z => hn (hb m z))⟩
theorem TA.wI {A : List Nat} {B : List Int} {h h1 : AH} {a : Nat} {k v : Int} (x : TA A B h h1) (ha : a ∈ A) (hm : a ≠ M) : TA A B h (sI h1 a k v) := by
  refine x.tr ⟨rfl, rfl, fun _ _ => rfl, fun b hb _ => hI_ne (fun z => hb (z ▸ ha)), fun m _ => ?_⟩
  exact congrFun (hI_ne (fun z => hm z.symm)) m
theorem TA.wM {A : List Nat} {B : List Int} {h h1 : AH} {k v : Int} (x : TA A B h h1) (hk : k ∈ B) : TA A B h (sI h1 M k v) := by
  refine x.tr ⟨rfl, rfl, fun _ _ => rfl, fun b _ hb => hI_ne hb, fun m hm => ?_⟩
  rw [hI_eq]
  show (if m = k then v else hI h1 M m) = hI h1 M m
  exact if_neg (fun z : m = k => hm (by rw [z]; exact hk))
theorem TA.wL {A : List Nat} {B : List Int} {h h1 : AH} {a : Nat} {k : Int} {v : Int64} (x : TA A B h h1) (ha : a ∈ A) : TA A B h (sL h1 a k v) :=
  x.tr ⟨rfl, rfl, fun b hb => hL_ne (fun z => hb (z ▸ ha)), fun _ _ _ => rfl, fun _ _ => rfl⟩
theorem TA.m {A : List Nat} {B : List Int} {h h1 : AH} (x : TA A B h h1) (hM : hP h M = MP) : hP h1 M = MP := by rw [x.2.1]; exact hM
theorem TA.i {A : List Nat} {B : List Int} {h h1 : AH} (x : TA A B h h1) {b : Nat} (hb : b ∉ A) (hm : b ≠ M) : hI h1 b = hI h b := x.2.2.2.1 b hb hm
theorem TA.f {A : List Nat} {B : List Int} {h h1 : AH} (x : TA A B h h1) {m : Int} (hm : m ∉ B) : hI h1 M m = hI h M m := x.2.2.2.2 m hm
/-! the sheet's geometry: n the side, c a cell, f a way -/
def margF (n c f : Int) : Int := if f = 0 then c / n else if f = 1 then n - 1 - c % n else if f = 2 then n - 1 - c / n else c % n
def stepF (n c f : Int) : Int := if f = 0 then c - n else if f = 1 then c + 1 else if f = 2 then c + n else c - 1
def nextF (n c f : Int) : Int := if margF n c f = 0 then -1 else stepF n c f
def cellF (n e p : Int) : Int := if e = 0 then p else if e = 1 then n * p + n - 1 else if e = 2 then n * (n - 1) + p else n * p
def alonF (n c f : Int) : Int := if f % 2 = 0 then c % n else c / n
/-- compare two longs that were ints -/
theorem lCmp_i {a b : Int} (ha : iR a) (hb : iR b) : lCmp (Int64.ofInt a) (Int64.ofInt b) = if b < a then 1 else if a = b then 0 else -1 := by
  have e1 : (Int64.ofInt a).toInt = a := Int64.toInt_ofInt_of_le (by omega) (by omega)
  have e2 : (Int64.ofInt b).toInt = b := Int64.toInt_ofInt_of_le (by omega) (by omega)
  unfold lCmp
  simp only [Int64.lt_iff_toInt_lt, ← Int64.toInt_inj, e1, e2]
theorem wtA {P : AH → Prop} {h : AH} {a : Nat} {k v : Int} (ha : a ≠ M) (H : ∀ h1, hI h1 a = upF (hI h a) k v → TA [a] [] h h1 → P h1) : P (sI h a k v) :=
  H _ (hI_eq h a k v) (TA.rf.wI List.mem_cons_self ha)
theorem wtM {P : AH → Prop} {h : AH} {k v : Int} (H : ∀ h1, hI h1 M k = v → TA [] [k] h h1 → P h1) : P (sI h M k v) := by
  refine H _ ?_ (TA.rf.wM List.mem_cons_self)
  rw [hI_eq]
  exact if_pos rfl
theorem wtL {P : AH → Prop} {h : AH} {a : Nat} {k : Int} {v : Int64} (H : ∀ h1, hL h1 a = upL (hL h a) k v → TA [a] [] h h1 → P h1) : P (sL h a k v) :=
  H _ (hL_eq h a k v) (TA.rf.wL List.mem_cons_self)

