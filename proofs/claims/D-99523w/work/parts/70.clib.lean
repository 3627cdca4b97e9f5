-- NEEDS: 50
/-! THE COMPONENT'S ADDRESSES (as its constructor lays them), what its reference fields hold, frames -/
abbrev X : Nat := 16842752
abbrev sOB : Nat := 18427904
abbrev sIS : Nat := 18612229
abbrev sCE : Nat := 18874373
abbrev sFA : Nat := 19136517
abbrev sFO : Nat := 19398661
abbrev sLE : Nat := 19660805
abbrev sPL : Nat := 19922949
abbrev sBE : Nat := 20185093
abbrev sLD : Nat := 20447236
abbrev kOB : Nat := 20787200
abbrev kIS : Nat := 20971525
abbrev kCE : Nat := 21233669
abbrev kFA : Nat := 21495813
abbrev kFO : Nat := 21757957
abbrev kLE : Nat := 22020101
abbrev kPL : Nat := 22282245
abbrev kBE : Nat := 22544389
abbrev kLD : Nat := 22806532
abbrev xRU : Nat := 23142400
abbrev xWR : Nat := 23674880
abbrev xTA : Nat := 23859600
abbrev xNW : Nat := 24117258
abbrev xNO : Nat := 24379402
abbrev xNE : Nat := 24641546
abbrev xWO : Nat := 24915979
abbrev xPA : Nat := 25186324
abbrev xST : Nat := 72613924
abbrev xFH : Nat := 72876048
abbrev xSH : Nat := 73138192
abbrev xLA : Nat := 73401845
abbrev xSW : Nat := 73662499
abbrev xIM : Nat := 73949188
theorem lnX_sIS : ((ln sIS : Nat) : Int) = 5 := rfl
theorem lnX_sCE : ((ln sCE : Nat) : Int) = 5 := rfl
theorem lnX_sFA : ((ln sFA : Nat) : Int) = 5 := rfl
theorem lnX_sFO : ((ln sFO : Nat) : Int) = 5 := rfl
theorem lnX_sLE : ((ln sLE : Nat) : Int) = 5 := rfl
theorem lnX_sPL : ((ln sPL : Nat) : Int) = 5 := rfl
theorem lnX_sBE : ((ln sBE : Nat) : Int) = 5 := rfl
theorem lnX_sLD : ((ln sLD : Nat) : Int) = 4 := rfl
theorem lnX_kIS : ((ln kIS : Nat) : Int) = 5 := rfl
theorem lnX_kCE : ((ln kCE : Nat) : Int) = 5 := rfl
theorem lnX_kFA : ((ln kFA : Nat) : Int) = 5 := rfl
theorem lnX_kFO : ((ln kFO : Nat) : Int) = 5 := rfl
theorem lnX_kLE : ((ln kLE : Nat) : Int) = 5 := rfl
theorem lnX_kPL : ((ln kPL : Nat) : Int) = 5 := rfl
theorem lnX_kBE : ((ln kBE : Nat) : Int) = 5 := rfl
theorem lnX_kLD : ((ln kLD : Nat) : Int) = 4 := rfl
theorem lnX_xTA : ((ln xTA : Nat) : Int) = 400 := rfl
theorem lnX_xNW : ((ln xNW : Nat) : Int) = 10 := rfl
theorem lnX_xNO : ((ln xNO : Nat) : Int) = 10 := rfl
theorem lnX_xNE : ((ln xNE : Nat) : Int) = 10 := rfl
theorem lnX_xWO : ((ln xWO : Nat) : Int) = 11 := rfl
theorem lnX_xPA : ((ln xPA : Nat) : Int) = 20 := rfl
theorem lnX_xST : ((ln xST : Nat) : Int) = 36 := rfl
theorem lnX_xFH : ((ln xFH : Nat) : Int) = 16 := rfl
theorem lnX_xSH : ((ln xSH : Nat) : Int) = 16 := rfl
theorem lnX_xLA : ((ln xLA : Nat) : Int) = 1525 := rfl
theorem lnX_xSW : ((ln xSW : Nat) : Int) = 35 := rfl
theorem lnX_xIM : ((ln xIM : Nat) : Int) = 4 := rfl
def XP (sh : Nat) (k : Int) : Option Nat := match k with
  | 0 => some sh
  | 1 => some sOB
  | 2 => some kOB
  | 3 => some xRU
  | 5 => some xWR
  | 6 => some xTA
  | 8 => some xNW
  | 9 => some xNO
  | 10 => some xNE
  | 13 => some xWO
  | 14 => some xPA
  | 17 => some xST
  | 20 => some xFH
  | 21 => some xSH
  | 22 => some xLA
  | 23 => some xSW
  | 24 => some xIM
  | _ => none
def SPs (k : Int) : Option Nat := match k with
  | 0 => some sIS
  | 1 => some sCE
  | 2 => some sFA
  | 3 => some sFO
  | 4 => some sLE
  | 5 => some sPL
  | 6 => some sBE
  | 7 => some sLD
  | _ => none
def SPk (k : Int) : Option Nat := match k with
  | 0 => some kIS
  | 1 => some kCE
  | 2 => some kFA
  | 3 => some kFO
  | 4 => some kLE
  | 5 => some kPL
  | 6 => some kBE
  | 7 => some kLD
  | _ => none
/-- the label under which the longs of an address stand in a frame -/
abbrev lb (b : Nat) : Nat := mk (ix b) 63 0
theorem tg_lb (b : Nat) : tg (lb b) = 63 := by
  unfold tg lb mk
  generalize ix b = i
  omega
theorem ix_lb (b : Nat) : ix (lb b) = ix b := by
  show mk (ix b) 63 0 / 262144 = _
  generalize ix b = i
  unfold mk
  omega
/-! frames of the component's methods: A the arrays, B the object's own numbers that may change -/
def TX (A : List Nat) (B : List Int) (h h1 : AH) : Prop := h1.1 = h.1 ∧ hP h1 = hP h ∧ (∀ b, lb b ∉ A → hL h1 b = hL h b) ∧ (∀ b, b ∉ A → b ≠ X → hI h1 b = hI h b) ∧ ∀ m, m ∉ B → hI h1 X m = hI h X m
theorem TX.rf {A : List Nat} {B : List Int} {h : AH} : TX A B h h := ⟨rfl, rfl, fun _ _ => rfl, fun _ _ _ => rfl, fun _ _ => rfl⟩
theorem TX.tr {A : List Nat} {B : List Int} {h h1 h2 : AH} (x : TX A B h h1) (y : TX A B h1 h2) : TX A B h h2 := ⟨y.1.trans x.1, y.2.1.trans x.2.1, fun b hb => (y.2.2.1 b hb).trans (x.2.2.1 b hb), fun b hb hm => (y.2.2.2.1 b hb hm).trans (x.2.2.2.1 b hb hm), fun m hm => (y.2.2.2.2 m hm).trans (x.2.2.2.2 m hm)⟩
theorem TX.up {A A' : List Nat} {B B' : List Int} {h h1 : AH} (x : TX A B h h1) (ha : ∀ a ∈ A, a ∈ A') (hb : ∀ m ∈ B, m ∈ B') : TX A' B' h h1 := ⟨x.1, x.2.1, fun b hn => x.2.2.1 b (fun z => hn (ha _ z)), fun b hn hm => x.2.2.2.1 b (fun z => hn (ha b z)) hm, fun m hn => x.2.2.2.2 m (fun z => hn (hb m z))⟩
theorem TX.wI {A : List Nat} {B : List Int} {h h1 : AH} {a : Nat} {k v : Int} (x : TX A B h h1) (ha : a ∈ A) (hm : a ≠ X) : TX A B h (sI h1 a k v) := by
  refine x.tr ⟨rfl, rfl, fun _ _ => rfl, fun b hb _ => hI_ne (fun z => hb (z ▸ ha)), fun m _ => ?_⟩
  exact congrFun (hI_ne (fun z => hm z.symm)) m
theorem TX.wM {A : List Nat} {B : List Int} {h h1 : AH} {k v : Int} (x : TX A B h h1) (hk : k ∈ B) : TX A B h (sI h1 X k v) := by
  refine x.tr ⟨rfl, rfl, fun _ _ => rfl, fun b _ hb => hI_ne hb, fun m hm => ?_⟩
  rw [hI_eq]
  show (if m = k then v else hI h1 X m) = hI h1 X m
  exact if_neg (fun z : m = k => hm (by rw [z]; exact hk))
theorem TX.wL {A : List Nat} {B : List Int} {h h1 : AH} {a : Nat} {k : Int} {v : Int64} (x : TX A B h h1) (ha : lb a ∈ A) : TX A B h (sL h1 a k v) :=
  x.tr ⟨rfl, rfl, fun b hb => hL_ne (fun z => hb (by rw [z]; exact ha)), fun _ _ _ => rfl, fun _ _ => rfl⟩
theorem TX.i {A : List Nat} {B : List Int} {h h1 : AH} (x : TX A B h h1) {b : Nat} (hb : b ∉ A) (hm : b ≠ X) : hI h1 b = hI h b := x.2.2.2.1 b hb hm
theorem TX.f {A : List Nat} {B : List Int} {h h1 : AH} (x : TX A B h h1) {m : Int} (hm : m ∉ B) : hI h1 X m = hI h X m := x.2.2.2.2 m hm
theorem wxA {P : AH → Prop} {h : AH} {a : Nat} {k v : Int} (ha : a ≠ X) (H : ∀ h1, hI h1 a = upF (hI h a) k v → TX [a] [] h h1 → P h1) : P (sI h a k v) :=
  H _ (hI_eq h a k v) (TX.rf.wI List.mem_cons_self ha)
theorem wxM {P : AH → Prop} {h : AH} {k v : Int} (H : ∀ h1, hI h1 X k = v → TX [] [k] h h1 → P h1) : P (sI h X k v) := by
  refine H _ ?_ (TX.rf.wM List.mem_cons_self)
  rw [hI_eq]
  exact if_pos rfl
theorem wxL {P : AH → Prop} {h : AH} {a : Nat} {k : Int} {v : Int64} (H : ∀ h1, hL h1 a = upL (hL h a) k v → TX [lb a] [] h h1 → P h1) : P (sL h a k v) :=
  H _ (hL_eq h a k v) (TX.rf.wL List.mem_cons_self)
/-- a sheet's cells: not among the fixed ones -/
abbrev DYS (a : Nat) : Prop := (64 < ix a ∧ ix a < 70) ∨ 307 ≤ ix a
theorem DYS.ne {a : Nat} {A : List Nat} (h : DYS a) (hA : ∀ b ∈ A, ¬ DYS b) : a ∉ A := fun z => hA a z h
theorem DYS.nX {a : Nat} (h : DYS a) : a ≠ X := fun z => by rw [z] at h; revert h; decide
theorem TX.dy {A : List Nat} {B : List Int} {h h1 : AH} {a : Nat} (T : TX A B h h1) (d : DYS a) (hA : ∀ b ∈ A, ¬ DYS b) : hI h1 a = hI h a := T.i (d.ne hA) d.nX
/-- the references that hold all through -/
def CRX (R : Nat → Int → Option Nat) (sh gl ld dy : Nat) : Prop := R X = XP sh ∧ R sOB = SPs ∧ R kOB = SPk ∧ (tg sh = 17 ∧ R sh 0 = some gl ∧ R sh 1 = some ld ∧ R sh 2 = some dy) ∧ tg gl = 18 ∧ (arrI ld = true ∧ ln ld = 4) ∧ (arrI dy = true ∧ ln dy = 4) ∧ DYS sh ∧ DYS gl ∧ DYS ld ∧ DYS dy
/-- the sheet's numbers -/
def SHI (h : AH) (s : Int → Int) (sh gl dy : Nat) : Prop := hI h sh 3 = s 1 ∧ hI h gl 2 = s 2 ∧ ∀ e, 0 ≤ e → e < 4 → hI h dy e = s (86 + e)
theorem SHI.go {A : List Nat} {B : List Int} {h h1 : AH} {s : Int → Int} {R : Nat → Int → Option Nat} {sh gl ld dy : Nat} (H : SHI h s sh gl dy) (C : CRX R sh gl ld dy) (T : TX A B h h1) (hA : ∀ b ∈ A, ¬ DYS b) : SHI h1 s sh gl dy := by
  obtain ⟨-, -, -, -, -, -, -, d1, d2, -, d4⟩ := C
  obtain ⟨a, b, c⟩ := H
  exact ⟨by rw [T.dy d1 hA]; exact a, by rw [T.dy d2 hA]; exact b, fun e e0 e1 => by rw [T.dy d4 hA]; exact c e e0 e1⟩
theorem SHI.to {h : AH} {s t : Int → Int} {sh gl dy : Nat} (H : SHI h s sh gl dy) (e : ∀ m, m < 10 ∨ 86 ≤ m → t m = s m) : SHI h t sh gl dy := ⟨by rw [e 1 (by omega)]; exact H.1, by rw [e 2 (by omega)]; exact H.2.1, fun x x0 x1 => by rw [e _ (by omega)]; exact H.2.2 x x0 x1⟩
/-! stones as bits -/
def SB (x : Int64) (f : Int → Int) : Prop := ∃ n : Nat, n < 2 ^ 36 ∧ x = Int64.ofInt n ∧ ∀ c : Nat, c < 36 → (n.testBit c = true ↔ f c = 1)
theorem sh63 : ∀ c : Fin 36, ((Int32.ofInt (c.val : Int)).toInt64 &&& 63).toBitVec.smod 64 = BitVec.ofNat 64 c.val := by decide +kernel
theorem lShr_n {n c : Nat} (hn : n < 2 ^ 36) (hc : c < 36) : lShr (Int64.ofInt n) c = Int64.ofInt ((n / 2 ^ c : Nat) : Int) := by
  apply Int64.toInt.inj
  have e1 : (lShr (Int64.ofInt n) c).toInt = ((Int64.ofInt n).toBitVec.sshiftRight' (((Int32.ofInt (c : Int)).toInt64 &&& 63).toBitVec.smod 64)).toInt := rfl
  rw [e1, show ((Int32.ofInt (c : Int)).toInt64 &&& 63).toBitVec.smod 64 = BitVec.ofNat 64 c from sh63 ⟨c, hc⟩]
  have e2 : (Int64.ofInt n).toBitVec.sshiftRight' (BitVec.ofNat 64 c) = (Int64.ofInt n).toBitVec.sshiftRight c := by
    show (Int64.ofInt n).toBitVec.sshiftRight (BitVec.ofNat 64 c).toNat = _
    rw [BitVec.toNat_ofNat, Nat.mod_eq_of_lt (by omega)]
  rw [e2, BitVec.toInt_sshiftRight]
  have e3 : (Int64.ofInt n).toBitVec.toInt = (n : Int) := Int64.toInt_ofInt_of_le (by omega) (by omega)
  rw [e3, Int.shiftRight_eq_div_pow]
  have e4 : n / 2 ^ c ≤ n := Nat.div_le_self ..
  have e5 : ∀ m : Nat, m < 2 ^ 36 → (Int64.ofInt (m : Int)).toInt = (m : Int) := fun m hm => Int64.toInt_ofInt_of_le (by omega) (by omega)
  rw [e5 _ (Nat.lt_of_le_of_lt e4 hn)]
  simp
theorem lAnd1 {n : Nat} (hn : n < 2 ^ 36) : Int64.ofInt n &&& 1 = Int64.ofInt ((n % 2 : Nat) : Int) := by
  apply Int64.toBitVec.inj
  show BitVec.ofInt 64 n &&& 1#64 = BitVec.ofInt 64 ((n % 2 : Nat) : Int)
  rw [show BitVec.ofInt 64 (n : Int) = BitVec.ofNat 64 n from BitVec.ofInt_natCast .., show BitVec.ofInt 64 ((n % 2 : Nat) : Int) = BitVec.ofNat 64 (n % 2) from BitVec.ofInt_natCast ..]
  apply BitVec.eq_of_toNat_eq
  rw [BitVec.toNat_and, BitVec.toNat_ofNat, BitVec.toNat_ofNat, Nat.mod_eq_of_lt (show n < 2 ^ 64 by omega), show (1 : Nat) % 2 ^ 64 = 2 ^ 1 - 1 from rfl, Nat.and_two_pow_sub_one_eq_mod, BitVec.toNat_ofNat, Nat.mod_eq_of_lt (show n % 2 < 2 ^ 64 by omega)]
theorem SB.bit {x : Int64} {f : Int → Int} (h : SB x f) {c : Int} (c0 : 0 ≤ c) (c1 : c < 36) : lCmp (lShr x c &&& Int64.ofInt 1) (Int64.ofInt 1) = 0 ↔ f c = 1 := by
  obtain ⟨n, hn, hx, hb⟩ := h
  have hc := hb c.toNat (by omega)
  rw [show ((c.toNat : Nat) : Int) = c by omega] at hc
  rw [← hc, hx]
  have e1 := lShr_n (c := c.toNat) hn (by omega)
  rw [show ((c.toNat : Nat) : Int) = c by omega] at e1
  rw [e1]
  have e4 : n / 2 ^ c.toNat ≤ n := Nat.div_le_self ..
  have e2 := lAnd1 (n := n / 2 ^ c.toNat) (by omega)
  have e3 : (1 : Int64) = Int64.ofInt 1 := rfl
  rw [e3] at e2
  rw [e2, Nat.testBit_eq_decide_div_mod_eq, decide_eq_true_iff, lCmp_i (by omega) (by omega)]
  constructor
  · intro h
    revert h
    (repeat' split) <;> intros <;> omega
  · intro h
    rw [h]
    decide
/-! a state's numbers: g a goer -/
def RG (s : Int → Int) (g is ce fa fo le pl be : Int) : Prop := (g < s 2 → is = s (11 + 7 * g + 3) ∧ fa = s (11 + 7 * g + 1) ∧ fo = s (11 + 7 * g + 2) ∧ be = s (11 + 7 * g + 6) ∧ (s (11 + 7 * g + 3) = 0 → ce = s (11 + 7 * g)) ∧ (s (11 + 7 * g + 3) ≠ 0 → ce = -1) ∧ (s (11 + 7 * g + 3) = 1 → le = s (11 + 7 * g + 4) ∧ pl = s (11 + 7 * g + 5)) ∧ (s (11 + 7 * g + 3) ≠ 1 → le = 0)) ∧ (s 2 ≤ g → fo = 0 ∧ le = 0 ∧ fa = 0 ∧ (s 0 = 1 → is = 2 ∧ ce = -1))
