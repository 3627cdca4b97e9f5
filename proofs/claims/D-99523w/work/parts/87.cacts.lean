-- NEEDS: 58 86
/-! THE COMPONENT: acts kept and undone -/
theorem c_min {d : Nat} {h : AH} {Φ : OUT → AH → Prop} {a b : Int} (ha : iR a) (hb : iR b) (K : Φ (.inl (some (vi (if b < a then b else a)))) h) : CT (d + 1) 0 0 J_J11_min [vi a, vi b] h Φ := by
  refine e_J11_min ?_; intro k step keep
  repeat (first | refine wxA (by decide) ?_ | refine wxA (by intro z; have z := congrArg ix z; omega) ?_ | refine wxM ?_ | refine wxL ?_ | refine step ?_ | refine Exists.intro _ (And.intro (congrFun ((congrFun hR _).trans fX) _) ?_) | refine Exists.intro _ (And.intro (congrFun ((congrFun hR _).trans fs) _) ?_) | refine Exists.intro _ (And.intro (congrFun ((congrFun hR _).trans fk) _) ?_) | refine Exists.intro _ (And.intro ((congrFun (congrFun hR _) _).trans fH0) ?_) | refine Exists.intro _ (And.intro ((congrFun (congrFun hR _) _).trans fH1) ?_) | refine Exists.intro _ (And.intro ((congrFun (congrFun hR _) _).trans fH2) ?_) | refine Exists.intro _ (And.intro rfl ?_) | refine And.intro rfl ?_ | refine And.intro trivial ?_ | refine And.intro (by assumption) ?_ | (refine And.intro (by intro hz; exfalso; omega) ?_; intro hz9) | refine And.intro (by omega) ?_ | refine And.intro (by simp only [lnX_sIS, lnX_sCE, lnX_sFA, lnX_sFO, lnX_sLE, lnX_sPL, lnX_sBE, lnX_sLD, lnX_kIS, lnX_kCE, lnX_kFA, lnX_kFO, lnX_kLE, lnX_kPL, lnX_kBE, lnX_kLD, lnX_xTA, lnX_xNW, lnX_xNO, lnX_xNE, lnX_xWO, lnX_xPA, lnX_xST, lnX_xFH, lnX_xSH, lnX_xLA, lnX_xSW, lnX_xIM]; omega) ?_ | (refine And.intro ?_ (by intro hz; exfalso; omega); intro hz9))
  refine And.intro (fun hc => ?_) (fun hc => ?_)
  · rw [if_pos hc] at K
    repeat (first | refine wxA (by decide) ?_ | refine wxA (by intro z; have z := congrArg ix z; omega) ?_ | refine wxM ?_ | refine wxL ?_ | refine step ?_ | refine Exists.intro _ (And.intro (congrFun ((congrFun hR _).trans fX) _) ?_) | refine Exists.intro _ (And.intro (congrFun ((congrFun hR _).trans fs) _) ?_) | refine Exists.intro _ (And.intro (congrFun ((congrFun hR _).trans fk) _) ?_) | refine Exists.intro _ (And.intro ((congrFun (congrFun hR _) _).trans fH0) ?_) | refine Exists.intro _ (And.intro ((congrFun (congrFun hR _) _).trans fH1) ?_) | refine Exists.intro _ (And.intro ((congrFun (congrFun hR _) _).trans fH2) ?_) | refine Exists.intro _ (And.intro rfl ?_) | refine And.intro rfl ?_ | refine And.intro trivial ?_ | refine And.intro (by assumption) ?_ | (refine And.intro (by intro hz; exfalso; omega) ?_; intro hz9) | refine And.intro (by omega) ?_ | refine And.intro (by simp only [lnX_sIS, lnX_sCE, lnX_sFA, lnX_sFO, lnX_sLE, lnX_sPL, lnX_sBE, lnX_sLD, lnX_kIS, lnX_kCE, lnX_kFA, lnX_kFO, lnX_kLE, lnX_kPL, lnX_kBE, lnX_kLD, lnX_xTA, lnX_xNW, lnX_xNO, lnX_xNE, lnX_xWO, lnX_xPA, lnX_xST, lnX_xFH, lnX_xSH, lnX_xLA, lnX_xSW, lnX_xIM]; omega) ?_ | (refine And.intro ?_ (by intro hz; exfalso; omega); intro hz9))
    exact K
  · rw [if_neg (by omega)] at K
    repeat (first | refine wxA (by decide) ?_ | refine wxA (by intro z; have z := congrArg ix z; omega) ?_ | refine wxM ?_ | refine wxL ?_ | refine step ?_ | refine Exists.intro _ (And.intro (congrFun ((congrFun hR _).trans fX) _) ?_) | refine Exists.intro _ (And.intro (congrFun ((congrFun hR _).trans fs) _) ?_) | refine Exists.intro _ (And.intro (congrFun ((congrFun hR _).trans fk) _) ?_) | refine Exists.intro _ (And.intro ((congrFun (congrFun hR _) _).trans fH0) ?_) | refine Exists.intro _ (And.intro ((congrFun (congrFun hR _) _).trans fH1) ?_) | refine Exists.intro _ (And.intro ((congrFun (congrFun hR _) _).trans fH2) ?_) | refine Exists.intro _ (And.intro rfl ?_) | refine And.intro rfl ?_ | refine And.intro trivial ?_ | refine And.intro (by assumption) ?_ | (refine And.intro (by intro hz; exfalso; omega) ?_; intro hz9) | refine And.intro (by omega) ?_ | refine And.intro (by simp only [lnX_sIS, lnX_sCE, lnX_sFA, lnX_sFO, lnX_sLE, lnX_sPL, lnX_sBE, lnX_sLD, lnX_kIS, lnX_kCE, lnX_kFA, lnX_kFO, lnX_kLE, lnX_kPL, lnX_kBE, lnX_kLD, lnX_xTA, lnX_xNW, lnX_xNO, lnX_xNE, lnX_xWO, lnX_xPA, lnX_xST, lnX_xFH, lnX_xSH, lnX_xLA, lnX_xSW, lnX_xIM]; omega) ?_ | (refine And.intro ?_ (by intro hz; exfalso; omega); intro hz9))
    exact K
theorem ix_mk {i t n : Nat} (ht : t < 64) (hn : n < 4096) : ix (mk i t n) = i := by unfold ix mk; omega
theorem tg_mk {i t n : Nat} (ht : t < 64) (hn : n < 4096) : tg (mk i t n) = t := by unfold tg mk; omega
theorem ln_mk {i t n : Nat} (ht : t < 64) (hn : n < 4096) : ln (mk i t n) = n := by unfold ln mk; omega
def pO (k : Nat) : Nat := mk (97 + 9 * k) 19 0
def pA (k n : Nat) : Nat := mk (97 + 9 * k + (n + 1)) 0 5
def pL (k : Nat) : Nat := mk (97 + 9 * k + 8) 0 4
/-- the numbers of a state, whatever its addresses -/
def RSA (h : AH) (s : Int → Int) (dO d0 d1 d2 d3 d4 d5 d6 d7 : Nat) : Prop := (∀ g, 0 ≤ g → g < 5 → RG s g (hI h d0 g) (hI h d1 g) (hI h d2 g) (hI h d3 g) (hI h d4 g) (hI h d5 g) (hI h d6 g)) ∧ (∀ e, 0 ≤ e → e < 4 → hI h d7 e = s (46 + e)) ∧ hI h dO 8 = s 10 ∧ SB (hL h dO 9) (fun c => s (50 + c))
theorem arr_mk {i n : Nat} (hn : n < 4096) : arrI (mk i 0 n) = true := by
  unfold arrI
  rw [tg_mk (by omega) hn]
  rfl
theorem OKA_p (k : Nat) : OKA (97 + 9 * k) (pO k) (pA k 0) (pA k 1) (pA k 2) (pA k 3) (pA k 4) (pA k 5) (pA k 6) (pL k) := by
  have a : ∀ n, ix (pA k n) = 97 + 9 * k + (n + 1) ∧ tg (pA k n) = 0 ∧ arrI (pA k n) = true ∧ ((ln (pA k n) : Nat) : Int) = 5 := fun n => ⟨ix_mk (by omega) (by omega), tg_mk (by omega) (by omega), arr_mk (by omega), by unfold pA; rw [ln_mk (by omega) (by omega)]; rfl⟩
  exact ⟨⟨ix_mk (by omega) (by omega), tg_mk (by omega) (by omega)⟩, a 0, a 1, a 2, a 3, a 4, a 5, a 6, ix_mk (by omega) (by omega), tg_mk (by omega) (by omega), arr_mk (by omega), by unfold pL; rw [ln_mk (by omega) (by omega)]; rfl⟩
theorem OKA_s : OKA 70 sOB sIS sCE sFA sFO sLE sPL sBE sLD := ⟨⟨rfl, rfl⟩, ⟨rfl, rfl, rfl, rfl⟩, ⟨rfl, rfl, rfl, rfl⟩, ⟨rfl, rfl, rfl, rfl⟩, ⟨rfl, rfl, rfl, rfl⟩, ⟨rfl, rfl, rfl, rfl⟩, ⟨rfl, rfl, rfl, rfl⟩, ⟨rfl, rfl, rfl, rfl⟩, ⟨rfl, rfl, rfl, rfl⟩⟩
theorem RSA_go {A : List Nat} {B : List Int} {h p : AH} {s : Int → Int} {j dO d0 d1 d2 d3 d4 d5 d6 d7 : Nat} (H : RSA h s dO d0 d1 d2 d3 d4 d5 d6 d7) (hd : OKA j dO d0 d1 d2 d3 d4 d5 d6 d7) (j64 : 64 < j) (T : TX A B h p) (hA : ∀ a ∈ A, ix a < j ∨ j + 8 < ix a) : RSA p s dO d0 d1 d2 d3 d4 d5 d6 d7 := by
  have n : ∀ b m, ix b = j + m → m ≤ 8 → b ∉ A := fun b m hb hm z => by have := hA b z; omega
  have x : ∀ b m, ix b = j + m → b ≠ X := fun b m hb z => by rw [z] at hb; have : ix X = 64 := rfl; omega
  obtain ⟨⟨xO, -⟩, ⟨x0, -⟩, ⟨x1, -⟩, ⟨x2, -⟩, ⟨x3, -⟩, ⟨x4, -⟩, ⟨x5, -⟩, ⟨x6, -⟩, ⟨x7, -⟩⟩ := hd
  unfold RSA
  rw [T.i (n d0 _ x0 (by omega)) (x d0 _ x0), T.i (n d1 _ x1 (by omega)) (x d1 _ x1), T.i (n d2 _ x2 (by omega)) (x d2 _ x2), T.i (n d3 _ x3 (by omega)) (x d3 _ x3), T.i (n d4 _ x4 (by omega)) (x d4 _ x4), T.i (n d5 _ x5 (by omega)) (x d5 _ x5), T.i (n d6 _ x6 (by omega)) (x d6 _ x6), T.i (n d7 _ x7 (by omega)) (x d7 _ x7), T.i (n dO 0 xO (by omega)) (x dO 0 xO), T.2.2.1 dO (n (lb dO) 0 (by rw [ix_lb]; exact xO) (by omega))]
  exact H
theorem AD_ix {j dO d0 d1 d2 d3 d4 d5 d6 d7 a : Nat} (hd : OKA j dO d0 d1 d2 d3 d4 d5 d6 d7) (ha : a ∈ AD dO d0 d1 d2 d3 d4 d5 d6 d7) : j ≤ ix a ∧ ix a ≤ j + 8 := by
  obtain ⟨⟨xO, -⟩, ⟨x0, -⟩, ⟨x1, -⟩, ⟨x2, -⟩, ⟨x3, -⟩, ⟨x4, -⟩, ⟨x5, -⟩, ⟨x6, -⟩, ⟨x7, -⟩⟩ := hd
  have xl := ix_lb dO
  simp only [AD, List.mem_cons, List.not_mem_nil, or_false] at ha
  rcases ha with z | z | z | z | z | z | z | z | z | z <;> subst z <;> omega
theorem RSA_cpy {h p : AH} {s : Int → Int} {dO d0 d1 d2 d3 d4 d5 d6 d7 sO s0 s1 s2 s3 s4 s5 s6 s7 : Nat} (H : RSA h s sO s0 s1 s2 s3 s4 s5 s6 s7) (C : CPY h p dO d0 d1 d2 d3 d4 d5 d6 d7 sO s0 s1 s2 s3 s4 s5 s6 s7) : RSA p s dO d0 d1 d2 d3 d4 d5 d6 d7 := by
  obtain ⟨c1, c2, c3, c4⟩ := C
  refine ⟨fun g g0 g1 => ?_, fun e e0 e1 => ?_, ?_, ?_⟩
  · obtain ⟨q1, q2, q3, q4, q5, q6, q7⟩ := c1 g g0 g1
    rw [q1, q2, q3, q4, q5, q6, q7]
    exact H.1 g g0 g1
  · rw [c2 e e0 e1]; exact H.2.1 e e0 e1
  · rw [c3]; exact H.2.2.1
  · rw [c4]; exact H.2.2.2
theorem RSA_eq {h : AH} {s t : Int → Int} {dO d0 d1 d2 d3 d4 d5 d6 d7 : Nat} (H : RSA h s dO d0 d1 d2 d3 d4 d5 d6 d7) (e : ∀ m, 0 ≤ m → m < 86 → t m = s m) : RSA h t dO d0 d1 d2 d3 d4 d5 d6 d7 :=
  ⟨fun g g0 g1 => RG_of (e 2 (by omega) (by omega)) (e 0 (by omega) (by omega)) (fun m m0 m1 => e m (by omega) (by omega)) (H.1 g g0 g1), fun x x0 x1 => by rw [e _ (by omega) (by omega)]; exact H.2.1 x x0 x1, by rw [e _ (by omega) (by omega)]; exact H.2.2.1, H.2.2.2.to (fun c c0 c1 => e _ (by omega) (by omega))⟩
abbrev RSP (h : AH) (k : Nat) (s : Int → Int) : Prop := RSA h s (pO k) (pA k 0) (pA k 1) (pA k 2) (pA k 3) (pA k 4) (pA k 5) (pA k 6) (pL k)
/-- the past states' references -/
def CP (R : Nat → Int → Option Nat) : Prop := ∀ k : Nat, k < 20 → R xPA k = some (pO k) ∧ R (pO k) = SQ (pA k 0) (pA k 1) (pA k 2) (pA k 3) (pA k 4) (pA k 5) (pA k 6) (pL k)
/-- the i-th kept state: its numbers out of was, the sheet as it is -/
def hisF (s was : Int → Int) (i : Int) : Int → Int := fun m => if 10 ≤ m ∧ m < 86 then was (76 * i + (m - 10)) else s m
/-- the ring of past states: u of them, the next place at -/
def PST (h : AH) (s was : Int → Int) (u a : Int) : Prop := (0 ≤ u ∧ u ≤ 20) ∧ (0 ≤ a ∧ a < 20) ∧ hI h X 15 = u ∧ hI h X 16 = a ∧ ∀ i, 0 ≤ i → i < u → RSP h ((a - u + i + 20) % 20).toNat (hisF s was i)
theorem c_keeps {d : Nat} {h : AH} {Φ : OUT → AH → Prop} {R : Nat → Int → Option Nat} {sh gl ld dy : Nat} (hR : hP h = R) (hC : CRX R sh gl ld dy) {s was : Int → Int} {u a : Int} (hS : RSs h s) (hP20 : CP R) (hP0 : PST h s was u a)
    (K : ∀ p, PST p s (putF (if u = 20 then shF was 1444 else was) (if u = 20 then 19 else u) s 76) (if u = 20 then 20 else u + 1) ((a + 1) % 20) → hP p = R → TX (AD (pO a.toNat) (pA a.toNat 0) (pA a.toNat 1) (pA a.toNat 2) (pA a.toNat 3) (pA a.toNat 4) (pA a.toNat 5) (pA a.toNat 6) (pL a.toNat)) [15, 16] h p → Φ (.inl none) p) : CT (d + 2) 0 0 J_X0_keeps [vo X] h Φ := by
  refine e_X0_keeps ?_; intro k step keep
  obtain ⟨fX, fs, fk, ⟨tsh, fH0, fH1, fH2⟩, tgl, ⟨ald, nld⟩, ⟨ady, ndy⟩, dsh, dgl, dld, ddy⟩ := id hC
  obtain ⟨⟨u0, u1⟩, ⟨a0, a1⟩, x15, x16, hi⟩ := hP0
  obtain ⟨r1, r2⟩ := hP20 a.toNat (by omega)
  rw [show ((a.toNat : Nat) : Int) = a by omega] at r1
  have fH0 : R xPA (hI h X 16) = some (pO a.toNat) := by rw [x16]; exact r1
  have tp : ((tg (pO a.toNat) : Nat) : Int) = 19 := by unfold pO; rw [tg_mk (by omega) (by omega)]; rfl
  have okp := OKA_p a.toNat
  repeat (first | refine wxA (by decide) ?_ | refine wxA (by intro z; have z := congrArg ix z; omega) ?_ | refine wxM ?_ | refine wxL ?_ | refine step ?_ | refine Exists.intro _ (And.intro (congrFun ((congrFun hR _).trans fX) _) ?_) | refine Exists.intro _ (And.intro (congrFun ((congrFun hR _).trans fs) _) ?_) | refine Exists.intro _ (And.intro (congrFun ((congrFun hR _).trans fk) _) ?_) | refine Exists.intro _ (And.intro ((congrFun (congrFun hR _) _).trans fH0) ?_) | refine Exists.intro _ (And.intro ((congrFun (congrFun hR _) _).trans fH1) ?_) | refine Exists.intro _ (And.intro ((congrFun (congrFun hR _) _).trans fH2) ?_) | refine Exists.intro _ (And.intro rfl ?_) | refine And.intro rfl ?_ | refine And.intro trivial ?_ | refine And.intro (by assumption) ?_ | (refine And.intro (by intro hz; exfalso; omega) ?_; intro hz9) | refine And.intro (by omega) ?_ | refine And.intro (by simp only [lnX_sIS, lnX_sCE, lnX_sFA, lnX_sFO, lnX_sLE, lnX_sPL, lnX_sBE, lnX_sLD, lnX_kIS, lnX_kCE, lnX_kFA, lnX_kFO, lnX_kLE, lnX_kPL, lnX_kBE, lnX_kLD, lnX_xTA, lnX_xNW, lnX_xNO, lnX_xNE, lnX_xWO, lnX_xPA, lnX_xST, lnX_xFH, lnX_xSH, lnX_xLA, lnX_xSW, lnX_xIM]; omega) ?_ | (refine And.intro ?_ (by intro hz; exfalso; omega); intro hz9))
  refine Or.inl (c_copyFrom (i := 70) (j := 97 + 9 * a.toNat) hR r2 (fs.trans rfl) okp OKA_s (by omega) (by omega) (by omega) (fun p1 hc T1 => ?_))
  have hR := T1.2.1.trans hR
  have y15 : hI p1 X 15 = u := by rw [T1.f (by decide)]; exact x15
  have y16 : hI p1 X 16 = a := by rw [T1.f (by decide)]; exact x16
  have new : RSP p1 a.toNat s := RSA_cpy (s := s) hS hc
  have old : ∀ k : Nat, k < 20 → k ≠ a.toNat → ∀ t, RSP h k t → RSP p1 k t := fun k hk hka t H => RSA_go H (OKA_p k) (by omega) T1 (fun b hb => by have := AD_ix okp hb; omega)
  repeat (first | refine wxA (by decide) ?_ | refine wxA (by intro z; have z := congrArg ix z; omega) ?_ | refine wxM ?_ | refine wxL ?_ | refine step ?_ | refine Exists.intro _ (And.intro (congrFun ((congrFun hR _).trans fX) _) ?_) | refine Exists.intro _ (And.intro (congrFun ((congrFun hR _).trans fs) _) ?_) | refine Exists.intro _ (And.intro (congrFun ((congrFun hR _).trans fk) _) ?_) | refine Exists.intro _ (And.intro ((congrFun (congrFun hR _) _).trans fH0) ?_) | refine Exists.intro _ (And.intro ((congrFun (congrFun hR _) _).trans fH1) ?_) | refine Exists.intro _ (And.intro ((congrFun (congrFun hR _) _).trans fH2) ?_) | refine Exists.intro _ (And.intro rfl ?_) | refine And.intro rfl ?_ | refine And.intro trivial ?_ | refine And.intro (by assumption) ?_ | (refine And.intro (by intro hz; exfalso; omega) ?_; intro hz9) | refine And.intro (by omega) ?_ | refine And.intro (by simp only [lnX_sIS, lnX_sCE, lnX_sFA, lnX_sFO, lnX_sLE, lnX_sPL, lnX_sBE, lnX_sLD, lnX_kIS, lnX_kCE, lnX_kFA, lnX_kFO, lnX_kLE, lnX_kPL, lnX_kBE, lnX_kLD, lnX_xTA, lnX_xNW, lnX_xNO, lnX_xNE, lnX_xWO, lnX_xPA, lnX_xST, lnX_xFH, lnX_xSH, lnX_xLA, lnX_xSW, lnX_xIM]; omega) ?_ | (refine And.intro ?_ (by intro hz; exfalso; omega); intro hz9))
  intro p2 e2 T2; have hR := T2.2.1.trans hR
  rw [y16] at e2
  have z15 : hI p2 X 15 = u := by rw [T2.f (by decide)]; exact y15
  repeat (first | refine wxA (by decide) ?_ | refine wxA (by intro z; have z := congrArg ix z; omega) ?_ | refine wxM ?_ | refine wxL ?_ | refine step ?_ | refine Exists.intro _ (And.intro (congrFun ((congrFun hR _).trans fX) _) ?_) | refine Exists.intro _ (And.intro (congrFun ((congrFun hR _).trans fs) _) ?_) | refine Exists.intro _ (And.intro (congrFun ((congrFun hR _).trans fk) _) ?_) | refine Exists.intro _ (And.intro ((congrFun (congrFun hR _) _).trans fH0) ?_) | refine Exists.intro _ (And.intro ((congrFun (congrFun hR _) _).trans fH1) ?_) | refine Exists.intro _ (And.intro ((congrFun (congrFun hR _) _).trans fH2) ?_) | refine Exists.intro _ (And.intro rfl ?_) | refine And.intro rfl ?_ | refine And.intro trivial ?_ | refine And.intro (by assumption) ?_ | (refine And.intro (by intro hz; exfalso; omega) ?_; intro hz9) | refine And.intro (by omega) ?_ | refine And.intro (by simp only [lnX_sIS, lnX_sCE, lnX_sFA, lnX_sFO, lnX_sLE, lnX_sPL, lnX_sBE, lnX_sLD, lnX_kIS, lnX_kCE, lnX_kFA, lnX_kFO, lnX_kLE, lnX_kPL, lnX_kBE, lnX_kLD, lnX_xTA, lnX_xNW, lnX_xNO, lnX_xNE, lnX_xWO, lnX_xPA, lnX_xST, lnX_xFH, lnX_xSH, lnX_xLA, lnX_xSW, lnX_xIM]; omega) ?_ | (refine And.intro ?_ (by intro hz; exfalso; omega); intro hz9))
  refine Or.inl (c_min (by omega) (by omega) ?_)
  rw [z15]
  repeat (first | refine wxA (by decide) ?_ | refine wxA (by intro z; have z := congrArg ix z; omega) ?_ | refine wxM ?_ | refine wxL ?_ | refine step ?_ | refine Exists.intro _ (And.intro (congrFun ((congrFun hR _).trans fX) _) ?_) | refine Exists.intro _ (And.intro (congrFun ((congrFun hR _).trans fs) _) ?_) | refine Exists.intro _ (And.intro (congrFun ((congrFun hR _).trans fk) _) ?_) | refine Exists.intro _ (And.intro ((congrFun (congrFun hR _) _).trans fH0) ?_) | refine Exists.intro _ (And.intro ((congrFun (congrFun hR _) _).trans fH1) ?_) | refine Exists.intro _ (And.intro ((congrFun (congrFun hR _) _).trans fH2) ?_) | refine Exists.intro _ (And.intro rfl ?_) | refine And.intro rfl ?_ | refine And.intro trivial ?_ | refine And.intro (by assumption) ?_ | (refine And.intro (by intro hz; exfalso; omega) ?_; intro hz9) | refine And.intro (by omega) ?_ | refine And.intro (by simp only [lnX_sIS, lnX_sCE, lnX_sFA, lnX_sFO, lnX_sLE, lnX_sPL, lnX_sBE, lnX_sLD, lnX_kIS, lnX_kCE, lnX_kFA, lnX_kFO, lnX_kLE, lnX_kPL, lnX_kBE, lnX_kLD, lnX_xTA, lnX_xNW, lnX_xNO, lnX_xNE, lnX_xWO, lnX_xPA, lnX_xST, lnX_xFH, lnX_xSH, lnX_xLA, lnX_xSW, lnX_xIM]; omega) ?_ | (refine And.intro ?_ (by intro hz; exfalso; omega); intro hz9))
  intro p3 e3 T3; have hR := T3.2.1.trans hR
  repeat (first | refine wxA (by decide) ?_ | refine wxA (by intro z; have z := congrArg ix z; omega) ?_ | refine wxM ?_ | refine wxL ?_ | refine step ?_ | refine Exists.intro _ (And.intro (congrFun ((congrFun hR _).trans fX) _) ?_) | refine Exists.intro _ (And.intro (congrFun ((congrFun hR _).trans fs) _) ?_) | refine Exists.intro _ (And.intro (congrFun ((congrFun hR _).trans fk) _) ?_) | refine Exists.intro _ (And.intro ((congrFun (congrFun hR _) _).trans fH0) ?_) | refine Exists.intro _ (And.intro ((congrFun (congrFun hR _) _).trans fH1) ?_) | refine Exists.intro _ (And.intro ((congrFun (congrFun hR _) _).trans fH2) ?_) | refine Exists.intro _ (And.intro rfl ?_) | refine And.intro rfl ?_ | refine And.intro trivial ?_ | refine And.intro (by assumption) ?_ | (refine And.intro (by intro hz; exfalso; omega) ?_; intro hz9) | refine And.intro (by omega) ?_ | refine And.intro (by simp only [lnX_sIS, lnX_sCE, lnX_sFA, lnX_sFO, lnX_sLE, lnX_sPL, lnX_sBE, lnX_sLD, lnX_kIS, lnX_kCE, lnX_kFA, lnX_kFO, lnX_kLE, lnX_kPL, lnX_kBE, lnX_kLD, lnX_xTA, lnX_xNW, lnX_xNO, lnX_xNE, lnX_xWO, lnX_xPA, lnX_xST, lnX_xFH, lnX_xSH, lnX_xLA, lnX_xSW, lnX_xIM]; omega) ?_ | (refine And.intro ?_ (by intro hz; exfalso; omega); intro hz9))
  have T23 := (T2.up (A' := []) (B' := [15, 16]) (by decide) (by decide)).tr (T3.up (by decide) (by decide))
  have mv : ∀ k : Nat, ∀ t, RSP p1 k t → RSP p3 k t := fun k t H => RSA_go H (OKA_p k) (by omega) T23 (fun b hb => absurd hb List.not_mem_nil)
  have T03 := (T1.up (A' := AD (pO a.toNat) (pA a.toNat 0) (pA a.toNat 1) (pA a.toNat 2) (pA a.toNat 3) (pA a.toNat 4) (pA a.toNat 5) (pA a.toNat 6) (pL a.toNat)) (B' := [15, 16]) (fun _ z => z) (by decide)).tr (T23.up (fun _ z => absurd z List.not_mem_nil) (fun _ z => z))
  refine K p3 ⟨by split <;> omega, by omega, ?_, by rw [T3.f (by decide)]; exact e2, fun i i0 i1 => ?_⟩ hR T03
  · rw [e3]
    by_cases hu : u = 20
    · rw [if_pos hu, if_neg (by omega)]
    · rw [if_neg hu]
      split <;> omega
  · by_cases hu : u = 20
    · rw [if_pos hu, if_pos hu]
      rw [if_pos hu] at i1 ⊢
      by_cases hl : i = 19
      · rw [show (((a + 1) % 20 - 20 + i + 20) % 20).toNat = a.toNat by omega]
        refine mv _ _ (RSA_eq new (fun m m0 m1 => ?_))
        unfold hisF putF
        by_cases hm : 10 ≤ m ∧ m < 86
        · rw [if_pos hm, if_pos (by omega), show 10 + (76 * i + (m - 10) - 76 * 19) = m by omega]
        · rw [if_neg hm]
      · have hx := hi (i + 1) (by omega) (by omega)
        rw [show ((a - u + (i + 1) + 20) % 20).toNat = (((a + 1) % 20 - 20 + i + 20) % 20).toNat by omega] at hx
        refine mv _ _ (old _ (by omega) (by omega) _ (RSA_eq hx (fun m m0 m1 => ?_)))
        unfold hisF putF shF
        by_cases hm : 10 ≤ m ∧ m < 86
        · rw [if_pos hm, if_pos hm, if_neg (by omega), if_pos (by omega), show 76 * i + (m - 10) + 76 = 76 * (i + 1) + (m - 10) by omega]
        · rw [if_neg hm, if_neg hm]
    · rw [if_neg hu, if_neg hu]
      rw [if_neg hu] at i1 ⊢
      by_cases hl : i = u
      · rw [show (((a + 1) % 20 - (u + 1) + i + 20) % 20).toNat = a.toNat by omega]
        refine mv _ _ (RSA_eq new (fun m m0 m1 => ?_))
        unfold hisF putF
        by_cases hm : 10 ≤ m ∧ m < 86
        · rw [if_pos hm, if_pos (by omega), show 10 + (76 * i + (m - 10) - 76 * u) = m by omega]
        · rw [if_neg hm]
      · have hx := hi i i0 (by omega)
        rw [show ((a - u + i + 20) % 20).toNat = (((a + 1) % 20 - (u + 1) + i + 20) % 20).toNat by omega] at hx
        refine mv _ _ (old _ (by omega) (by omega) _ (RSA_eq hx (fun m m0 m1 => ?_)))
        unfold hisF putF
        by_cases hm : 10 ≤ m ∧ m < 86
        · rw [if_pos hm, if_pos hm, if_neg (by omega)]
        · rw [if_neg hm, if_neg hm]
