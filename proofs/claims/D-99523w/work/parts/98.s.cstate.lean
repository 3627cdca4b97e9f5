-- NEEDS: 75 87 98
/-! THE COMPONENT: a new state, a new image -/
theorem nw_65 {p q : AH} {t n a : Nat} (ea : nwA p t n = a) (eq : nwH p t n = q) (ht : t < 64) (hn : n < 4096) (h64 : 65 ≤ hN p) : a = mk (hN p) t n ∧ hN q = hN p + 1 ∧ (∀ m, hI q a m = 0) ∧ (∀ m, hP q a m = none) ∧ (∀ m, hL q a m = 0) ∧ NX [] [] p q := by
  subst ea
  subst eq
  obtain ⟨e1, e2, e3⟩ := ix_mk3 (i := hN p) ht hn
  refine ⟨rfl, rfl, fun m => if_pos rfl, fun m => if_pos rfl, fun m => if_pos rfl, Nat.le_succ _, fun b hb _ _ => ?_, fun m _ => ?_, fun b hb _ => ?_, fun b hb _ => ?_⟩
  · have ne : b ≠ mk p.1.1 t n := fun z => by rw [z, e1] at hb; exact Nat.lt_irrefl _ hb
    funext m
    exact if_neg ne
  · have ne : X ≠ mk p.1.1 t n := fun z => by
      have z2 := congrArg ix z
      rw [e1] at z2
      have : ix X = 64 := by decide
      omega
    exact if_neg ne
  · have ne : b ≠ mk p.1.1 t n := fun z => by rw [z, e1] at hb; exact Nat.lt_irrefl _ hb
    funext m
    exact if_neg ne
  · have ne : b ≠ mk p.1.1 t n := fun z => by rw [z, e1] at hb; exact Nat.lt_irrefl _ hb
    funext m
    exact if_neg ne
/-- the n-th array of a state whose first lies at j -/
def qR (j n : Nat) : Nat := mk (j + n) 0 (if n = 7 then 4 else 5)
theorem qR_ok (j n : Nat) : ix (qR j n) = j + n ∧ tg (qR j n) = 0 ∧ ln (qR j n) = if n = 7 then 4 else 5 := by
  unfold qR
  exact ix_mk3 (by decide) (by split <;> decide)
abbrev SQj (j : Nat) : Int → Option Nat := SQ (qR j 0) (qR j 1) (qR j 2) (qR j 3) (qR j 4) (qR j 5) (qR j 6) (qR j 7)
theorem SQj_of {j : Nat} {f : Int → Option Nat} (h : ∀ m, f m = if 0 ≤ m ∧ m < 8 then some (qR j m.toNat) else none) : f = SQj j := by
  funext m
  rw [h m]
  by_cases z : 0 ≤ m ∧ m < 8
  · rw [if_pos z]
    rcases (by omega : m = 0 ∨ m = 1 ∨ m = 2 ∨ m = 3 ∨ m = 4 ∨ m = 5 ∨ m = 6 ∨ m = 7) with y | y | y | y | y | y | y | y <;> subst y <;> rfl
  · rw [if_neg z]
    unfold SQj SQ
    split <;> first | rfl | omega
/-- n arrays of the state a are made; the first at j -/
def SJn (h : AH) (a j n : Nat) (p : AH) : Prop := hN p = j + n ∧ (∀ m, hP p a m = if 0 ≤ m ∧ m < n then some (qR j m.toNat) else none) ∧ (∀ i, i < n → ∀ m, hI p (qR j i) m = 0) ∧ NX [a] [] h p ∧ (∀ m, hI p a m = hI h a m) ∧ hL p a = hL h a
theorem SJn_step {h p q r : AH} {a b j n : Nat} (H : SJn h a j n p) (ia : ix a < j) (aX : a ≠ X) (h65 : 65 ≤ hN h) (hj : hN h = j) (eb : nwA p 0 (if n = 7 then 4 else 5) = b) (eq : nwH p 0 (if n = 7 then 4 else 5) = q) (W : WX a q r) (g : ∀ m, hP r a m = if m = n then some b else hP q a m) (gi : ∀ m, hI r a m = hI q a m) : SJn h a j (n + 1) r := by
  obtain ⟨a1, a2, a3, a4, a5, a6⟩ := H
  obtain ⟨o1, o2, o3, o4, o5, o6⟩ := nw_65 eb eq (by decide) (by split <;> decide) (by omega)
  have ob : b = qR j n := by rw [o1, a1]; rfl
  have ib : ix b = j + n := by rw [ob]; exact (qR_ok j n).1
  have iq : ix a < hN p := by omega
  refine ⟨by rw [W.1, o2, a1]; omega, fun m => ?_, fun i hi m => ?_, (a4.tr (o6.up (by simp) (by simp))).w W (Or.inl (by simp)) aX, fun m => ?_, ?_⟩
  · rw [g m, o6.2.2.2.1 a iq (by simp), a2 m]
    by_cases z : m = n
    · rw [if_pos z, if_pos (by omega), ob, z]
      rfl
    · rw [if_neg z]
      by_cases y : 0 ≤ m ∧ m < (n : Int)
      · rw [if_pos y, if_pos (by omega)]
      · rw [if_neg y, if_neg (by omega)]
  · have qi := qR_ok j i
    have ne : qR j i ≠ a := fun z => by rw [z] at qi; omega
    rw [W.2.1 _ ne]
    by_cases z : i = n
    · rw [z, ← ob]; exact o3 m
    · rw [o6.2.1 (qR j i) (by omega) (by simp) (fun y => by
        have : ix X = 64 := by decide
        rw [y] at qi
        omega)]
      exact a3 i (by omega) m
  · rw [gi m, o6.2.1 a iq (by simp) aX]; exact a5 m
  · rw [W.2.2.2, o6.2.2.2.2 a iq (by simp)]; exact a6
set_option maxHeartbeats 1000000 in
theorem c_X2init {d : Nat} {h : AH} {Φ : OUT → AH → Prop} {mc ms a j : Nat} (ta : tg a = 19) (ia : ix a < hN h) (aX : a ≠ X) (h65 : 65 ≤ hN h) (hj : hN h = j) (hp : ∀ m, hP h a m = none) (hmc : 8 ≤ mc) (hms : 39 ≤ ms)
    (K : ∀ p, SJn h a j 8 p → Φ (.inl none) p) : CT (d + 1) mc ms J_X2_init [vo a] h Φ := by
  refine e_X2_init ?_; intro k step keep
  have tn : tg a ≠ 10 := by omega
  have J0 : SJn h a j 0 h := ⟨hj, fun m => by rw [hp m, if_neg (by omega)], fun i hi => by omega, NX.rf, fun _ => rfl, rfl⟩
  refine step ?_
  refine step ?_
  refine And.intro tn ?_
  refine And.intro rfl ?_
  refine step ?_
  refine step ?_
  refine step ?_
  refine And.intro (by omega) ?_
  refine And.intro (by omega) ?_
  refine And.intro (by omega) ?_
  refine And.intro (by have z5 : (5 : Int).toNat = 5 := rfl; have z4 : (4 : Int).toNat = 4 := rfl; omega) ?_
  generalize eb0 : nwA h 0 (5 : Int).toNat = b0
  generalize eq0 : nwH h 0 (5 : Int).toNat = q0
  refine step ?_
  refine And.intro ta ?_
  refine wpP (fun r0 W0 g0 i0 => ?_)
  have J1 : SJn h a j 1 r0 := SJn_step J0 (by omega) aX h65 hj eb0 eq0 W0 g0 i0
  refine step ?_
  refine step ?_
  refine step ?_
  refine And.intro (by omega) ?_
  refine And.intro (by omega) ?_
  refine And.intro (by omega) ?_
  refine And.intro (by have z5 : (5 : Int).toNat = 5 := rfl; have z4 : (4 : Int).toNat = 4 := rfl; omega) ?_
  generalize eb1 : nwA r0 0 (5 : Int).toNat = b1
  generalize eq1 : nwH r0 0 (5 : Int).toNat = q1
  refine step ?_
  refine And.intro ta ?_
  refine wpP (fun r1 W1 g1 i1 => ?_)
  have J2 : SJn h a j 2 r1 := SJn_step J1 (by omega) aX h65 hj eb1 eq1 W1 g1 i1
  refine step ?_
  refine step ?_
  refine step ?_
  refine And.intro (by omega) ?_
  refine And.intro (by omega) ?_
  refine And.intro (by omega) ?_
  refine And.intro (by have z5 : (5 : Int).toNat = 5 := rfl; have z4 : (4 : Int).toNat = 4 := rfl; omega) ?_
  generalize eb2 : nwA r1 0 (5 : Int).toNat = b2
  generalize eq2 : nwH r1 0 (5 : Int).toNat = q2
  refine step ?_
  refine And.intro ta ?_
  refine wpP (fun r2 W2 g2 i2 => ?_)
  have J3 : SJn h a j 3 r2 := SJn_step J2 (by omega) aX h65 hj eb2 eq2 W2 g2 i2
  refine step ?_
  refine step ?_
  refine step ?_
  refine And.intro (by omega) ?_
  refine And.intro (by omega) ?_
  refine And.intro (by omega) ?_
  refine And.intro (by have z5 : (5 : Int).toNat = 5 := rfl; have z4 : (4 : Int).toNat = 4 := rfl; omega) ?_
  generalize eb3 : nwA r2 0 (5 : Int).toNat = b3
  generalize eq3 : nwH r2 0 (5 : Int).toNat = q3
  refine step ?_
  refine And.intro ta ?_
  refine wpP (fun r3 W3 g3 i3 => ?_)
  have J4 : SJn h a j 4 r3 := SJn_step J3 (by omega) aX h65 hj eb3 eq3 W3 g3 i3
  refine step ?_
  refine step ?_
  refine step ?_
  refine And.intro (by omega) ?_
  refine And.intro (by omega) ?_
  refine And.intro (by omega) ?_
  refine And.intro (by have z5 : (5 : Int).toNat = 5 := rfl; have z4 : (4 : Int).toNat = 4 := rfl; omega) ?_
  generalize eb4 : nwA r3 0 (5 : Int).toNat = b4
  generalize eq4 : nwH r3 0 (5 : Int).toNat = q4
  refine step ?_
  refine And.intro ta ?_
  refine wpP (fun r4 W4 g4 i4 => ?_)
  have J5 : SJn h a j 5 r4 := SJn_step J4 (by omega) aX h65 hj eb4 eq4 W4 g4 i4
  refine step ?_
  refine step ?_
  refine step ?_
  refine And.intro (by omega) ?_
  refine And.intro (by omega) ?_
  refine And.intro (by omega) ?_
  refine And.intro (by have z5 : (5 : Int).toNat = 5 := rfl; have z4 : (4 : Int).toNat = 4 := rfl; omega) ?_
  generalize eb5 : nwA r4 0 (5 : Int).toNat = b5
  generalize eq5 : nwH r4 0 (5 : Int).toNat = q5
  refine step ?_
  refine And.intro ta ?_
  refine wpP (fun r5 W5 g5 i5 => ?_)
  have J6 : SJn h a j 6 r5 := SJn_step J5 (by omega) aX h65 hj eb5 eq5 W5 g5 i5
  refine step ?_
  refine step ?_
  refine step ?_
  refine And.intro (by omega) ?_
  refine And.intro (by omega) ?_
  refine And.intro (by omega) ?_
  refine And.intro (by have z5 : (5 : Int).toNat = 5 := rfl; have z4 : (4 : Int).toNat = 4 := rfl; omega) ?_
  generalize eb6 : nwA r5 0 (5 : Int).toNat = b6
  generalize eq6 : nwH r5 0 (5 : Int).toNat = q6
  refine step ?_
  refine And.intro ta ?_
  refine wpP (fun r6 W6 g6 i6 => ?_)
  have J7 : SJn h a j 7 r6 := SJn_step J6 (by omega) aX h65 hj eb6 eq6 W6 g6 i6
  refine step ?_
  refine step ?_
  refine step ?_
  refine And.intro (by omega) ?_
  refine And.intro (by omega) ?_
  refine And.intro (by omega) ?_
  refine And.intro (by have z5 : (5 : Int).toNat = 5 := rfl; have z4 : (4 : Int).toNat = 4 := rfl; omega) ?_
  generalize eb7 : nwA r6 0 (4 : Int).toNat = b7
  generalize eq7 : nwH r6 0 (4 : Int).toNat = q7
  refine step ?_
  refine And.intro ta ?_
  refine wpP (fun r7 W7 g7 i7 => ?_)
  have J8 : SJn h a j 8 r7 := SJn_step J7 (by omega) aX h65 hj eb7 eq7 W7 g7 i7
  refine step ?_
  exact K r7 J8
