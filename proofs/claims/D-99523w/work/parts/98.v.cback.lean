-- NEEDS: 75 82 87 88 98
/-! THE COMPONENT: an image laid back -/
abbrev BKA : List Nat := X :: xNW :: xNO :: xNE :: AAs
set_option maxHeartbeats 1000000 in
theorem c_backI {d : Nat} {h : AH} {Φ : OUT → AH → Prop} {I sh sh2 : Nat} {t : Int → Int} {fo xx : Int} (HS : IMS h I) (HV : IMV h I sh2 t fo xx) (fX : hP h X = XP sh) (fs : hP h sOB = SPs) (hNT : 0 ≤ t 175 ∧ t 175 ≤ 10)
    (K : ∀ p, hP p X = XP sh2 → RSs p t → NTX p t → hI p X 4 = fo → hI p X 12 = xx → hI p X 15 = 0 → (∀ x, 0 ≤ x → x < 5 → iR (hI p sIS x)) → NX BKA [4, 11, 12, 15] h p → Φ (.inl none) p) : CT (d + 2) 0 0 J_X17_back [vo (imO I)] h Φ := by
  obtain ⟨io1, io2⟩ := imO_ok I
  obtain ⟨so1, so2⟩ := stO_ok I
  obtain ⟨w01, w02, w03⟩ := imW_ok I 0
  obtain ⟨w11, w12, w13⟩ := imW_ok I 1
  obtain ⟨w21, w22, w23⟩ := imW_ok I 2
  obtain ⟨⟨h307, hn⟩, r1, r2, r3, r4, r8, rs⟩ := id HS
  obtain ⟨v0, v1, v2, v5, v6, v7, v8⟩ := id HV
  have iX : ix X = 64 := rfl
  have dX : imO I ≠ X := fun z => by rw [z] at io2; revert io2; decide
  have inI := IMA_in I
  have f1 : hP h X 1 = some sOB := by rw [fX]; rfl
  have aI : ∀ n, n < 3 → arrI (imW I n) = true := fun n hn => by unfold arrI; rw [(imW_ok I n).2.1]; rfl
  refine e_X17_back ?_; intro k step keep
  refine step ?_
  refine step ?_
  refine And.intro io2 ?_
  refine Exists.intro _ (And.intro r8 ?_)
  refine step ?_
  refine step ?_
  refine And.intro io2 ?_
  refine Exists.intro _ (And.intro v0 ?_)
  refine step ?_
  refine And.intro rfl ?_
  refine wpP (fun p1 W1 g1 i1 => ?_)
  have nXb : ∀ b, ix b ≠ 64 → b ≠ X := fun b hb z => hb (by rw [z]; rfl)
  have fX1 : hP p1 X = XP sh2 := XP_up (fun m => by rw [g1 m, fX])
  have r8' : hP p1 (imO I) 8 = some X := by rw [W1.2.2.1 _ dX]; exact r8
  have r1' : hP p1 (imO I) 1 = some (stO I) := by rw [W1.2.2.1 _ dX]; exact r1
  have f1' : hP p1 X 1 = some sOB := by rw [fX1]; rfl
  have N1 : NX BKA [4, 11, 12, 15] h p1 := NX.rf.wX W1 List.mem_cons_self i1
  have N1X : NX [X] [] h p1 := NX.rf.wX W1 List.mem_cons_self i1
  refine step ?_
  refine step ?_
  refine And.intro io2 ?_
  refine Exists.intro _ (And.intro r8' ?_)
  refine step ?_
  refine And.intro rfl ?_
  refine Exists.intro _ (And.intro f1' ?_)
  refine step ?_
  refine step ?_
  refine And.intro io2 ?_
  refine Exists.intro _ (And.intro r1' ?_)
  refine step ?_
  refine And.intro rfl ?_
  refine And.intro rfl ?_
  have s1 : RSI p1 I t := RSA_nx v1 (OKA_q I) (by omega) (by omega) N1X (fun a ha => by rw [List.mem_singleton.mp ha]; omega)
  refine Or.inl (c_copyFrom (i := I + 1) (j := 70) rfl (by rw [W1.2.2.1 _ (by decide)]; exact fs.trans rfl) (by rw [W1.2.2.1 _ (nXb _ (by omega))]; exact rs) OKA_s (OKA_q I) (by omega) (by omega) (by omega) (fun p2 hc T2 => ?_))
  have s2 : RSs p2 t := RSA_cpy (s := t) s1 hc
  have T2' : TX AAs [] p1 p2 := T2.up (by decide) (by decide)
  have N2 : NX BKA [4, 11, 12, 15] h p2 := N1.tr ((NX.of T2').up (fun a ha => by simp only [BKA, List.mem_cons]; exact Or.inr (Or.inr (Or.inr (Or.inr (by simpa using ha))))) (fun _ z => by cases z))
  have eP2 : hP p2 = hP p1 := T2.2.1
  have inB : ∀ a ∈ BKA, ix a < 307 := by decide
  have nB : ∀ b, 307 ≤ ix b → b ∉ BKA := fun b hb z => by have := inB b z; omega
  have fin : ∀ p, hP p = hP p1 → (∀ b, ix b < 92 ∨ 94 < ix b → hI p b = hI p2 b) → hL p = hL p2 → (∀ x, 0 ≤ x → x < 10 → hI p xNW x = hI h (imW I 0) x ∧ hI p xNO x = hI h (imW I 1) x ∧ hI p xNE x = hI h (imW I 2) x) → NX BKA [4, 11, 12, 15] h p → k 0 0 84 [(0, vo (imO I)), (1, vi 10)] [] p := by
    intro p eP eI eL hw N
    have q8 : hP p (imO I) 8 = some X := by rw [eP]; exact r8'
    have im : hI p (imO I) = hI h (imO I) := N.2.1 _ (by omega) (nB _ (by omega)) dX
    refine step ?_
    refine step ?_
    refine And.intro io2 ?_
    refine Exists.intro _ (And.intro q8 ?_)
    refine step ?_
    refine step ?_
    refine And.intro io2 ?_
    refine Exists.intro _ (And.intro ((congrFun im 5).trans v5) ?_)
    refine step ?_
    refine And.intro rfl ?_
    refine wxM (fun p5 e5 T5 => ?_)
    have im : hI p5 (imO I) = hI h (imO I) := by rw [T5.i (by simp) dX]; exact im
    have q8 : hP p5 (imO I) 8 = some X := by rw [T5.2.1]; exact q8
    refine step ?_
    refine step ?_
    refine And.intro io2 ?_
    refine Exists.intro _ (And.intro q8 ?_)
    refine step ?_
    refine step ?_
    refine And.intro io2 ?_
    refine Exists.intro _ (And.intro ((congrFun im 6).trans v6) ?_)
    refine step ?_
    refine And.intro rfl ?_
    refine wxM (fun p6 e6 T6 => ?_)
    have im : hI p6 (imO I) = hI h (imO I) := by rw [T6.i (by simp) dX]; exact im
    have q8 : hP p6 (imO I) 8 = some X := by rw [T6.2.1]; exact q8
    refine step ?_
    refine step ?_
    refine And.intro io2 ?_
    refine Exists.intro _ (And.intro q8 ?_)
    refine step ?_
    refine step ?_
    refine And.intro io2 ?_
    refine Exists.intro _ (And.intro ((congrFun im 7).trans v7) ?_)
    refine step ?_
    refine And.intro rfl ?_
    refine wxM (fun p7 e7 T7 => ?_)
    have q8 : hP p7 (imO I) 8 = some X := by rw [T7.2.1]; exact q8
    refine step ?_
    refine step ?_
    refine And.intro io2 ?_
    refine Exists.intro _ (And.intro q8 ?_)
    refine step ?_
    refine step ?_
    refine And.intro rfl ?_
    refine wxM (fun p8 e8 T8 => ?_)
    have T58 := ((T5.up (A' := []) (B' := [4, 11, 12, 15]) (by decide) (by decide)).tr (T6.up (by decide) (by decide))).tr ((T7.up (A' := []) (B' := [4, 11, 12, 15]) (by decide) (by decide)).tr (T8.up (by decide) (by decide)))
    have N8 : NX BKA [4, 11, 12, 15] h p8 := N.tr ((NX.of T58).up (by simp) (fun _ z => z))
    have sp : RSs p t := by
      have : RSs p2 t := s2
      unfold RSs at this ⊢
      rw [eI sIS (by decide), eI sCE (by decide), eI sFA (by decide), eI sFO (by decide), eI sLE (by decide), eI sPL (by decide), eI sBE (by decide), eI sLD (by decide), eI sOB (by decide), eL]
      exact this
    have i8 : ∀ b, b ≠ X → hI p8 b = hI p b := fun b hb => T58.i (by simp) hb
    refine step ?_
    refine K p8 (by rw [T58.2.1, eP]; exact fX1) (sp.go T58 (by simp)) ⟨by rw [T8.f (by decide), T7.f (by decide), T6.f (by decide)]; exact e5, fun i i0 i1' => ?_⟩ (by rw [T8.f (by decide), T7.f (by decide)]; exact e6) (by rw [T8.f (by decide)]; exact e7) e8 (fun y y0 y1 => by
      have qo := qR_ok (I + 2) 0
      rw [i8 sIS (by decide), eI sIS (by decide), (hc.1 y y0 y1).1, N1X.2.1 (qR (I + 2) 0) (by omega) (fun z => by rw [List.mem_singleton.mp z] at qo; omega) (nXb _ (by omega))]
      exact v8 y y0 y1) N8
    rw [i8 xNW (by decide), i8 xNO (by decide), i8 xNE (by decide)]
    obtain ⟨z1, z2, z3⟩ := hw i i0 (by omega)
    rw [z1, z2, z3]
    exact v2 i i0 i1'
  have loop : ∀ (n : Nat) (x : Int) (p : AH), 0 ≤ x → x + n = 10 → hP p = hP p1 → (∀ b, ix b < 92 ∨ 94 < ix b → hI p b = hI p2 b) → hL p = hL p2 → (∀ y, 0 ≤ y → y < x → hI p xNW y = hI h (imW I 0) y ∧ hI p xNO y = hI h (imW I 1) y ∧ hI p xNE y = hI h (imW I 2) y) → NX BKA [4, 11, 12, 15] h p → k 0 0 27 [(0, vo (imO I)), (1, vi x)] [] p := by
    intro n
    induction n with
    | zero =>
      intro x p x0 hn eP eI eL hw N
      have e10 : x = 10 := by omega
      subst e10
      refine step ?_
      refine step ?_
      refine step ?_
      refine And.intro (by omega) ?_
      refine And.intro (by omega) ?_
      refine And.intro (fun _ => ?_) (fun z => by omega)
      exact fin p eP eI eL hw N
    | succ n ih =>
      intro x p x0 hn eP eI eL hw N
      have g : ∀ q : AH, hP q = hP p1 → hP q (imO I) 2 = some (imW I 0) ∧ hP q (imO I) 3 = some (imW I 1) ∧ hP q (imO I) 4 = some (imW I 2) ∧ hP q (imO I) 8 = some X ∧ hP q X 8 = some xNW ∧ hP q X 9 = some xNO ∧ hP q X 10 = some xNE := fun q hq => by
        rw [hq]
        refine ⟨by rw [W1.2.2.1 _ dX]; exact r2, by rw [W1.2.2.1 _ dX]; exact r3, by rw [W1.2.2.1 _ dX]; exact r4, r8', ?_, ?_, ?_⟩ <;> (rw [fX1]; rfl)
      have PP : ∀ {q r : AH} {a : Nat}, hP q = hP p1 → WX a q r → (∀ m, hP r a m = hP q a m) → hP r = hP p1 := fun {q r a} hq W hi => by
        rw [← hq]
        funext b
        by_cases z : b = a
        · rw [z]; exact funext hi
        · exact W.2.2.1 b z
      have xn : ∀ q : AH, NX BKA [4, 11, 12, 15] h q → hI q (imW I 0) = hI h (imW I 0) ∧ hI q (imW I 1) = hI h (imW I 1) ∧ hI q (imW I 2) = hI h (imW I 2) := fun q Nq =>
        ⟨Nq.2.1 _ (by omega) (nB _ (by omega)) (nXb _ (by omega)), Nq.2.1 _ (by omega) (nB _ (by omega)) (nXb _ (by omega)), Nq.2.1 _ (by omega) (nB _ (by omega)) (nXb _ (by omega))⟩
      obtain ⟨a2, a3, a4, a8, b8, b9, b10⟩ := g p eP
      refine step ?_
      refine step ?_
      refine step ?_
      refine And.intro (by omega) ?_
      refine And.intro (by omega) ?_
      refine And.intro (fun z => by omega) (fun _ => ?_)
      refine step ?_
      refine step ?_
      refine And.intro io2 ?_
      refine Exists.intro _ (And.intro a8 ?_)
      refine step ?_
      refine And.intro rfl ?_
      refine Exists.intro _ (And.intro b8 ?_)
      refine step ?_
      refine step ?_
      refine step ?_
      refine And.intro io2 ?_
      refine Exists.intro _ (And.intro a2 ?_)
      refine step ?_
      refine step ?_
      refine And.intro (aI 0 (by decide)) ?_
      refine And.intro x0 ?_
      refine And.intro (by omega) ?_
      refine Exists.intro _ (And.intro (congrFun (xn p N).1 x) ?_)
      refine step ?_
      refine And.intro rfl ?_
      refine And.intro x0 ?_
      refine And.intro (by simp only [lnX_xNW]; omega) ?_
      refine wpI (fun p3 W3 g3 i3 => ?_)
      have eP3 := PP eP W3 i3
      have N3 : NX BKA [4, 11, 12, 15] h p3 := N.w W3 (Or.inl (by simp [BKA])) (by decide)
      obtain ⟨a2, a3, a4, a8, b8, b9, b10⟩ := g p3 eP3
      refine step ?_
      refine step ?_
      refine And.intro io2 ?_
      refine Exists.intro _ (And.intro a8 ?_)
      refine step ?_
      refine And.intro rfl ?_
      refine Exists.intro _ (And.intro b9 ?_)
      refine step ?_
      refine step ?_
      refine step ?_
      refine And.intro io2 ?_
      refine Exists.intro _ (And.intro a3 ?_)
      refine step ?_
      refine step ?_
      refine And.intro (aI 1 (by decide)) ?_
      refine And.intro x0 ?_
      refine And.intro (by omega) ?_
      refine Exists.intro _ (And.intro (congrFun (xn p3 N3).2.1 x) ?_)
      refine step ?_
      refine And.intro rfl ?_
      refine And.intro x0 ?_
      refine And.intro (by simp only [lnX_xNO]; omega) ?_
      refine wpI (fun p4 W4 g4 i4 => ?_)
      have eP4 := PP eP3 W4 i4
      have N4 : NX BKA [4, 11, 12, 15] h p4 := N3.w W4 (Or.inl (by simp [BKA])) (by decide)
      obtain ⟨a2, a3, a4, a8, b8, b9, b10⟩ := g p4 eP4
      refine step ?_
      refine step ?_
      refine And.intro io2 ?_
      refine Exists.intro _ (And.intro a8 ?_)
      refine step ?_
      refine And.intro rfl ?_
      refine Exists.intro _ (And.intro b10 ?_)
      refine step ?_
      refine step ?_
      refine step ?_
      refine And.intro io2 ?_
      refine Exists.intro _ (And.intro a4 ?_)
      refine step ?_
      refine step ?_
      refine And.intro (aI 2 (by decide)) ?_
      refine And.intro x0 ?_
      refine And.intro (by omega) ?_
      refine Exists.intro _ (And.intro (congrFun (xn p4 N4).2.2 x) ?_)
      refine step ?_
      refine And.intro rfl ?_
      refine And.intro x0 ?_
      refine And.intro (by simp only [lnX_xNE]; omega) ?_
      refine wpI (fun p5 W5 g5 i5 => ?_)
      have eP5 := PP eP4 W5 i5
      have N5 : NX BKA [4, 11, 12, 15] h p5 := N4.w W5 (Or.inl (by simp [BKA])) (by decide)
      refine step ?_
      refine step ?_
      have i1x : ix xNW = 92 := rfl
      have i2x : ix xNO = 93 := rfl
      have i3x : ix xNE = 94 := rfl
      refine ih (x + 1) p5 (by omega) (by omega) eP5 (fun b hb => ?_) (by funext b; rw [W5.2.2.2, W4.2.2.2, W3.2.2.2, eL]) (fun y y0 y1 => ?_) N5
      · rw [W5.2.1 b (fun z => by rw [z] at hb; omega), W4.2.1 b (fun z => by rw [z] at hb; omega), W3.2.1 b (fun z => by rw [z] at hb; omega)]
        exact eI b hb
      · rw [W5.2.1 xNW (by decide), W4.2.1 xNW (by decide), g3 y, W5.2.1 xNO (by decide), g4 y, W3.2.1 xNO (by decide), g5 y, W4.2.1 xNE (by decide), W3.2.1 xNE (by decide)]
        by_cases hy : y = x
        · rw [if_pos hy, if_pos hy, if_pos hy, hy]
          exact ⟨rfl, rfl, rfl⟩
        · rw [if_neg hy, if_neg hy, if_neg hy]
          exact hw y y0 (by omega)
  refine step ?_
  refine step ?_
  exact loop 10 0 p2 (by omega) (by omega) eP2 (fun _ _ => rfl) rfl (fun y y0 y1 => by omega) N2
