-- NEEDS: 75 82 87 88 98
/-! THE COMPONENT: an image kept, and laid back -/
abbrev ADI (I : Nat) : List Nat := AD (stO I) (qR (I + 2) 0) (qR (I + 2) 1) (qR (I + 2) 2) (qR (I + 2) 3) (qR (I + 2) 4) (qR (I + 2) 5) (qR (I + 2) 6) (qR (I + 2) 7)
abbrev IMA (I : Nat) : List Nat := imO I :: imW I 0 :: imW I 1 :: imW I 2 :: ADI I
abbrev RSI (h : AH) (I : Nat) (t : Int → Int) : Prop := RSA h t (stO I) (qR (I + 2) 0) (qR (I + 2) 1) (qR (I + 2) 2) (qR (I + 2) 3) (qR (I + 2) 4) (qR (I + 2) 5) (qR (I + 2) 6) (qR (I + 2) 7)
theorem OKA_q (I : Nat) : OKA (I + 1) (stO I) (qR (I + 2) 0) (qR (I + 2) 1) (qR (I + 2) 2) (qR (I + 2) 3) (qR (I + 2) 4) (qR (I + 2) 5) (qR (I + 2) 6) (qR (I + 2) 7) := by
  have a : ∀ n, n < 7 → ix (qR (I + 2) n) = I + 1 + (n + 1) ∧ tg (qR (I + 2) n) = 0 ∧ arrI (qR (I + 2) n) = true ∧ ((ln (qR (I + 2) n) : Nat) : Int) = 5 := fun n hn => by
    obtain ⟨q1, q2, q3⟩ := qR_ok (I + 2) n
    rw [if_neg (by omega)] at q3
    exact ⟨by omega, q2, by unfold arrI; rw [q2]; rfl, by rw [q3]; rfl⟩
  obtain ⟨q1, q2, q3⟩ := qR_ok (I + 2) 7
  rw [if_pos rfl] at q3
  exact ⟨stO_ok I, a 0 (by decide), a 1 (by decide), a 2 (by decide), a 3 (by decide), a 4 (by decide), a 5 (by decide), a 6 (by decide), by omega, q2, by unfold arrI; rw [q2]; rfl, by rw [q3]; rfl⟩
theorem IMA_in (I : Nat) : INI I (IMA I) := fun a ha => by
  have o := imO_ok I
  have w0 := imW_ok I 0
  have w1 := imW_ok I 1
  have w2 := imW_ok I 2
  rcases List.mem_cons.mp ha with z | ha
  · rw [z]; omega
  rcases List.mem_cons.mp ha with z | ha
  · rw [z]; omega
  rcases List.mem_cons.mp ha with z | ha
  · rw [z]; omega
  rcases List.mem_cons.mp ha with z | ha
  · rw [z]; omega
  have := AD_ix (OKA_q I) ha
  omega
/-- image I's values -/
def IMV (h : AH) (I sh : Nat) (t : Int → Int) (fo xx : Int) : Prop := hP h (imO I) 0 = some sh ∧ RSI h I t ∧ (∀ i, 0 ≤ i → i < t 175 → hI h (imW I 0) i = t (145 + 3 * i) ∧ hI h (imW I 1) i = t (145 + 3 * i + 1) ∧ hI h (imW I 2) i = t (145 + 3 * i + 2)) ∧ hI h (imO I) 5 = t 175 ∧ hI h (imO I) 6 = fo ∧ hI h (imO I) 7 = xx ∧ ∀ x, 0 ≤ x → x < 5 → iR (hI h (qR (I + 2) 0) x)
theorem RSA_nx {A : List Nat} {B : List Int} {h p : AH} {s : Int → Int} {j dO d0 d1 d2 d3 d4 d5 d6 d7 : Nat} (H : RSA h s dO d0 d1 d2 d3 d4 d5 d6 d7) (hd : OKA j dO d0 d1 d2 d3 d4 d5 d6 d7) (j64 : 64 < j) (jn : j + 9 ≤ hN h) (T : NX A B h p) (hA : ∀ a ∈ A, ix a < j ∨ j + 8 < ix a) : RSA p s dO d0 d1 d2 d3 d4 d5 d6 d7 := by
  have n : ∀ b m, ix b = j + m → m ≤ 8 → b ∉ A := fun b m hb hm z => by have := hA b z; omega
  have x : ∀ b m, ix b = j + m → b ≠ X := fun b m hb z => by rw [z] at hb; have : ix X = 64 := rfl; omega
  obtain ⟨⟨xO, -⟩, ⟨x0, -⟩, ⟨x1, -⟩, ⟨x2, -⟩, ⟨x3, -⟩, ⟨x4, -⟩, ⟨x5, -⟩, ⟨x6, -⟩, ⟨x7, -⟩⟩ := hd
  unfold RSA
  rw [T.2.1 d0 (by omega) (n d0 _ x0 (by omega)) (x d0 _ x0), T.2.1 d1 (by omega) (n d1 _ x1 (by omega)) (x d1 _ x1), T.2.1 d2 (by omega) (n d2 _ x2 (by omega)) (x d2 _ x2), T.2.1 d3 (by omega) (n d3 _ x3 (by omega)) (x d3 _ x3), T.2.1 d4 (by omega) (n d4 _ x4 (by omega)) (x d4 _ x4), T.2.1 d5 (by omega) (n d5 _ x5 (by omega)) (x d5 _ x5), T.2.1 d6 (by omega) (n d6 _ x6 (by omega)) (x d6 _ x6), T.2.1 d7 (by omega) (n d7 _ x7 (by omega)) (x d7 _ x7), T.2.1 dO (by omega) (n dO 0 xO (by omega)) (x dO 0 xO), T.2.2.2.2 dO (by omega) (n (lb dO) 0 (by rw [ix_lb]; exact xO) (by omega))]
  exact H
theorem IMS.nx {A : List Nat} {B : List Int} {h p : AH} {I : Nat} (H : IMS h I) (N : NX A B h p) (hA : ∀ a ∈ A, ix a < I ∨ I + 13 ≤ ix a) : IMS p I := by
  obtain ⟨⟨a1, a2⟩, a3, a4, a5, a6, a7, a8⟩ := H
  have io := imO_ok I
  have so := stO_ok I
  have n1 := N.1
  have e1 : hP p (imO I) = hP h (imO I) := N.2.2.2.1 _ (by omega) (fun z => by have := hA _ z; omega)
  have e2 : hP p (stO I) = hP h (stO I) := N.2.2.2.1 _ (by omega) (fun z => by have := hA _ z; omega)
  exact ⟨⟨a1, by omega⟩, by rw [e1]; exact a3, by rw [e1]; exact a4, by rw [e1]; exact a5, by rw [e1]; exact a6, by rw [e1]; exact a7, by rw [e2]; exact a8⟩
theorem IMV.nx {A : List Nat} {B : List Int} {h p : AH} {I sh : Nat} {t : Int → Int} {fo xx : Int} (H : IMV h I sh t fo xx) (HS : IMS h I) (N : NX A B h p) (hA : ∀ a ∈ A, ix a < I ∨ I + 13 ≤ ix a) : IMV p I sh t fo xx := by
  obtain ⟨a1, a2, a3, a4, a5, a6, a7⟩ := H
  obtain ⟨⟨h307, hn⟩, -⟩ := HS
  have q0 := qR_ok (I + 2) 0
  have io := imO_ok I
  have dX : ∀ b, ix b ≠ 64 → b ≠ X := fun b hb z => hb (by rw [z]; rfl)
  have e1 : hP p (imO I) = hP h (imO I) := N.2.2.2.1 _ (by omega) (fun z => by have := hA _ z; omega)
  have e2 : hI p (imO I) = hI h (imO I) := N.2.1 _ (by omega) (fun z => by have := hA _ z; omega) (dX _ (by omega))
  have w : ∀ n, n < 3 → hI p (imW I n) = hI h (imW I n) := fun n hn3 => by
    have wo := imW_ok I n
    exact N.2.1 _ (by omega) (fun z => by have := hA _ z; omega) (dX _ (by omega))
  exact ⟨by rw [e1]; exact a1, RSA_nx a2 (OKA_q I) (by omega) (by omega) N (fun a ha => by have := hA a ha; omega), by rw [w 0 (by decide), w 1 (by decide), w 2 (by decide)]; exact a3, by rw [e2]; exact a4, by rw [e2]; exact a5, by rw [e2]; exact a6, by rw [N.2.1 (qR (I + 2) 0) (by omega) (fun z => by have := hA _ z; omega) (dX _ (by omega))]; exact a7⟩
set_option maxHeartbeats 1000000 in
theorem c_keepI {d : Nat} {h : AH} {Φ : OUT → AH → Prop} {I sh : Nat} {s : Int → Int} {fo xx : Int} (HS : IMS h I) (fX : hP h X = XP sh) (fs : hP h sOB = SPs) (hS : RSs h s) (hIS : ∀ x, 0 ≤ x → x < 5 → iR (hI h sIS x)) (hX : NTX h s) (hNT : NT s) (hf : hI h X 4 = fo) (hx : hI h X 12 = xx)
    (K : ∀ p, IMS p I → IMV p I sh s fo xx → NX (IMA I) [] h p → Φ (.inl none) p) : CT (d + 2) 0 0 J_X17_keep [vo (imO I)] h Φ := by
  obtain ⟨io1, io2⟩ := imO_ok I
  obtain ⟨so1, so2⟩ := stO_ok I
  obtain ⟨w01, w02, w03⟩ := imW_ok I 0
  obtain ⟨w11, w12, w13⟩ := imW_ok I 1
  obtain ⟨w21, w22, w23⟩ := imW_ok I 2
  obtain ⟨⟨h307, hn⟩, r1, r2, r3, r4, r8, rs⟩ := id HS
  have iX : ix X = 64 := rfl
  have dX : imO I ≠ X := fun z => by rw [z] at io2; revert io2; decide
  have ts : ((tg (stO I) : Nat) : Int) = 19 := by omega
  have inI := IMA_in I
  have f0 : hP h X 0 = some sh := by rw [fX]; rfl
  have f1 : hP h X 1 = some sOB := by rw [fX]; rfl
  refine e_X17_keep ?_; intro k step keep
  refine step ?_
  refine step ?_
  refine step ?_
  refine And.intro io2 ?_
  refine Exists.intro _ (And.intro r8 ?_)
  refine step ?_
  refine And.intro rfl ?_
  refine Exists.intro _ (And.intro f0 ?_)
  refine step ?_
  refine And.intro io2 ?_
  refine wpP (fun p1 W1 g1 i1 => ?_)
  have r1' : hP p1 (imO I) 1 = some (stO I) := by rw [g1, if_neg (by decide)]; exact r1
  have r8' : hP p1 (imO I) 8 = some X := by rw [g1, if_neg (by decide)]; exact r8
  have f1' : hP p1 X 1 = some sOB := by rw [W1.2.2.1 X (fun z => dX z.symm)]; exact f1
  have N1 : NX (IMA I) [] h p1 := NX.rf.w W1 (Or.inl List.mem_cons_self) dX
  refine step ?_
  refine step ?_
  refine And.intro io2 ?_
  refine Exists.intro _ (And.intro r1' ?_)
  refine step ?_
  refine step ?_
  refine And.intro io2 ?_
  refine Exists.intro _ (And.intro r8' ?_)
  refine step ?_
  refine And.intro rfl ?_
  refine Exists.intro _ (And.intro f1' ?_)
  refine step ?_
  refine And.intro ts ?_
  refine And.intro rfl ?_
  have ne1 : ∀ b, ix b < 307 → b ≠ imO I := fun b hb z => by rw [z] at hb; omega
  have s1 : RSs p1 s := by
    have := RSA_nx (s := s) (h := h) (p := p1) hS OKA_s (by omega) (by omega) (NX.rf.w W1 (Or.inl (List.mem_singleton.mpr rfl)) dX : NX [imO I] [] h p1) (fun a ha => by rw [List.mem_singleton.mp ha]; omega)
    exact this
  refine Or.inl (c_copyFrom (i := 70) (j := I + 1) rfl (by rw [W1.2.2.1 _ (fun z => by rw [z] at so1; omega)]; exact rs) (by rw [W1.2.2.1 _ (ne1 _ (by decide))]; exact fs.trans rfl) (OKA_q I) OKA_s (by omega) (by omega) (by omega) (fun p2 hc T2 => ?_))
  have s2 : RSI p2 I s := RSA_cpy (s := s) s1 hc
  have N2 : NX (IMA I) [] h p2 := N1.tr ((NX.of T2).up (fun a ha => by simp only [IMA, List.mem_cons]; exact Or.inr (Or.inr (Or.inr (Or.inr (by simpa using ha))))) (fun _ z => z))
  have eP2 : hP p2 = hP p1 := T2.2.1
  have dW : ∀ n, n < 3 → imW I n ≠ X := fun n hn z => by have := imW_ok I n; rw [z] at this; omega
  have fin : ∀ p, hP p = hP p1 → hN p = hN p2 → (∀ b, ix b < I + 10 ∨ I + 13 ≤ ix b → hI p b = hI p2 b) → hL p = hL p2 → (∀ x, 0 ≤ x → x < 10 → hI p (imW I 0) x = hI h xNW x ∧ hI p (imW I 1) x = hI h xNO x ∧ hI p (imW I 2) x = hI h xNE x) → NX (IMA I) [] h p → k 0 0 84 [(0, vo (imO I)), (1, vi 10)] [] p := by
    intro p eP en eI eL hw N
    have q8 : hP p (imO I) 8 = some X := by rw [eP]; exact r8'
    have xi : ∀ m, hI p X m = hI h X m := fun m => N.2.2.1 m (by simp)
    refine step ?_
    refine step ?_
    refine step ?_
    refine And.intro io2 ?_
    refine Exists.intro _ (And.intro q8 ?_)
    refine step ?_
    refine And.intro rfl ?_
    refine Exists.intro _ (And.intro ((xi 11).trans hX.1) ?_)
    refine step ?_
    refine And.intro io2 ?_
    refine wpI (fun p5 W5 g5 i5 => ?_)
    have q8 : hP p5 (imO I) 8 = some X := by rw [i5]; exact q8
    refine step ?_
    refine step ?_
    refine step ?_
    refine And.intro io2 ?_
    refine Exists.intro _ (And.intro q8 ?_)
    refine step ?_
    refine And.intro rfl ?_
    refine Exists.intro _ (And.intro ((congrFun (W5.2.1 X (fun z => dX z.symm)) 4).trans ((xi 4).trans hf)) ?_)
    refine step ?_
    refine And.intro io2 ?_
    refine wpI (fun p6 W6 g6 i6 => ?_)
    have q8 : hP p6 (imO I) 8 = some X := by rw [i6]; exact q8
    refine step ?_
    refine step ?_
    refine step ?_
    refine And.intro io2 ?_
    refine Exists.intro _ (And.intro q8 ?_)
    refine step ?_
    refine And.intro rfl ?_
    refine Exists.intro _ (And.intro ((congrFun (W6.2.1 X (fun z => dX z.symm)) 12).trans ((congrFun (W5.2.1 X (fun z => dX z.symm)) 12).trans ((xi 12).trans hx))) ?_)
    refine step ?_
    refine And.intro io2 ?_
    refine wpI (fun p7 W7 g7 i7 => ?_)
    have W57 := (W5.tr W6).tr W7
    have N7 : NX (IMA I) [] h p7 := N.w W57 (Or.inl List.mem_cons_self) dX
    have eP7 : ∀ m, hP p7 (imO I) m = hP p1 (imO I) m := fun m => by rw [i7, i6, i5, eP]
    have eN7 : hN p7 = hN h := by
      rw [W57.1, en]
      have a : hN p2 = hN p1 := congrArg (fun z => z.1) T2.1
      rw [a, W1.1]
    have nst : stO I ≠ imO I := fun z => by rw [z] at so1; omega
    have eI7 : ∀ b, b ≠ imO I → hI p7 b = hI p b := fun b hb => W57.2.1 b hb
    have nim : ∀ b, ix b ≠ I → b ≠ imO I := fun b hb z => hb (by rw [z]; exact io1)
    refine step ?_
    refine K p7 ⟨⟨h307, by omega⟩, by rw [eP7, g1, if_neg (by decide)]; exact r1, by rw [eP7, g1, if_neg (by decide)]; exact r2, by rw [eP7, g1, if_neg (by decide)]; exact r3, by rw [eP7, g1, if_neg (by decide)]; exact r4, by rw [eP7, g1, if_neg (by decide)]; exact r8, ?_⟩ ⟨by rw [eP7, g1, if_pos rfl], ?_, fun i i0 i1 => ?_, ?_, ?_, ?_, fun y y0 y1 => ?_⟩ N7
    · rw [W57.2.2.1 _ nst, eP, W1.2.2.1 _ nst]; exact rs
    · obtain ⟨⟨xO, -⟩, ⟨x0, -⟩, ⟨x1, -⟩, ⟨x2, -⟩, ⟨x3, -⟩, ⟨x4, -⟩, ⟨x5, -⟩, ⟨x6, -⟩, ⟨x7, -⟩⟩ := OKA_q I
      unfold RSI RSA
      rw [eI7 _ (nim _ (by omega)), eI _ (by omega), eI7 (qR (I + 2) 1) (nim _ (by omega)), eI (qR (I + 2) 1) (by omega), eI7 (qR (I + 2) 2) (nim _ (by omega)), eI (qR (I + 2) 2) (by omega), eI7 (qR (I + 2) 3) (nim _ (by omega)), eI (qR (I + 2) 3) (by omega), eI7 (qR (I + 2) 4) (nim _ (by omega)), eI (qR (I + 2) 4) (by omega), eI7 (qR (I + 2) 5) (nim _ (by omega)), eI (qR (I + 2) 5) (by omega), eI7 (qR (I + 2) 6) (nim _ (by omega)), eI (qR (I + 2) 6) (by omega), eI7 (qR (I + 2) 7) (nim _ (by omega)), eI (qR (I + 2) 7) (by omega), eI7 (stO I) (nim _ (by omega)), eI (stO I) (by omega), W57.2.2.2, eL]
      exact s2
    · rw [eI7 _ (nim _ (by omega)), eI7 (imW I 1) (nim _ (by omega)), eI7 (imW I 2) (nim _ (by omega))]
      obtain ⟨z1, z2, z3⟩ := hw i i0 (by have := hNT.1; omega)
      rw [z1, z2, z3]
      exact hX.2 i i0 i1
    · rw [g7, if_neg (by decide), g6, if_neg (by decide), g5, if_pos rfl]
    · rw [g7, if_neg (by decide), g6, if_pos rfl]
    · rw [g7, if_pos rfl]
    · have qo := qR_ok (I + 2) 0
      rw [eI7 _ (nim _ (by omega)), eI _ (by omega), (hc.1 y y0 y1).1, W1.2.1 sIS (ne1 _ (by decide))]
      exact hIS y y0 y1
  have loop : ∀ (n : Nat) (x : Int) (p : AH), 0 ≤ x → x + n = 10 → hP p = hP p1 → hN p = hN p2 → (∀ b, ix b < I + 10 ∨ I + 13 ≤ ix b → hI p b = hI p2 b) → hL p = hL p2 → (∀ y, 0 ≤ y → y < x → hI p (imW I 0) y = hI h xNW y ∧ hI p (imW I 1) y = hI h xNO y ∧ hI p (imW I 2) y = hI h xNE y) → NX (IMA I) [] h p → k 0 0 27 [(0, vo (imO I)), (1, vi x)] [] p := by
    intro n
    induction n with
    | zero =>
      intro x p x0 hn eP en eI eL hw N
      have e10 : x = 10 := by omega
      subst e10
      refine step ?_
      refine step ?_
      refine step ?_
      refine And.intro (by omega) ?_
      refine And.intro (by omega) ?_
      refine And.intro (fun _ => ?_) (fun z => by omega)
      exact fin p eP en eI eL hw N
    | succ n ih =>
      intro x p x0 hn eP en eI eL hw N
      have g : ∀ q : AH, hP q = hP p1 → hP q (imO I) 2 = some (imW I 0) ∧ hP q (imO I) 3 = some (imW I 1) ∧ hP q (imO I) 4 = some (imW I 2) ∧ hP q (imO I) 8 = some X ∧ hP q X 8 = some xNW ∧ hP q X 9 = some xNO ∧ hP q X 10 = some xNE := fun q hq => by
        rw [hq]
        refine ⟨by rw [g1, if_neg (by decide)]; exact r2, by rw [g1, if_neg (by decide)]; exact r3, by rw [g1, if_neg (by decide)]; exact r4, r8', ?_, ?_, ?_⟩ <;> (rw [W1.2.2.1 X (fun z => dX z.symm), fX]; rfl)
      have PP : ∀ {q r : AH} {a : Nat}, hP q = hP p1 → WX a q r → (∀ m, hP r a m = hP q a m) → hP r = hP p1 := fun {q r a} hq W hi => by
        rw [← hq]
        funext b
        by_cases z : b = a
        · rw [z]; exact funext hi
        · exact W.2.2.1 b z
      have xn : ∀ q : AH, NX (IMA I) [] h q → hI q xNW = hI h xNW ∧ hI q xNO = hI h xNO ∧ hI q xNE = hI h xNE := fun q Nq => by
        have ni : ∀ b, ix b < 307 → b ∉ IMA I := fun b hb z => by have := inI b z; omega
        exact ⟨Nq.2.1 xNW (by have : ix xNW = 92 := rfl; omega) (ni _ (by decide)) (by decide), Nq.2.1 xNO (by have : ix xNO = 93 := rfl; omega) (ni _ (by decide)) (by decide), Nq.2.1 xNE (by have : ix xNE = 94 := rfl; omega) (ni _ (by decide)) (by decide)⟩
      obtain ⟨a2, a3, a4, a8, b8, b9, b10⟩ := g p eP
      have xa : ∀ n : Nat, ((10 : Nat) : Int) = 10 := fun _ => rfl
      refine step ?_
      refine step ?_
      refine step ?_
      refine And.intro (by omega) ?_
      refine And.intro (by omega) ?_
      refine And.intro (fun z => by omega) (fun _ => ?_)
      refine step ?_
      refine step ?_
      refine And.intro io2 ?_
      refine Exists.intro _ (And.intro a2 ?_)
      refine step ?_
      refine step ?_
      refine step ?_
      refine And.intro io2 ?_
      refine Exists.intro _ (And.intro a8 ?_)
      refine step ?_
      refine And.intro rfl ?_
      refine Exists.intro _ (And.intro b8 ?_)
      refine step ?_
      refine step ?_
      refine And.intro rfl ?_
      refine And.intro x0 ?_
      refine And.intro (by simp only [lnX_xNW]; omega) ?_
      refine Exists.intro _ (And.intro (congrFun (xn p N).1 x) ?_)
      refine step ?_
      refine And.intro w02 ?_
      refine And.intro x0 ?_
      refine And.intro (by omega) ?_
      refine wpI (fun p3 W3 g3 i3 => ?_)
      have eP3 := PP eP W3 i3
      have N3 : NX (IMA I) [] h p3 := N.w W3 (Or.inl (by simp [IMA])) (dW 0 (by decide))
      obtain ⟨a2, a3, a4, a8, b8, b9, b10⟩ := g p3 eP3
      refine step ?_
      refine step ?_
      refine And.intro io2 ?_
      refine Exists.intro _ (And.intro a3 ?_)
      refine step ?_
      refine step ?_
      refine step ?_
      refine And.intro io2 ?_
      refine Exists.intro _ (And.intro a8 ?_)
      refine step ?_
      refine And.intro rfl ?_
      refine Exists.intro _ (And.intro b9 ?_)
      refine step ?_
      refine step ?_
      refine And.intro rfl ?_
      refine And.intro x0 ?_
      refine And.intro (by simp only [lnX_xNO]; omega) ?_
      refine Exists.intro _ (And.intro (congrFun (xn p3 N3).2.1 x) ?_)
      refine step ?_
      refine And.intro w12 ?_
      refine And.intro x0 ?_
      refine And.intro (by omega) ?_
      refine wpI (fun p4 W4 g4 i4 => ?_)
      have eP4 := PP eP3 W4 i4
      have N4 : NX (IMA I) [] h p4 := N3.w W4 (Or.inl (by simp [IMA])) (dW 1 (by decide))
      obtain ⟨a2, a3, a4, a8, b8, b9, b10⟩ := g p4 eP4
      refine step ?_
      refine step ?_
      refine And.intro io2 ?_
      refine Exists.intro _ (And.intro a4 ?_)
      refine step ?_
      refine step ?_
      refine step ?_
      refine And.intro io2 ?_
      refine Exists.intro _ (And.intro a8 ?_)
      refine step ?_
      refine And.intro rfl ?_
      refine Exists.intro _ (And.intro b10 ?_)
      refine step ?_
      refine step ?_
      refine And.intro rfl ?_
      refine And.intro x0 ?_
      refine And.intro (by simp only [lnX_xNE]; omega) ?_
      refine Exists.intro _ (And.intro (congrFun (xn p4 N4).2.2 x) ?_)
      refine step ?_
      refine And.intro w22 ?_
      refine And.intro x0 ?_
      refine And.intro (by omega) ?_
      refine wpI (fun p5 W5 g5 i5 => ?_)
      have eP5 := PP eP4 W5 i5
      have N5 : NX (IMA I) [] h p5 := N4.w W5 (Or.inl (by simp [IMA])) (dW 2 (by decide))
      refine step ?_
      refine step ?_
      have n01 : imW I 0 ≠ imW I 1 := fun z => by rw [z] at w01; omega
      have n02 : imW I 0 ≠ imW I 2 := fun z => by rw [z] at w01; omega
      have n12 : imW I 1 ≠ imW I 2 := fun z => by rw [z] at w11; omega
      refine ih (x + 1) p5 (by omega) (by omega) eP5 (by rw [W5.1, W4.1, W3.1]; exact en) (fun b hb => ?_) (by funext b; rw [W5.2.2.2, W4.2.2.2, W3.2.2.2, eL]) (fun y y0 y1 => ?_) N5
      · rw [W5.2.1 b (fun z => by rw [z] at hb; omega), W4.2.1 b (fun z => by rw [z] at hb; omega), W3.2.1 b (fun z => by rw [z] at hb; omega)]
        exact eI b hb
      · rw [W5.2.1 _ n02, W4.2.1 _ n01, g3 y, W5.2.1 _ n12, g4 y, W3.2.1 _ (fun z => n01 z.symm), g5 y, W4.2.1 _ (fun z => n12 z.symm), W3.2.1 _ (fun z => n02 z.symm)]
        by_cases hy : y = x
        · rw [if_pos hy, if_pos hy, if_pos hy, hy]
          exact ⟨rfl, rfl, rfl⟩
        · rw [if_neg hy, if_neg hy, if_neg hy]
          exact hw y y0 (by omega)
  refine step ?_
  refine step ?_
  exact loop 10 0 p2 (by omega) (by omega) eP2 rfl (fun _ _ => rfl) rfl (fun y y0 y1 => by omega) N2
