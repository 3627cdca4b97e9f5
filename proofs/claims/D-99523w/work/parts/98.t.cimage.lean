-- NEEDS: 75 82 87 88 98
/-! THE COMPONENT: images -/
def imO (I : Nat) : Nat := mk I 32 0
def stO (I : Nat) : Nat := mk (I + 1) 19 0
def imW (I n : Nat) : Nat := mk (I + 10 + n) 0 10
theorem imO_ok (I : Nat) : ix (imO I) = I ∧ tg (imO I) = 32 := ⟨(ix_mk3 (by decide) (by decide)).1, (ix_mk3 (by decide) (by decide)).2.1⟩
theorem stO_ok (I : Nat) : ix (stO I) = I + 1 ∧ tg (stO I) = 19 := ⟨(ix_mk3 (by decide) (by decide)).1, (ix_mk3 (by decide) (by decide)).2.1⟩
theorem imW_ok (I n : Nat) : ix (imW I n) = I + 10 + n ∧ tg (imW I n) = 0 ∧ ln (imW I n) = 10 := ix_mk3 (by decide) (by decide)
/-- image I's references -/
def IMS (h : AH) (I : Nat) : Prop := (307 ≤ I ∧ I + 13 ≤ hN h) ∧ hP h (imO I) 1 = some (stO I) ∧ hP h (imO I) 2 = some (imW I 0) ∧ hP h (imO I) 3 = some (imW I 1) ∧ hP h (imO I) 4 = some (imW I 2) ∧ hP h (imO I) 8 = some X ∧ hP h (stO I) = SQj (I + 2)
/-- addresses of image I lie from I to I + 12 -/
def INI (I : Nat) (A : List Nat) : Prop := ∀ a ∈ A, I ≤ ix a ∧ ix a < I + 13
set_option maxHeartbeats 1000000 in
theorem c_X17init {d : Nat} {h : AH} {Φ : OUT → AH → Prop} {mc ms I : Nat} (hI1 : hN h = I + 1) (h307 : 307 ≤ I) (hp : ∀ m, hP h (imO I) m = none) (hmc : 12 ≤ mc) (hms : 79 ≤ ms)
    (K : ∀ p, IMS p I → hN p = I + 13 → NX [imO I] [] h p → Φ (.inl none) p) : CT (d + 2) mc ms J_X17_init [vo (imO I), vo X] h Φ := by
  obtain ⟨io1, io2⟩ := imO_ok I
  generalize ho : imO I = im at *
  have tn : tg im ≠ 10 := by omega
  have dX : im ≠ X := fun z => by rw [z] at io2; revert io2; decide
  refine e_X17_init ?_; intro k step keep
  refine step ?_
  refine step ?_
  refine step ?_
  refine And.intro io2 ?_
  refine wpP (fun p1 W1 g1 i1 => ?_)
  have n1 : hN p1 = hN h := W1.1
  refine step ?_
  refine step ?_
  refine And.intro tn ?_
  refine And.intro rfl ?_
  refine step ?_
  refine step ?_
  refine And.intro rfl ?_
  refine And.intro (by omega) ?_
  refine And.intro (by omega) ?_
  generalize ea : nwA p1 19 0 = st
  generalize eq : nwH p1 19 0 = p2
  obtain ⟨o1, o2, o3, o4, o5, o6⟩ := nw_65 ea eq (by decide) (by decide) (by omega)
  have es : st = stO I := by
    rw [o1, n1, hI1]
    rfl
  obtain ⟨so1, so2⟩ := stO_ok I
  rw [← es] at so1 so2
  have stX : st ≠ X := fun z => by rw [z] at so2; revert so2; decide
  refine step ?_
  refine step ?_
  refine And.intro (by omega) ?_
  refine And.intro rfl ?_
  refine Or.inr ⟨8, 39, by omega, by omega, c_X2init (j := I + 2) so2 (by omega) stX (by omega) (by omega) o4 (Nat.le_refl _) (Nat.le_refl _) (fun p3 J => ?_)⟩
  obtain ⟨j1, j2, j3, j4, j5, j6⟩ := J
  have ist : im ≠ st := fun z => by rw [z] at io2; omega
  have N1 : NX [im] [] h p1 := NX.rf.w W1 (Or.inl (by simp)) dX
  have N3 : NX [im] [] h p3 := (N1.tr (o6.up (by simp) (by simp))).cut j4 (fun a ha => Or.inr (by rw [List.mem_singleton.mp ha]; omega))
  have g3 : ∀ m, hP p3 im m = hP p1 im m := fun m => by
    rw [j4.2.2.2.1 im (by omega) (by simp; exact ist), o6.2.2.2.1 im (by omega) (by simp)]
  refine step ?_
  refine And.intro io2 ?_
  refine wpP (fun p4 W4 g4 i4 => ?_)
  have n4 : hN p4 = hN p3 := W4.1
  refine step ?_
  refine step ?_
  refine step ?_
  refine And.intro (by omega) ?_
  refine And.intro (by omega) ?_
  refine And.intro (by omega) ?_
  refine And.intro (by have z5 : (10 : Int).toNat = 10 := rfl; omega) ?_
  generalize eb : nwA p4 0 (10 : Int).toNat = b1
  generalize eq1 : nwH p4 0 (10 : Int).toNat = q1
  obtain ⟨u1, u2, u3, u4, u5, u6⟩ := nw_65 eb eq1 (by decide) (by decide) (by omega)
  refine step ?_
  refine And.intro io2 ?_
  refine wpP (fun p5 W5 g5 i5 => ?_)
  have n5 : hN p5 = hN q1 := W5.1
  refine step ?_
  refine step ?_
  refine step ?_
  refine And.intro (by omega) ?_
  refine And.intro (by omega) ?_
  refine And.intro (by omega) ?_
  refine And.intro (by have z5 : (10 : Int).toNat = 10 := rfl; omega) ?_
  generalize ec : nwA p5 0 (10 : Int).toNat = b2
  generalize eq2 : nwH p5 0 (10 : Int).toNat = q2
  obtain ⟨v1, v2, v3, v4, v5, v6⟩ := nw_65 ec eq2 (by decide) (by decide) (by omega)
  refine step ?_
  refine And.intro io2 ?_
  refine wpP (fun p6 W6 g6 i6 => ?_)
  have n6 : hN p6 = hN q2 := W6.1
  refine step ?_
  refine step ?_
  refine step ?_
  refine And.intro (by omega) ?_
  refine And.intro (by omega) ?_
  refine And.intro (by omega) ?_
  refine And.intro (by have z5 : (10 : Int).toNat = 10 := rfl; omega) ?_
  generalize ed : nwA p6 0 (10 : Int).toNat = b3
  generalize eq3 : nwH p6 0 (10 : Int).toNat = q3
  obtain ⟨w1, w2, w3, w4, w5, w6⟩ := nw_65 ed eq3 (by decide) (by decide) (by omega)
  refine step ?_
  refine And.intro io2 ?_
  refine wpP (fun p7 W7 g7 i7 => ?_)
  have n7 : hN p7 = hN q3 := W7.1
  refine step ?_
  have N4 : NX [im] [] h p4 := N3.w W4 (Or.inl (by simp)) dX
  have N5 : NX [im] [] h p5 := (N4.tr (u6.up (by simp) (by simp))).w W5 (Or.inl (by simp)) dX
  have N6 : NX [im] [] h p6 := (N5.tr (v6.up (by simp) (by simp))).w W6 (Or.inl (by simp)) dX
  have N7 : NX [im] [] h p7 := (N6.tr (w6.up (by simp) (by simp))).w W7 (Or.inl (by simp)) dX
  have G : ∀ m, hP p7 im m = if m = 4 then some b3 else if m = 3 then some b2 else if m = 2 then some b1 else if m = 1 then some st else if m = 8 then some X else none := fun m => by
    rw [g7 m, w6.2.2.2.1 im (by omega) (by simp), g6 m, v6.2.2.2.1 im (by omega) (by simp), g5 m, u6.2.2.2.1 im (by omega) (by simp), g4 m, g3 m, g1 m, hp m]
  have S7 : hP p7 st = SQj (I + 2) := by
    have is3 : ix st < hN p3 := by omega
    rw [W7.2.2.1 st (fun z => ist z.symm), w6.2.2.2.1 st (by omega) (by simp), W6.2.2.1 st (fun z => ist z.symm), v6.2.2.2.1 st (by omega) (by simp), W5.2.2.1 st (fun z => ist z.symm), u6.2.2.2.1 st (by omega) (by simp), W4.2.2.1 st (fun z => ist z.symm)]
    exact SQj_of (fun m => j2 m)
  have e1 : b1 = imW I 0 := by rw [u1]; unfold imW; rw [show hN p4 = I + 10 + 0 by omega]; rfl
  have e2 : b2 = imW I 1 := by rw [v1]; unfold imW; rw [show hN p5 = I + 10 + 1 by omega]; rfl
  have e3 : b3 = imW I 2 := by rw [w1]; unfold imW; rw [show hN p6 = I + 10 + 2 by omega]; rfl
  refine K p7 ⟨⟨h307, by omega⟩, ?_, ?_, ?_, ?_, ?_, ?_⟩ (by omega) N7
  · rw [ho, G 1, if_neg (by decide), if_neg (by decide), if_neg (by decide), if_pos rfl, es]
  · rw [ho, G 2, if_neg (by decide), if_neg (by decide), if_pos rfl, e1]
  · rw [ho, G 3, if_neg (by decide), if_pos rfl, e2]
  · rw [ho, G 4, if_pos rfl, e3]
  · rw [ho, G 8, if_neg (by decide), if_neg (by decide), if_neg (by decide), if_neg (by decide), if_pos rfl]
  · rw [← es]; exact S7
