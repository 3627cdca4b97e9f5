-- NEEDS: 73 77 81 97 98
/-! THE COMPONENT'S READER: a sheet, whole -/
theorem nw_okL {p q : AH} {t n a : Nat} (ea : nwA p t n = a) (eq : nwH p t n = q) : ∀ m, hL q a m = 0 := by
  subst ea
  subst eq
  exact fun m => if_pos rfl
theorem WX.n {a : Nat} {h p q : AH} (x : NX [] [] h p) (y : WX a p q) (ia : hN h ≤ ix a) (aX : a ≠ X) : NX [] [] h q := x.w y (Or.inr ia) aX
set_option maxHeartbeats 1000000 in
theorem c_X1init {d : Nat} {h : AH} {Φ : OUT → AH → Prop} {mc ms sh : Nat} (ts : tg sh = 17) (is : ix sh < hN h) (ds : DYS sh) (hn : 307 ≤ hN h) (z3 : hI h sh 3 = 0) (zL : hL h sh 4 = 0) (hmc : 4 ≤ mc) (hms : 13 ≤ ms)
    (K : ∀ p gl ld dy el, SHT p sh gl ld dy el [] rd0 → NX [sh] [] h p → (hN h ≤ ix gl ∧ hN h ≤ ix ld ∧ hN h ≤ ix dy ∧ hN h ≤ ix el) → Φ (.inl none) p) : CT (d + 4) mc ms J_X1_init [vo sh] h Φ := by
  refine e_X1_init ?_; intro k step keep
  have tn : tg sh ≠ 10 := by omega
  have sX : sh ≠ X := ds.nX
  refine step ?_
  refine step ?_
  refine And.intro tn ?_
  refine And.intro rfl ?_
  refine step ?_
  refine step ?_
  refine And.intro rfl ?_
  refine And.intro (by omega) ?_
  refine And.intro (by omega) ?_
  generalize ea : nwA h 18 0 = gl
  generalize eq : nwH h 18 0 = q
  obtain ⟨o1, o2, o3, o4, o5, o6, o7⟩ := nw_ok ea eq (by decide) (by decide) hn
  have dl := nw_dy o1 hn
  refine step ?_
  refine step ?_
  refine step ?_
  refine And.intro (by omega) ?_
  refine And.intro rfl ?_
  refine Or.inr ⟨1, 2, by omega, by omega, c_J2init o2 (by omega) (by omega) (o5 2) (Nat.le_refl _) (Nat.le_refl _) (fun p el q1 q2 q3 q4 q5 => ?_)⟩
  have N1 : NX [] [] h p := o7.new q5 (fun a ha => Or.inr (by rw [List.mem_singleton.mp ha]; omega)) (by simp)
  have tel := q1.2.2.2.1
  refine step ?_
  refine And.intro ts ?_
  refine wpP (fun p2 W2 g2 i2 => ?_)
  have gs : ∀ b, tg b ≠ 17 → b ≠ sh := fun b hb z => hb (by rw [z]; exact ts)
  have n2 : hN p2 = hN p := W2.1
  have L2 : LST p2 gl el [] := q1.of (by rw [W2.2.1 gl (gs gl (by omega))]) (by rw [W2.2.2.1 gl (gs gl (by omega))]) (W2.2.2.1 el (gs el (by omega)))
  refine step ?_
  refine step ?_
  refine step ?_
  refine And.intro (by omega) ?_
  refine And.intro (by omega) ?_
  refine And.intro (by omega) ?_
  refine And.intro (by show 0 + 3 + 2 + (4 : Int).toNat ≤ ms; have : (4 : Int).toNat = 4 := rfl; omega) ?_
  generalize eb : nwA p2 0 (4 : Int).toNat = ld
  generalize eq2 : nwH p2 0 (4 : Int).toNat = p3
  obtain ⟨u1, u2, u3, u4, u5, u6, u7⟩ := nw_ok eb eq2 (by decide) (by decide) (by omega)
  have u3 : ln ld = 4 := u3
  have dld := nw_dy u1 (by omega)
  refine step ?_
  refine step ?_
  refine step ?_
  refine step ?_
  refine And.intro u2 ?_
  refine And.intro (by omega) ?_
  refine And.intro (by omega) ?_
  refine wpI (fun p4 W4 g4 i4 => ?_)
  refine step ?_
  refine step ?_
  refine step ?_
  refine step ?_
  refine And.intro u2 ?_
  refine And.intro (by omega) ?_
  refine And.intro (by omega) ?_
  refine wpI (fun p5 W5 g5 i5 => ?_)
  refine step ?_
  refine step ?_
  refine step ?_
  refine step ?_
  refine And.intro u2 ?_
  refine And.intro (by omega) ?_
  refine And.intro (by omega) ?_
  refine wpI (fun p6 W6 g6 i6 => ?_)
  refine step ?_
  refine step ?_
  refine step ?_
  refine step ?_
  refine And.intro u2 ?_
  refine And.intro (by omega) ?_
  refine And.intro (by omega) ?_
  refine wpI (fun p7 W7 g7 i7 => ?_)
  have W37 : WX ld p3 p7 := ((W4.tr W5).tr W6).tr W7
  have n7 : hN p7 = hN p3 := W37.1
  have ldv : ∀ e, 0 ≤ e → e < 4 → hI p7 ld e = e := fun e e0 e1 => by
    rw [g7 e]
    by_cases z : e = 3
    · rw [if_pos z, z]
    · rw [if_neg z, g6 e]
      by_cases z : e = 2
      · rw [if_pos z, z]
      · rw [if_neg z, g5 e]
        by_cases z : e = 1
        · rw [if_pos z, z]
        · rw [if_neg z, g4 e, if_pos (by omega)]
          omega
  refine step ?_
  refine And.intro ts ?_
  refine wpP (fun p8 W8 g8 i8 => ?_)
  have n8 : hN p8 = hN p7 := W8.1
  refine step ?_
  refine step ?_
  refine step ?_
  refine And.intro (by omega) ?_
  refine And.intro (by omega) ?_
  refine And.intro (by omega) ?_
  refine And.intro (by show 0 + 3 + 2 + (4 : Int).toNat + (4 : Int).toNat ≤ ms; have : (4 : Int).toNat = 4 := rfl; omega) ?_
  generalize ec : nwA p8 0 (4 : Int).toNat = dy
  generalize eq3 : nwH p8 0 (4 : Int).toNat = p9
  obtain ⟨v1, v2, v3, v4, v5, v6, v7⟩ := nw_ok ec eq3 (by decide) (by decide) (by omega)
  have v3 : ln dy = 4 := v3
  have ddy := nw_dy v1 (by omega)
  refine step ?_
  refine And.intro ts ?_
  refine wpP (fun p10 W10 g10 i10 => ?_)
  refine step ?_
  have ls : ld ≠ sh := gs ld (by omega)
  have lgl : gl ≠ ld := fun z => by rw [z] at o2; omega
  have lel : el ≠ ld := fun z => by rw [z] at tel; omega
  have n10 : hN p10 = hN p9 := W10.1
  have nh1 := N1.1
  -- frames
  have N2 : NX [sh] [] h p2 := (N1.up (by simp) (by simp)).w W2 (Or.inl (by simp)) sX
  have N7 : NX [sh] [] h p7 := (N2.tr (u7.up (by simp) (by simp))).w W37 (Or.inr (by omega)) dld.nX
  have N9 : NX [sh] [] h p9 := (N7.w W8 (Or.inl (by simp)) sX).tr (v7.up (by simp) (by simp))
  have N10 : NX [sh] [] h p10 := N9.w W10 (Or.inl (by simp)) sX
  -- what was made stays
  have N2a : NX [sh, ld] [] p2 p10 := (((((u7.up (by simp) (by simp)).w W37 (Or.inl (by simp)) dld.nX).w W8 (Or.inl (by simp)) sX).tr (v7.up (by simp) (by simp))).w W10 (Or.inl (by simp)) sX)
  have is2 : ix sh < hN p2 := by omega
  have pS : ∀ m, m ≠ 1 → m ≠ 2 → hP p10 sh m = hP p2 sh m := fun m h1 h2 => by
    rw [g10 m, if_neg h2, v7.2.2.2.1 sh (by omega) (by simp), g8 m, if_neg h1, W37.2.2.1 sh (fun z => ls z.symm), u7.2.2.2.1 sh is2 (by simp)]
  have iS : hI p10 sh 3 = hI h sh 3 := by
    rw [i10, v7.2.1 sh (by omega) (by simp) sX, i8, W37.2.1 sh (fun z => ls z.symm), u7.2.1 sh is2 (by simp) sX, i2, N1.2.1 sh is (by simp) sX]
  have lS : hL p10 sh = hL h sh := by
    rw [W10.2.2.2, v7.2.2.2.2 sh (by omega) (by simp), W8.2.2.2, W37.2.2.2, u7.2.2.2.2 sh is2 (by simp), W2.2.2.2, N1.2.2.2.2 sh is (by simp)]
  refine K p10 gl ld dy el ⟨⟨ts, ds, by omega⟩, ⟨?_, ?_, ?_⟩, ⟨dl, by omega⟩, ⟨Or.inr (by omega), by omega⟩, ⟨u2, u3, dld, by omega⟩, ⟨v2, v3, ddy, by omega⟩, (fun z => by rw [z] at u1; omega), ?_, rfl, fun k go hk => by simp at hk, ?_, fun e e0 e1 => ⟨?_, ?_⟩, ?_⟩ N10 ⟨by omega, by omega, by omega, by omega⟩
  · rw [pS 0 (by decide) (by decide), g2 0, if_pos rfl]
  · rw [g10 1, if_neg (by decide), v7.2.2.2.1 sh (by omega) (by simp), g8 1, if_pos rfl]
  · rw [g10 2, if_pos rfl]
  · exact L2.of (by rw [N2a.2.1 gl (by omega) (by simp; exact ⟨gs gl (by omega), lgl⟩) dl.nX]) (by rw [N2a.2.2.2.1 gl (by omega) (by simp; exact ⟨gs gl (by omega), lgl⟩)]) (N2a.2.2.2.1 el (by omega) (by simp; exact ⟨gs el (by omega), lel⟩))
  · rw [iS, z3]
    rfl
  · rw [W10.2.1 ld ls, v7.2.1 ld (by omega) (by simp) dld.nX, W8.2.1 ld ls, ldv e e0 e1]
    show e = (if 105 ≤ 105 + e ∧ 105 + e < 109 then 105 + e - 105 else 0)
    rw [if_pos (by omega)]
    omega
  · rw [W10.2.1 dy (gs dy (by omega)), v5 e]
    show 0 = (if 105 ≤ 86 + e ∧ 86 + e < 109 then 86 + e - 105 else 0)
    rw [if_neg (by omega)]
  · rw [lS, zL]
    exact SB.z.to (fun c c0 c1 => by
      show (if 105 ≤ 109 + c ∧ 109 + c < 109 then _ else _) = _
      rw [if_neg (by omega)])
