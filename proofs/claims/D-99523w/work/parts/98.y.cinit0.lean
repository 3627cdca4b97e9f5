-- NEEDS: 75 87 98
/-! THE COMPONENT: what its constructor makes -/
theorem nw_ok65 {p q : AH} {t n a : Nat} (ea : nwA p t n = a) (eq : nwH p t n = q) (ht : t < 64) (hn : n < 4096) (h65 : 65 ≤ hN p) : ix a = hN p ∧ tg a = t ∧ ln a = n ∧ hN q = hN p + 1 ∧ (∀ m, hI q a m = 0) ∧ (∀ m, hP q a m = none) ∧ NX [] [] p q := by
  obtain ⟨o1, o2, o3, o4, o5, o6⟩ := nw_65 ea eq ht hn h65
  obtain ⟨e1, e2, e3⟩ := ix_mk3 (i := hN p) ht hn
  exact ⟨by rw [o1]; exact e1, by rw [o1]; exact e2, by rw [o1]; exact e3, o2, o3, o4, o6⟩
/-- a new list for two -/
theorem c_J2init65 {d : Nat} {h : AH} {Φ : OUT → AH → Prop} {mc ms a : Nat} (ta : tg a = 18) (ia : ix a < hN h) (hn : 65 ≤ hN h) (h2 : hI h a 2 = 0) (hmc : 1 ≤ mc) (hms : 2 ≤ ms) (K : ∀ p el, LST p a el [] → ix el = hN h → hN p = hN h + 1 → hI p a 0 = 0 → NX [a] [] h p → Φ (.inl none) p) : CT (d + 3) mc ms J_J2_init [vo a, vi 2] h Φ := by
  refine e_J2_init ?_; intro k step keep
  have tn : tg a ≠ 10 := by omega
  have aX : a ≠ X := fun z => by rw [z] at ta; revert ta; decide
  refine step ?_
  refine step ?_
  refine And.intro tn ?_
  refine And.intro rfl ?_
  refine Or.inl (c_J1init ta (fun p W z0 zi zp => ?_))
  refine step ?_
  refine step ?_
  refine And.intro (by omega) ?_
  refine And.intro (fun z => by omega) (fun _ => ?_)
  refine step ?_
  refine step ?_
  refine step ?_
  refine And.intro (by omega) ?_
  refine And.intro (by omega) ?_
  refine And.intro (by omega) ?_
  refine And.intro (by show 0 + (2 : Int).toNat ≤ ms; exact hms) ?_
  generalize eb : nwA p 4 (2 : Int).toNat = b
  generalize eq : nwH p 4 (2 : Int).toNat = q
  have wn : hN p = hN h := W.1
  obtain ⟨o1, o2, o3, o4, o5, o6, o7⟩ := nw_ok65 eb eq (by decide) (by decide) (by omega)
  have o3 : ln b = 2 := o3
  have ab : b ≠ a := fun z => by rw [z] at o1; omega
  refine step ?_
  refine And.intro ta ?_
  refine wpP (fun q2 W2 g2 i2 => ?_)
  refine step ?_
  refine step ?_
  have ia2 : ix a < hN p := by omega
  have N1 : NX [a] [] h p := NX.rf.w W (Or.inl List.mem_cons_self) aX
  refine K q2 b ⟨ta, ?_, by rw [g2, if_pos rfl], o2, ⟨by simp, by rw [o3]; unfold CAP; omega⟩, fun k v hv => by simp at hv⟩ (by omega) (by rw [W2.1]; omega) ?_ ((N1.tr (o7.up (by simp) (by simp))).w W2 (Or.inl List.mem_cons_self) aX)
  · rw [i2, o7.2.1 a ia2 (by simp) aX, zi 2 (by decide), h2]
    rfl
  · rw [i2, o7.2.1 a ia2 (by simp) aX, z0]
set_option maxHeartbeats 1000000 in
theorem c_X1init65 {d : Nat} {h : AH} {Φ : OUT → AH → Prop} {mc ms sh : Nat} (ts : tg sh = 17) (is : ix sh < hN h) (ds : DYS sh) (hn : 65 ≤ hN h) (hdy : ∀ a, hN h ≤ ix a → ix a < hN h + 4 → DYS a) (z3 : hI h sh 3 = 0) (zL : hL h sh 4 = 0) (hmc : 4 ≤ mc) (hms : 13 ≤ ms)
    (K : ∀ p gl ld dy el, SHT p sh gl ld dy el [] rd0 → NX [sh] [] h p → hN p = hN h + 4 → Φ (.inl none) p) : CT (d + 4) mc ms J_X1_init [vo sh] h Φ := by
  refine e_X1_init ?_; intro k step keep
  have tn : tg sh ≠ 10 := by omega
  have sX : sh ≠ X := ds.nX
  refine step ?_
  refine step ?_
  refine And.intro tn ?_
  refine And.intro rfl ?_
  refine step ?_
  refine step ?_
  refine And.intro rfl ?_
  refine And.intro (by omega) ?_
  refine And.intro (by omega) ?_
  generalize ea : nwA h 18 0 = gl
  generalize eq : nwH h 18 0 = q
  obtain ⟨o1, o2, o3, o4, o5, o6, o7⟩ := nw_ok65 ea eq (by decide) (by decide) hn
  have dl := hdy gl (by omega) (by omega)
  refine step ?_
  refine step ?_
  refine step ?_
  refine And.intro (by omega) ?_
  refine And.intro rfl ?_
  refine Or.inr ⟨1, 2, by omega, by omega, c_J2init65 o2 (by omega) (by omega) (o5 2) (Nat.le_refl _) (Nat.le_refl _) (fun p el q1 q2 q3 q4 q5 => ?_)⟩
  have N1 : NX [] [] h p := o7.new q5 (fun a ha => Or.inr (by rw [List.mem_singleton.mp ha]; omega)) (by simp)
  have tel := q1.2.2.2.1
  refine step ?_
  refine And.intro ts ?_
  refine wpP (fun p2 W2 g2 i2 => ?_)
  have gs : ∀ b, tg b ≠ 17 → b ≠ sh := fun b hb z => hb (by rw [z]; exact ts)
  have n2 : hN p2 = hN p := W2.1
  have L2 : LST p2 gl el [] := q1.of (by rw [W2.2.1 gl (gs gl (by omega))]) (by rw [W2.2.2.1 gl (gs gl (by omega))]) (W2.2.2.1 el (gs el (by omega)))
  refine step ?_
  refine step ?_
  refine step ?_
  refine And.intro (by omega) ?_
  refine And.intro (by omega) ?_
  refine And.intro (by omega) ?_
  refine And.intro (by show 0 + 3 + 2 + (4 : Int).toNat ≤ ms; have : (4 : Int).toNat = 4 := rfl; omega) ?_
  generalize eb : nwA p2 0 (4 : Int).toNat = ld
  generalize eq2 : nwH p2 0 (4 : Int).toNat = p3
  obtain ⟨u1, u2, u3, u4, u5, u6, u7⟩ := nw_ok65 eb eq2 (by decide) (by decide) (by omega)
  have u3 : ln ld = 4 := u3
  have dld := hdy ld (by omega) (by omega)
  refine step ?_
  refine step ?_
  refine step ?_
  refine step ?_
  refine And.intro u2 ?_
  refine And.intro (by omega) ?_
  refine And.intro (by omega) ?_
  refine wpI (fun p4 W4 g4 i4 => ?_)
  refine step ?_
  refine step ?_
  refine step ?_
  refine step ?_
  refine And.intro u2 ?_
  refine And.intro (by omega) ?_
  refine And.intro (by omega) ?_
  refine wpI (fun p5 W5 g5 i5 => ?_)
  refine step ?_
  refine step ?_
  refine step ?_
  refine step ?_
  refine And.intro u2 ?_
  refine And.intro (by omega) ?_
  refine And.intro (by omega) ?_
  refine wpI (fun p6 W6 g6 i6 => ?_)
  refine step ?_
  refine step ?_
  refine step ?_
  refine step ?_
  refine And.intro u2 ?_
  refine And.intro (by omega) ?_
  refine And.intro (by omega) ?_
  refine wpI (fun p7 W7 g7 i7 => ?_)
  have W37 : WX ld p3 p7 := ((W4.tr W5).tr W6).tr W7
  have n7 : hN p7 = hN p3 := W37.1
  have ldv : ∀ e, 0 ≤ e → e < 4 → hI p7 ld e = e := fun e e0 e1 => by
    rw [g7 e]
    by_cases z : e = 3
    · rw [if_pos z, z]
    · rw [if_neg z, g6 e]
      by_cases z : e = 2
      · rw [if_pos z, z]
      · rw [if_neg z, g5 e]
        by_cases z : e = 1
        · rw [if_pos z, z]
        · rw [if_neg z, g4 e, if_pos (by omega)]
          omega
  refine step ?_
  refine And.intro ts ?_
  refine wpP (fun p8 W8 g8 i8 => ?_)
  have n8 : hN p8 = hN p7 := W8.1
  refine step ?_
  refine step ?_
  refine step ?_
  refine And.intro (by omega) ?_
  refine And.intro (by omega) ?_
  refine And.intro (by omega) ?_
  refine And.intro (by show 0 + 3 + 2 + (4 : Int).toNat + (4 : Int).toNat ≤ ms; have : (4 : Int).toNat = 4 := rfl; omega) ?_
  generalize ec : nwA p8 0 (4 : Int).toNat = dy
  generalize eq3 : nwH p8 0 (4 : Int).toNat = p9
  obtain ⟨v1, v2, v3, v4, v5, v6, v7⟩ := nw_ok65 ec eq3 (by decide) (by decide) (by omega)
  have v3 : ln dy = 4 := v3
  have ddy := hdy dy (by omega) (by omega)
  refine step ?_
  refine And.intro ts ?_
  refine wpP (fun p10 W10 g10 i10 => ?_)
  refine step ?_
  have ls : ld ≠ sh := gs ld (by omega)
  have lgl : gl ≠ ld := fun z => by rw [z] at o2; omega
  have lel : el ≠ ld := fun z => by rw [z] at tel; omega
  have n10 : hN p10 = hN p9 := W10.1
  have nh1 := N1.1
  -- frames
  have N2 : NX [sh] [] h p2 := (N1.up (by simp) (by simp)).w W2 (Or.inl (by simp)) sX
  have N7 : NX [sh] [] h p7 := (N2.tr (u7.up (by simp) (by simp))).w W37 (Or.inr (by omega)) dld.nX
  have N9 : NX [sh] [] h p9 := (N7.w W8 (Or.inl (by simp)) sX).tr (v7.up (by simp) (by simp))
  have N10 : NX [sh] [] h p10 := N9.w W10 (Or.inl (by simp)) sX
  -- what was made stays
  have N2a : NX [sh, ld] [] p2 p10 := (((((u7.up (by simp) (by simp)).w W37 (Or.inl (by simp)) dld.nX).w W8 (Or.inl (by simp)) sX).tr (v7.up (by simp) (by simp))).w W10 (Or.inl (by simp)) sX)
  have is2 : ix sh < hN p2 := by omega
  have pS : ∀ m, m ≠ 1 → m ≠ 2 → hP p10 sh m = hP p2 sh m := fun m h1 h2 => by
    rw [g10 m, if_neg h2, v7.2.2.2.1 sh (by omega) (by simp), g8 m, if_neg h1, W37.2.2.1 sh (fun z => ls z.symm), u7.2.2.2.1 sh is2 (by simp)]
  have iS : hI p10 sh 3 = hI h sh 3 := by
    rw [i10, v7.2.1 sh (by omega) (by simp) sX, i8, W37.2.1 sh (fun z => ls z.symm), u7.2.1 sh is2 (by simp) sX, i2, N1.2.1 sh is (by simp) sX]
  have lS : hL p10 sh = hL h sh := by
    rw [W10.2.2.2, v7.2.2.2.2 sh (by omega) (by simp), W8.2.2.2, W37.2.2.2, u7.2.2.2.2 sh is2 (by simp), W2.2.2.2, N1.2.2.2.2 sh is (by simp)]
  refine K p10 gl ld dy el ⟨⟨ts, ds, by omega⟩, ⟨?_, ?_, ?_⟩, ⟨dl, by omega⟩, ⟨hdy el (by omega) (by omega), by omega⟩, ⟨u2, u3, dld, by omega⟩, ⟨v2, v3, ddy, by omega⟩, (fun z => by rw [z] at u1; omega), ?_, rfl, fun k go hk => by simp at hk, ?_, fun e e0 e1 => ⟨?_, ?_⟩, ?_⟩ N10 (by omega)
  · rw [pS 0 (by decide) (by decide), g2 0, if_pos rfl]
  · rw [g10 1, if_neg (by decide), v7.2.2.2.1 sh (by omega) (by simp), g8 1, if_pos rfl]
  · rw [g10 2, if_pos rfl]
  · exact L2.of (by rw [N2a.2.1 gl (by omega) (by simp; exact ⟨gs gl (by omega), lgl⟩) dl.nX]) (by rw [N2a.2.2.2.1 gl (by omega) (by simp; exact ⟨gs gl (by omega), lgl⟩)]) (N2a.2.2.2.1 el (by omega) (by simp; exact ⟨gs el (by omega), lel⟩))
  · rw [iS, z3]
    rfl
  · rw [W10.2.1 ld ls, v7.2.1 ld (by omega) (by simp) dld.nX, W8.2.1 ld ls, ldv e e0 e1]
    show e = (if 105 ≤ 105 + e ∧ 105 + e < 109 then 105 + e - 105 else 0)
    rw [if_pos (by omega)]
    omega
  · rw [W10.2.1 dy (gs dy (by omega)), v5 e]
    show 0 = (if 105 ≤ 86 + e ∧ 86 + e < 109 then 86 + e - 105 else 0)
    rw [if_neg (by omega)]
  · rw [lS, zL]
    exact SB.z.to (fun c c0 c1 => by
      show (if 105 ≤ 109 + c ∧ 109 + c < 109 then _ else _) = _
      rw [if_neg (by omega)])
set_option maxHeartbeats 1000000 in
theorem c_newStates {d : Nat} {h : AH} {Φ : OUT → AH → Prop} {mc ms : Nat} (hn : hN h = 96) (hmc : 181 ≤ mc) (hms : 1000 ≤ ms)
    (K : ∀ p, (∀ k : Nat, k < 20 → hP p xPA k = some (pO k) ∧ hP p (pO k) = SQj (98 + 9 * k)) → NX [] [] h p → hN p = 277 → Φ (.inl (some (vo xPA))) p) : CT (d + 2) mc ms J_X0_newStates [vi 20] h Φ := by
  refine e_X0_newStates ?_; intro k step keep
  have lPA : ((ln xPA : Nat) : Int) = 20 := rfl
  have iPA : ix xPA = 96 := by decide
  have po : ∀ k : Nat, ix (pO k) = 97 + 9 * k ∧ tg (pO k) = 19 := fun k => ⟨(ix_mk3 (by decide) (by decide)).1, (ix_mk3 (by decide) (by decide)).2.1⟩
  have loop : ∀ (n x : Nat) (p : AH) (cu su : Nat), x + n = 20 → hN p = 97 + 9 * x → cu = 1 + 9 * x → su = 20 + 49 * x → (∀ k : Nat, k < x → hP p xPA k = some (pO k) ∧ hP p (pO k) = SQj (98 + 9 * k)) → NX [] [] h p → k cu su 7 [(0, vi 20), (1, vo xPA), (2, vi x)] [] p := by
    intro n
    induction n with
    | zero =>
      intro x p cu su hx hnp hcu hsu hk N
      refine step ?_
      refine step ?_
      refine step ?_
      refine And.intro (by omega) ?_
      refine And.intro (by omega) ?_
      refine And.intro (fun _ => ?_) (fun z => by omega)
      refine step ?_
      refine step ?_
      exact K p (fun k hk2 => hk k (by omega)) N (by omega)
    | succ n ih =>
      intro x p cu su hx hnp hcu hsu hk N
      have x0 : (0 : Int) ≤ x := by omega
      refine step ?_
      refine step ?_
      refine step ?_
      refine And.intro (by omega) ?_
      refine And.intro (by omega) ?_
      refine And.intro (fun z => by omega) (fun _ => ?_)
      refine step ?_
      refine step ?_
      refine step ?_
      refine And.intro rfl ?_
      refine And.intro (by omega) ?_
      refine And.intro (by omega) ?_
      generalize ea : nwA p 19 0 = a
      generalize eq : nwH p 19 0 = q
      obtain ⟨o1, o2, o3, o4, o5, o6⟩ := nw_65 ea eq (by decide) (by decide) (by omega)
      have ea2 : a = pO x := by rw [o1, hnp]; rfl
      rw [ea2] at o3 o4 o5
      rw [ea2]
      obtain ⟨p1, p2⟩ := po x
      have pX : pO x ≠ X := fun z => by rw [z] at p2; revert p2; decide
      refine step ?_
      refine step ?_
      refine And.intro (by omega) ?_
      refine And.intro rfl ?_
      refine Or.inr ⟨8, 39, by omega, by omega, c_X2init (j := 98 + 9 * x) p2 (by omega) pX (by omega) (by omega) o4 (Nat.le_refl _) (Nat.le_refl _) (fun r J => ?_)⟩
      obtain ⟨j1, j2, j3, j4, j5, j6⟩ := J
      have N2 : NX [] [] p r := o6.new j4 (fun b hb => Or.inr (by rw [List.mem_singleton.mp hb]; omega)) (by simp)
      refine step ?_
      refine And.intro (Or.inr (Or.inl ⟨rfl, p2⟩)) ?_
      refine And.intro x0 ?_
      refine And.intro (by rw [lPA]; omega) ?_
      refine wpP (fun r2 W2 g2 i2 => ?_)
      have nh := N.1
      refine step ?_
      refine step ?_
      have xn : ∀ k : Nat, pO k ≠ xPA := fun k z => by have := (po k).2; rw [z] at this; revert this; decide
      refine ih (x + 1) r2 _ _ (by omega) (by rw [W2.1]; omega) (by omega) (by omega) (fun k hk2 => ?_) ((N.tr N2).w W2 (Or.inr (by omega)) (by decide))
      rw [g2 k, W2.2.2.1 (pO k) (xn k)]
      by_cases z : k = x
      · rw [if_pos (by omega), z]
        exact ⟨rfl, SQj_of (fun m => j2 m)⟩
      · have pk := po k
        rw [if_neg (by omega), N2.2.2.2.1 xPA (by omega) (by simp), N2.2.2.2.1 (pO k) (by omega) (by simp)]
        exact hk k (by omega)
  refine step ?_
  refine step ?_
  refine And.intro (by decide) ?_
  refine And.intro (by decide) ?_
  refine And.intro (by omega) ?_
  refine And.intro (Nat.le_trans (show 0 + (20 : Int).toNat ≤ 1000 by decide) hms) ?_
  generalize ea : nwA h 5 (20 : Int).toNat = a
  generalize eq : nwH h 5 (20 : Int).toNat = q
  obtain ⟨o1, o2, o3, o4, o5, o6⟩ := nw_65 ea eq (by decide) (by decide) (by omega)
  have ea2 : a = xPA := by rw [o1, hn]; rfl
  rw [ea2]
  refine step ?_
  refine step ?_
  refine step ?_
  exact loop 20 0 q _ _ rfl (by omega) rfl rfl (fun k hk => by omega) o6
