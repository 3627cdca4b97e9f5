-- NEEDS: 98
/-! THE COMPONENT'S READER: tests -/
theorem parS_ok {T : Int → Int} {n i m d : Int} {k : Nat} (i0 : 0 ≤ i) (i1 : i ≤ n) (m1 : m ≤ 60) (hk : n - i < k) : OKM n i m (parS T n k i m d) :=
  bnd_OKM ((cndS_ok k 0 i m d _ i0 i1 m1).2 rfl hk) (fun j m2 t a1 a2 a3 a4 => (cndS_ok k 1 j m2 d t (by omega) a2 a4).1)
theorem tesS_okm {T : Int → Int} {n i m d : Int} {k : Nat} (i0 : 0 ≤ i) (i1 : i ≤ n) (m1 : m ≤ 60) (hk : n - i < k) : OKM n i m (tesS T n k i m d) :=
  bnd_OKM (parS_ok i0 i1 m1 hk) (fun j m2 t a1 a2 a3 a4 => (cndS_ok k 2 j m2 d t (by omega) a2 a4).1)
set_option maxHeartbeats 1000000 in
theorem test_of {sh pa : Nat} {T : Int → Int} {n c w : Int} {Q : Nat} (hF : ∀ q, q ≤ Q → PART sh pa T n c w q) : TEST sh pa T n c w Q := by
  intro dd mc ms h Φ i m dp H hk hdd hmc hms K0 K
  have i1 := H.1.2.2.2.2.2.2.2.2.1
  have dpb := H.2.2.1
  obtain ⟨d, rfl⟩ : ∃ d, dd = d + 1 := ⟨dd - 1, by omega⟩
  have tpa := H.1.2.2.1
  have tp : ((tg pa : Nat) : Int) = 22 := by omega
  have dpa := H.1.2.2.2.2.1
  have mb := H.2.1
  have up1 : ∀ {p q : AH}, NX [pa] [] p q → NX [pa, xWR] [] p q := fun N => N.up (by intro a ha; rw [List.mem_singleton.mp ha]; simp) (by decide)
  obtain ⟨V, hV⟩ : ∃ V, tesS T n Q i m dp = V := ⟨_, rfl⟩
  rw [hV] at K0 K hmc hms
  unfold tesS at hV
  refine e_X5_test ?_; intro k step keep
  have loop : ∀ (q : Nat) (i2 m2 : Int) (f : FN) (p : AH) (x cu su : Nat), q ≤ Q → PY sh pa p T n i2 m2 dp c w → NX [pa] [] h p → CND (m2 - m + (10 - dp)) p x f → m < m2 → n - i2 < q → cndS T n q 2 i2 m2 dp f = V → cu + chg n i2 V ≤ mc → su + 4 * chg n i2 V ≤ ms → k cu su 5 [(0, vo pa), (1, vo x)] [] p := by
    intro q
    induction q with
    | zero => intro i2 m2 f p x cu su hq P N Vx mm hk; have := P.1.2.2.2.2.2.2.2.2.1; omega
    | succ q ih =>
      intro i2 m2 f p x cu su hq P N Vx mm hk hL hcu hsu
      have i21 := P.1.2.2.2.2.2.2.2.2.1
      have mb2 := P.2.1
      have sk := skp_ok (T := T) i21.2
      rw [cnd2] at hL
      refine step ?_
      refine step ?_
      refine step ?_
      refine And.intro tp ?_
      refine And.intro rfl ?_
      obtain ⟨d6, rfl⟩ : ∃ d6, d = d6 + 6 := ⟨d - 6, by omega⟩
      refine Or.inl (cp_takes' (u := 8) (W := wOR) (by decide) (by decide) (by decide) P (fun hw p1 H1 T1 => ?_) (fun hw p1 H1 T1 => ?_))
      · rw [if_neg hw] at hL
        have ni1 : hN p1 = hN p := congrArg (fun z => z.1) T1.1
        refine step ?_
        refine And.intro (by omega) ?_
        refine And.intro (fun _ => ?_) (fun z => absurd rfl z)
        refine step ?_
        refine step ?_
        exact K m2 _ f hL.symm p1 x H1 (N.tr (NX.of T1)) (Vx.go (Int.le_refl _) (by omega) (OLD.of (NX.of T1) (pa_tag P)))
      · rw [if_pos hw] at hL
        have hL : bnd (parS T n q (lep T n (skp T n i2)) m2 dp) (fun j m2 t => cndS T n q 2 j m2 dp (fun w => oneS 13 (f w) (t w))) = V := hL
        have lpp := (wdB_iff.mp hw).1
        have lp := lep_ok (T := T) sk.2
        have N1 := N.tr (NX.of T1)
        have ni1 : hN p1 = hN p := congrArg (fun z => z.1) T1.1
        have O1 : OLD p p1 := OLD.of (NX.of T1) (pa_tag P)
        have vok := parS_ok (T := T) (n := n) (k := q) (i := lep T n (skp T n i2)) (m := m2) (d := dp) (by omega) lp.2 mb2.2.2 (by omega)
        have vok2 := vok
        have kok : ∀ j m3 g, parS T n q (lep T n (skp T n i2)) m2 dp = (m3, .inr (j, g)) → OKR n j m3 (cndS T n q 2 j m3 dp (fun w => oneS 13 (f w) (g w))) := fun j m3 g e => by
          rw [e] at vok
          exact (cndS_ok q 2 j m3 dp _ (by have := vok.2.2.1.1; omega) vok.2.2.1.2 vok.2.1).1
        obtain ⟨cb1, cb2⟩ := chg_bnd (n := n) (i := lep T n (skp T n i2)) (m := m2) lp.2 vok2.r kok
        have okW : OKR n (lep T n (skp T n i2)) m2 V := by
          rw [← hL]
          exact bnd_OKR vok2.r (fun j m3 g a1 a2 a3 a4 => (cndS_ok q 2 j m3 dp _ (by omega) a2 a4).1)
        have ca := chg_add (n := n) (i := i2) (j := lep T n (skp T n i2)) (by omega) lp.2 okW
        rw [hL] at cb1 cb2
        have n2 := H1.2.2.2.2.2.1
        refine step ?_
        refine And.intro (by omega) ?_
        refine And.intro (fun z => by omega) (fun _ => ?_)
        refine step ?_
        refine And.intro rfl ?_
        refine And.intro (by omega) ?_
        refine And.intro (by omega) ?_
        generalize ea : nwA p1 31 0 = a
        generalize eq : nwH p1 31 0 = p3
        obtain ⟨o1, o2, o3, o4, o5, o6, o7⟩ := nw_ok ea eq (by decide) (by decide) n2.2
        have da := nw_dy o1 n2.2
        have apa : a ≠ pa := fun z => by rw [z] at o1; omega
        have H3 := H1.nx o7 (by simp) (by simp) (by simp) (by decide) (by simp)
        have N3 := N1.tr (o7.up (A' := [pa]) (B' := []) (by simp) (by simp))
        have O3 : OLD p1 p3 := OLD.of o7 (by simp)
        refine step ?_
        refine step ?_
        refine step ?_
        refine step ?_
        refine And.intro tp ?_
        refine And.intro rfl ?_
        refine Or.inr ⟨chg n (lep T n (skp T n i2)) (parS T n q (lep T n (skp T n i2)) m2 dp), 4 * chg n (lep T n (skp T n i2)) (parS T n q (lep T n (skp T n i2)) m2 dp), by omega, by omega, hF q (by omega) _ _ _ p3 _ _ m2 dp H3 (by omega) (by omega) (Nat.le_refl _) (Nat.le_refl _) (fun m3 e he p4 e4 N4 => ?_) (fun m3 j3 g he p4 y H4 N4 Vy => ?_)⟩
        · rw [he] at hL
          exact K0 m3 e hL.symm p4 e4 ((up1 N3).tr N4)
        · have cb3 := cb2 j3 m3 g he
          rw [he] at hL vok2
          have hL : cndS T n q 2 j3 m3 dp (fun w => oneS 13 (f w) (g w)) = V := hL
          rw [hL] at cb3
          have vm : m2 < m3 := vok2.2.2.2
          have vj : lep T n (skp T n i2) < j3 := vok2.2.2.1.1
          have a4 : ix a < hN p3 := by omega
          have ua : hP p4 a 0 = none := by rw [N4.2.2.2.1 a a4 (fun z => apa (List.mem_singleton.mp z))]; exact o6 0
          refine step ?_
          refine step ?_
          refine And.intro (by omega) ?_
          refine And.intro rfl ?_
          refine Or.inl (c_X16init o2 (Or.inr rfl) (fun p5 W5 e0 e1 e2 => ?_))
          have ni4 := N4.1
          have N5 : NX [pa] [] h p5 := (N3.tr N4).w W5 (Or.inr (by have := N1.1; omega)) da.nX
          have a5 : NX [a] [] p4 p5 := NX.rf.w W5 (Or.inl List.mem_cons_self) da.nX
          have H5 := H4.nx a5 (fun z => apa (List.mem_singleton.mp z).symm) (fun z => da.nX (List.mem_singleton.mp z).symm) (fun z => by rw [← List.mem_singleton.mp z] at da; revert da; decide) (by decide) da.n64
          have O5 : OLD p4 p5 := OLD.mk W5 (by omega) ua
          have Vx5 : CND (m3 - m + (10 - dp) - 1) p5 x f := (((Vx.go (Int.le_refl _) (by omega) O1).go (Int.le_refl _) (by omega) O3).go (Int.le_refl _) ni4 (OLD.of N4 (pa_tag P))).go (by omega) (by rw [W5.1]; exact Nat.le_refl _) O5
          have Vy5 : CND (m3 - m + (10 - dp) - 1) p5 y g := Vy.go (by omega) (by rw [W5.1]; exact Nat.le_refl _) O5
          have V5 : CND (m3 - m + (10 - dp)) p5 a (fun w => oneS 13 (f w) (g w)) := CND_16 o2 (by rw [W5.1]; omega) da e0 e1 e2 (Or.inr rfl) Vx5 Vy5 (by omega)
          refine step ?_
          refine step ?_
          exact keep [0, 1] (ih j3 m3 _ p5 a _ _ (by omega) H5 N5 V5 (by omega) (by omega) hL (by omega) (by omega))
  have vok := parS_ok (T := T) (n := n) (k := Q) (i := i) (m := m) (d := dp) i1.1 i1.2 mb.2.2 hk
  have vok3 := vok
  have kok0 : ∀ j m3 g, parS T n Q i m dp = (m3, .inr (j, g)) → OKR n j m3 (cndS T n Q 2 j m3 dp g) := fun j m3 g e => by
    rw [e] at vok
    exact (cndS_ok Q 2 j m3 dp g (by have := vok.2.2.1.1; omega) vok.2.2.1.2 vok.2.1).1
  obtain ⟨cb1, cb2⟩ := chg_bnd (n := n) (i := i) (m := m) i1.2 vok3.r kok0
  rw [hV] at cb1 cb2
  refine step ?_
  refine step ?_
  refine And.intro tp ?_
  refine And.intro rfl ?_
  refine Or.inr ⟨chg n i (parS T n Q i m dp), 4 * chg n i (parS T n Q i m dp), by omega, by omega, hF Q (Nat.le_refl _) _ _ _ h _ i m dp H hk (by omega) (Nat.le_refl _) (Nat.le_refl _) (fun m3 e he p4 e4 N4 => ?_) (fun m3 j3 g he p4 y H4 N4 Vy => ?_)⟩
  · rw [he] at hV
    exact K0 m3 e hV.symm p4 e4 N4
  · have cb3 := cb2 j3 m3 g he
    rw [he] at hV vok3
    have hV : cndS T n Q 2 j3 m3 dp g = V := hV
    rw [hV] at cb3
    have vm : m < m3 := vok3.2.2.2
    have vj := vok3.2.2.1
    refine step ?_
    exact loop Q j3 m3 g p4 y _ _ (Nat.le_refl _) H4 N4 Vy vm (by omega) hV (by omega) (by omega)
