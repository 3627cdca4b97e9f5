-- NEEDS: 98
/-! THE COMPONENT'S READER: facts: brackets, not; whole -/
set_option maxHeartbeats 1000000 in
theorem fact_br {d mc ms sh pa Q : Nat} {T : Int → Int} {n i m dp c w : Int} {h p2 : AH} {Φ : OUT → AH → Prop} {V : PRS} {k : KT} (hT : TEST sh pa T n c w Q) (step : STP (d + 8) mc ms Φ C_X5_fact k) (hdd : 3 * (10 - dp) + 9 ≤ ((d + 9 : Nat) : Int)) (tpa : tg pa = 22) (H2 : PY sh pa p2 T n i m dp c w) (N2 : NX [pa] [] h p2) (dpb : 0 ≤ dp ∧ dp ≤ 10) (hjn : i < n) (hk : n - (i + 1) < Q) (hmc : chg n i V ≤ mc) (hms : 4 * chg n i V ≤ ms)
    (hV : (if dp = 10 then (m, .inl (1 + 8 * i + 2)) else bnd (tesS T n Q (i + 1) m (dp + 1)) (fun j m2 t => if byF T n (skp T n j) = 93 then (m2, .inr (skp T n j + 1, t)) else (m2, .inl (1 + 8 * skp T n j + 0)))) = V)
    (K0 : ∀ m2 e, V = (m2, .inl e) → ∀ p, hI p xWR 0 = e → NX [pa, xWR] [] h p → Φ (.inr xWR) p)
    (K : ∀ m2 j f, V = (m2, .inr (j, f)) → ∀ p a, PY sh pa p T n j m2 dp c w → NX [pa] [] h p → CND (m2 - m + (10 - dp)) p a f → Φ (.inl (some (vo a))) p) : k 0 0 67 [(0, vo pa), (1, vi i)] [] p2 := by
  have tp : ((tg pa : Nat) : Int) = 22 := by omega
  have dpa := H2.1.2.2.2.2.1
  have up1 : ∀ {p q : AH}, NX [pa] [] p q → NX [pa, xWR] [] p q := fun N => N.up (by intro a ha; rw [List.mem_singleton.mp ha]; simp) (by decide)
  have ib := H2.1.2.2.2.2.2.2.2.2.1
  have n4 := H2.1.2.2.2.2.2.2.2.2.2.1
  have hB := H2.1.2.2.2.2.2.2.2.2.2.2
  have mb := H2.2.1
  have q2 := H2.1.2.2.2.2.2.2.2.1
  have hV0 := hV
  refine step ?_
  refine step ?_
  refine step ?_
  refine And.intro tp ?_
  refine And.intro rfl ?_
  refine Or.inl (cp_goesDeeper (a := i) H2 (fun hm p3 e3 T3 => ?_) (fun hm p3 H3 T3 => ?_))
  · have hV0 : V = (m, .inl (1 + 8 * i + 2)) := by
      rw [if_pos hm] at hV0
      exact hV0.symm
    exact K0 m _ hV0 p3 e3 ((up1 N2).tr (NX.of T3))
  · have N3 := N2.tr (NX.of T3)
    have q3 := H3.1.2.2.2.2.2.2.2.1
    rw [if_neg (by omega)] at hV0
    have hV : bnd (tesS T n Q (i + 1) m (dp + 1)) (fun j m2 t => if byF T n (skp T n j) = 93 then (m2, .inr (skp T n j + 1, t)) else (m2, .inl (1 + 8 * skp T n j + 0))) = V := hV0
    have vok := tesS_okm (T := T) (n := n) (i := i + 1) (m := m) (d := dp + 1) (k := Q) (by omega) (by omega) mb.2.2 (by omega)
    have vok2 := vok
    have last : ∀ j m2 (t : FN), i + 1 ≤ j → j ≤ n → m2 ≤ 60 → OKR n j m2 (if byF T n (skp T n j) = 93 then (m2, .inr (skp T n j + 1, t)) else (m2, .inl (1 + 8 * skp T n j + 0))) := by
      intro j m2 t a1 a2 a3
      have sj := skp_ok (T := T) a2
      split
      · rename_i hz
        have := byF_lt hz (by decide)
        exact ⟨Int.le_refl _, a3, by show j ≤ skp T n j + 1; omega, by show skp T n j + 1 ≤ n; omega⟩
      · exact ⟨Int.le_refl _, a3, by show 1 ≤ _; omega, by show _ ≤ (_ : Int); omega⟩
    have kok : ∀ j m3 g, tesS T n Q (i + 1) m (dp + 1) = (m3, .inr (j, g)) → OKR n j m3 ((fun j m2 t => if byF T n (skp T n j) = 93 then ((m2, .inr (skp T n j + 1, t)) : PRS) else (m2, .inl (1 + 8 * skp T n j + 0))) j m3 g) := fun j m3 g e => by
      rw [e] at vok
      exact last j m3 g (by have := vok.2.2.1.1; omega) vok.2.2.1.2 vok.2.1
    obtain ⟨cb1, cb2⟩ := chg_bnd (n := n) (i := i + 1) (m := m) (by omega) vok2.r kok
    have okW : OKR n (i + 1) m V := by
      rw [← hV]
      exact bnd_OKR vok2.r (fun j m3 g a1 a2 a3 a4 => last j m3 g a1 a2 a4)
    have ca := chg_add (n := n) (i := i) (j := i + 1) (by omega) (by omega) okW
    rw [hV] at cb1
    refine step ?_
    refine step ?_
    refine step ?_
    refine And.intro tpa ?_
    refine Exists.intro _ (And.intro q3 ?_)
    refine step ?_
    refine step ?_
    refine step ?_
    refine And.intro tpa ?_
    refine cp_step1 H3 (by omega) (by omega) (fun p4 H4 T4 => ?_)
    have N4 := N3.tr (NX.of T4)
    refine step ?_
    refine step ?_
    refine And.intro tp ?_
    refine And.intro rfl ?_
    refine Or.inr ⟨chg n (i + 1) (tesS T n Q (i + 1) m (dp + 1)), 4 * chg n (i + 1) (tesS T n Q (i + 1) m (dp + 1)), by omega, by omega, hT _ _ _ p4 _ _ m (dp + 1) H4 (by omega) (by omega) (Nat.le_refl _) (Nat.le_refl _) (fun m3 e he p6 e6 N6 => ?_) (fun m3 j3 g he p6 y H6 N6 Vy => ?_)⟩
    · rw [he] at hV
      exact K0 m3 e hV.symm p6 e6 ((up1 N4).tr N6)
    · rw [he] at hV vok2
      have hV : (if byF T n (skp T n j3) = 93 then ((m3, .inr (skp T n j3 + 1, g)) : PRS) else (m3, .inl (1 + 8 * skp T n j3 + 0))) = V := hV
      have vm : m < m3 := vok2.2.2.2
      have vj : i + 1 < j3 ∧ j3 ≤ n := vok2.2.2.1
      have N6' := N4.tr N6
      have sk3 := skp_ok (T := T) vj.2
      have bb3 := byF_b (i := skp T n j3) hB (by have := skp_ok (T := T) vj.2; omega) n4
      refine step ?_
      refine step ?_
      refine step ?_
      refine And.intro tp ?_
      refine And.intro rfl ?_
      refine Or.inl (cp_next H6.1 (fun p7 Hx7 F7 => ?_))
      have H7 := H6.pf F7 Hx7
      have N7 := N6'.tr F7.nx
      have ni7 : hN p7 = hN p6 := congrArg (fun z => z.1) F7.1.1
      have Vy7 := Vy.go (Int.le_refl _) (by omega) (OLD.of F7.nx (pa_tag H6))
      have q7 := Hx7.2.2.2.2.2.2.2.1
      have r7 := H7.1.2.1
      have r7' := H7.1.2.2.2.1
      refine step ?_
      refine step ?_
      refine And.intro (by omega) ?_
      refine And.intro (by omega) ?_
      refine And.intro (fun z => ?_) (fun z => ?_)
      · have z : byF T n (skp T n j3) = 93 := z
        have hl := byF_lt z (by decide)
        rw [if_pos z] at hV
        refine step ?_
        refine step ?_
        refine step ?_
        refine And.intro tpa ?_
        refine Exists.intro _ (And.intro q7 ?_)
        refine step ?_
        refine step ?_
        refine step ?_
        refine And.intro tpa ?_
        refine cp_step1 H7 (by omega) (by omega) (fun p8 H8 T8 => ?_)
        have q8 := H8.2.2.1.1
        have N8 := N7.tr (NX.of T8)
        have ni8 : hN p8 = hN p7 := congrArg (fun z => z.1) T8.1
        have Vy8 := Vy7.go (Int.le_refl _) (by omega) (OLD.of (NX.of T8) (pa_tag H7))
        refine step ?_
        refine step ?_
        refine step ?_
        refine And.intro tpa ?_
        refine Exists.intro _ (And.intro q8 ?_)
        refine step ?_
        refine step ?_
        refine step ?_
        refine And.intro tpa ?_
        rw [show dp + 1 - 1 = dp by omega]
        refine cp_step2 H8 dpb.1 dpb.2 (fun p9 H9 T9 => ?_)
        have ni9 : hN p9 = hN p8 := congrArg (fun z => z.1) T9.1
        refine step ?_
        refine step ?_
        exact K m3 _ g hV.symm p9 y H9 (N8.tr (NX.of T9)) (Vy8.go (by omega) (by omega) (OLD.of (NX.of T9) (pa_tag H8)))
      · have z : byF T n (skp T n j3) ≠ 93 := z
        rw [if_neg z] at hV
        refine step ?_
        refine step ?_
        refine And.intro tpa ?_
        refine Exists.intro _ (And.intro r7' ?_)
        refine step ?_
        refine step ?_
        refine step ?_
        refine And.intro tpa ?_
        refine Exists.intro _ (And.intro q7 ?_)
        refine step ?_
        refine And.intro rfl ?_
        refine And.intro rfl ?_
        refine Or.inl (cp_fails rfl r7 (fun p8 hR8 e8 T8 => ?_))
        refine step ?_
        refine And.intro rfl ?_
        exact K0 m3 _ hV.symm p8 e8 ((up1 N7).tr (NX.of (T8.up (by intro a ha; rw [List.mem_singleton.mp ha]; simp) (by decide))))
set_option maxHeartbeats 1000000 in
theorem fact_not {d mc ms sh pa Q : Nat} {T : Int → Int} {n i m dp c w : Int} {h p2 : AH} {Φ : OUT → AH → Prop} {V : PRS} {k : KT} (hF : FACT sh pa T n c w Q) (step : STP (d + 8) mc ms Φ C_X5_fact k) (hdd : 3 * (10 - dp) + 9 ≤ ((d + 9 : Nat) : Int)) (tpa : tg pa = 22) (H2 : PY sh pa p2 T n i m dp c w) (N2 : NX [pa] [] h p2) (dpb : 0 ≤ dp ∧ dp ≤ 10) (hyes : lep T n i - i = txL 6) (hk : n - (i + 1) < Q) (hmc : chg n i V ≤ mc) (hms : 4 * chg n i V ≤ ms)
    (hV : (if dp = 10 then (m, .inl (1 + 8 * i + 2)) else bnd (cndS T n Q 0 (lep T n i) m (dp + 1) (fun _ => 0)) (fun j m2 t => (m2, .inr (j, fun w => 1 - t w)))) = V)
    (K0 : ∀ m2 e, V = (m2, .inl e) → ∀ p, hI p xWR 0 = e → NX [pa, xWR] [] h p → Φ (.inr xWR) p)
    (K : ∀ m2 j f, V = (m2, .inr (j, f)) → ∀ p a, PY sh pa p T n j m2 dp c w → NX [pa] [] h p → CND (m2 - m + (10 - dp)) p a f → Φ (.inl (some (vo a))) p) : k 0 0 19 [(0, vo pa), (1, vi i)] [] p2 := by
  have tp : ((tg pa : Nat) : Int) = 22 := by omega
  have dpa := H2.1.2.2.2.2.1
  have up1 : ∀ {p q : AH}, NX [pa] [] p q → NX [pa, xWR] [] p q := fun N => N.up (by intro a ha; rw [List.mem_singleton.mp ha]; simp) (by decide)
  have ib := H2.1.2.2.2.2.2.2.2.2.1
  have n4 := H2.1.2.2.2.2.2.2.2.2.2.1
  have hB := H2.1.2.2.2.2.2.2.2.2.2.2
  have mb := H2.2.1
  have q2 := H2.1.2.2.2.2.2.2.2.1
  have tl : txL 6 = 3 := by decide
  have lp := lep_ok (T := T) ib.2
  refine step ?_
  refine step ?_
  refine step ?_
  refine And.intro tp ?_
  refine And.intro rfl ?_
  refine Or.inl (cp_goesDeeper (a := i) H2 (fun hm p3 e3 T3 => ?_) (fun hm p3 H3 T3 => ?_))
  · rw [if_pos hm] at hV
    exact K0 m _ hV.symm p3 e3 ((up1 N2).tr (NX.of T3))
  · rw [if_neg (by omega)] at hV
    have N3 := N2.tr (NX.of T3)
    have q3 := H3.1.2.2.2.2.2.2.2.1
    have vok := (cndS_ok (T := T) (n := n) Q 0 (lep T n (i)) m (dp + 1) (fun _ => 0) (by omega) lp.2 mb.2.2).2 rfl (by omega)
    have vok2 := vok
    have last : ∀ j m2 (t : FN), j ≤ n → m2 ≤ 60 → OKR n j m2 (m2, .inr (j, fun w => 1 - t w)) := fun j m2 t a2 a4 => ⟨Int.le_refl _, a4, Int.le_refl _, a2⟩
    have kok : ∀ j m3 g, cndS T n Q 0 (lep T n (i)) m (dp + 1) (fun _ => 0) = (m3, .inr (j, g)) → OKR n j m3 ((fun j m2 t => ((m2, .inr (j, fun w => 1 - t w)) : PRS)) j m3 g) := fun j m3 g e => by
      rw [e] at vok
      exact last j m3 g vok.2.2.1.2 vok.2.1
    obtain ⟨cb1, cb2⟩ := chg_bnd (n := n) (i := lep T n (i)) (m := m) lp.2 vok2.r kok
    have okW : OKR n (lep T n (i)) m V := by
      rw [← hV]
      exact bnd_OKR vok2.r (fun j m3 g a1 a2 a3 a4 => last j m3 g a2 a4)
    have ca := chg_add (n := n) (i := i) (j := lep T n (i)) (by omega) lp.2 okW
    rw [hV] at cb1 cb2
    refine step ?_
    refine step ?_
    refine step ?_
    refine And.intro tpa ?_
    refine Exists.intro _ (And.intro q3 ?_)
    refine step ?_
    refine step ?_
    refine step ?_
    refine And.intro tpa ?_
    rw [show i + 3 = lep T n (i) by omega]
    refine cp_step1 H3 (by omega) lp.2 (fun p4 H4 T4 => ?_)
    have n2 := H4.2.2.2.2.2.1
    have N4 := N3.tr (NX.of T4)
    refine step ?_
    refine And.intro rfl ?_
    refine And.intro (by omega) ?_
    refine And.intro (by omega) ?_
    generalize ea : nwA p4 29 0 = a
    generalize eq : nwH p4 29 0 = p5
    obtain ⟨o1, o2, o3, o4, o5, o6, o7⟩ := nw_ok ea eq (by decide) (by decide) n2.2
    have da := nw_dy o1 n2.2
    have apa : a ≠ pa := fun z => by rw [z] at o1; omega
    have H5 := H4.nx o7 (by simp) (by simp) (by simp) (by decide) (by simp)
    have N5 := N4.tr (o7.up (A' := [pa]) (B' := []) (by simp) (by simp))
    refine step ?_
    refine step ?_
    refine step ?_
    refine And.intro tp ?_
    refine And.intro rfl ?_
    refine Or.inr ⟨chg n (lep T n (i)) (cndS T n Q 0 (lep T n (i)) m (dp + 1) (fun _ => 0)), 4 * chg n (lep T n (i)) (cndS T n Q 0 (lep T n (i)) m (dp + 1) (fun _ => 0)), by omega, by omega, hF _ _ _ p5 _ _ m (dp + 1) H5 (by omega) (by omega) (Nat.le_refl _) (Nat.le_refl _) (fun m3 e he p6 e6 N6 => ?_) (fun m3 j3 g he p6 y H6 N6 Vy => ?_)⟩
    · rw [he] at hV
      exact K0 m3 e hV.symm p6 e6 ((up1 N5).tr N6)
    · rw [he] at hV vok2
      have hV : (m3, Sum.inr (j3, fun w => 1 - g w)) = V := hV
      have vm : m < m3 := vok2.2.2.2
      have a4 : ix a < hN p5 := by omega
      have ua : hP p6 a 0 = none := by rw [N6.2.2.2.1 a a4 (fun z => apa (List.mem_singleton.mp z))]; exact o6 0
      refine step ?_
      refine And.intro (by omega) ?_
      refine And.intro rfl ?_
      refine Or.inl (c_X14init o2 (fun p7 W7 e0 => ?_))
      have ni6 := N6.1
      have N7 : NX [pa] [] h p7 := (N5.tr N6).w W7 (Or.inr (by have := N4.1; omega)) da.nX
      have a7 : NX [a] [] p6 p7 := NX.rf.w W7 (Or.inl List.mem_cons_self) da.nX
      have H7 := H6.nx a7 (fun z => apa (List.mem_singleton.mp z).symm) (fun z => da.nX (List.mem_singleton.mp z).symm) (fun z => by rw [← List.mem_singleton.mp z] at da; revert da; decide) (by decide) da.n64
      have O7 : OLD p6 p7 := OLD.mk W7 (by omega) ua
      have Vy7 : CND (m3 - m + (10 - dp) - 1) p7 y g := Vy.go (by omega) (by rw [W7.1]; exact Nat.le_refl _) O7
      have V7 : CND (m3 - m + (10 - dp)) p7 a (fun w => 1 - g w) := CND_14 o2 (by rw [W7.1]; omega) da e0 Vy7 (by omega)
      have q7 := H7.2.2.1.1
      refine step ?_
      refine step ?_
      refine step ?_
      refine step ?_
      refine And.intro tpa ?_
      refine Exists.intro _ (And.intro q7 ?_)
      refine step ?_
      refine step ?_
      refine step ?_
      refine And.intro tpa ?_
      rw [show dp + 1 - 1 = dp by omega]
      refine cp_step2 H7 dpb.1 dpb.2 (fun p8 H8 T8 => ?_)
      have ni8 : hN p8 = hN p7 := congrArg (fun z => z.1) T8.1
      refine step ?_
      refine step ?_
      exact K m3 j3 _ hV.symm p8 a H8 (N7.tr (NX.of T8)) (V7.go (Int.le_refl _) (by omega) (OLD.of (NX.of T8) (pa_tag H7)))
set_option maxHeartbeats 1000000 in
theorem fact_of {sh pa : Nat} {T : Int → Int} {n c w : Int} {Q : Nat} (hF : FACT sh pa T n c w Q) (hT : TEST sh pa T n c w Q) : FACT sh pa T n c w (Q + 1) := by
  intro dd mc ms h Φ i m dp H hk hdd hmc hms K0 K
  have i1 := H.1.2.2.2.2.2.2.2.2.1
  have n4 := H.1.2.2.2.2.2.2.2.2.2.1
  have hB := H.1.2.2.2.2.2.2.2.2.2.2
  have dpb := H.2.2.1
  obtain ⟨d, rfl⟩ : ∃ d, dd = d + 9 := ⟨dd - 9, by omega⟩
  have tpa := H.1.2.2.1
  have tp : ((tg pa : Nat) : Int) = 22 := by omega
  have dpa := H.1.2.2.2.2.1
  have mb := H.2.1
  have sk := skp_ok (T := T) i1.2
  have id2 := skp_idem (T := T) i1.2
  have ok := (cndS_ok (T := T) (n := n) (Q + 1) 0 i m dp (fun _ => 0) i1.1 i1.2 mb.2.2).2 rfl hk
  have ok2 := (cndS_ok (T := T) (n := n) (Q + 1) 0 (skp T n i) m dp (fun _ => 0) (by omega) sk.2 mb.2.2).2 rfl (by omega)
  have same : cndS T n (Q + 1) 0 (skp T n i) m dp (fun _ => 0) = cndS T n (Q + 1) 0 i m dp (fun _ => 0) := by
    rw [cnd0, cnd0, id2, cmpS_skp i1.2]
  rw [same] at ok2
  obtain ⟨V, hV⟩ : ∃ V, cndS T n (Q + 1) 0 i m dp (fun _ => 0) = V := ⟨_, rfl⟩
  rw [hV] at K0 K hmc hms ok ok2
  have ca := chg_add (n := n) (i := i) (j := skp T n i) (by omega) sk.2 ok2.r
  rw [cnd0] at hV
  have hR : hP h = hP h := rfl
  refine e_X5_fact ?_; intro k step keep
  repeat (first | refine wxA (by decide) ?_ | refine wxA (by intro z; have z := congrArg ix z; omega) ?_ | refine wxM ?_ | refine wxL ?_ | refine step ?_ | refine Exists.intro _ (And.intro (congrFun ((congrFun hR _).trans fX) _) ?_) | refine Exists.intro _ (And.intro (congrFun ((congrFun hR _).trans fs) _) ?_) | refine Exists.intro _ (And.intro (congrFun ((congrFun hR _).trans fk) _) ?_) | refine Exists.intro _ (And.intro ((congrFun (congrFun hR _) _).trans fH0) ?_) | refine Exists.intro _ (And.intro ((congrFun (congrFun hR _) _).trans fH1) ?_) | refine Exists.intro _ (And.intro ((congrFun (congrFun hR _) _).trans fH2) ?_) | refine Exists.intro _ (And.intro rfl ?_) | refine And.intro rfl ?_ | refine And.intro trivial ?_ | refine And.intro (by assumption) ?_ | (refine And.intro (by intro hz; exfalso; omega) ?_; intro hz9) | refine And.intro (by omega) ?_ | refine And.intro (by simp only [lnX_sIS, lnX_sCE, lnX_sFA, lnX_sFO, lnX_sLE, lnX_sPL, lnX_sBE, lnX_sLD, lnX_kIS, lnX_kCE, lnX_kFA, lnX_kFO, lnX_kLE, lnX_kPL, lnX_kBE, lnX_kLD, lnX_xTA, lnX_xNW, lnX_xNO, lnX_xNE, lnX_xWO, lnX_xPA, lnX_xST, lnX_xFH, lnX_xSH, lnX_xLA, lnX_xSW, lnX_xIM]; omega) ?_ | (refine And.intro ?_ (by intro hz; exfalso; omega); intro hz9))
  refine Or.inl (cp_next H.1 (fun p1 Hx1 F1 => ?_))
  have H1 := H.pf F1 Hx1
  have N1 : NX [pa] [] h p1 := F1.nx
  have q1 := Hx1.2.2.2.2.2.2.2.1
  have hR := Hx1.1
  refine step ?_
  refine And.intro rfl ?_
  refine step ?_
  refine step ?_
  refine And.intro tpa ?_
  refine Exists.intro _ (And.intro q1 ?_)
  refine step ?_
  refine step ?_
  refine step ?_
  refine step ?_
  refine And.intro tp ?_
  refine And.intro rfl ?_
  refine Or.inl (cp_isW' (u := 6) (W := wNOT) (by decide) (by decide) (by decide) H1 (fun p2 r2 hr2 H2 F2 => ?_))
  rw [id2] at hr2 H2
  have N2 : NX [pa] [] h p2 := N1.tr F2.nx
  have q2 := H2.1.2.2.2.2.2.2.2.1
  refine step ?_
  refine And.intro (by omega) ?_
  refine And.intro (fun hc => ?_) (fun hc => ?_)
  · have hno := (hr2.resolve_left (fun z => by omega)).2
    rw [if_neg hno] at hV
    have bb := byF_b (i := skp T n i) hB (by omega) n4
    refine step ?_
    refine step ?_
    refine And.intro tp ?_
    refine And.intro rfl ?_
    refine Or.inl (c_sign H2.1 ?_)
    refine step ?_
    refine step ?_
    refine And.intro (by omega) ?_
    refine And.intro (by omega) ?_
    refine And.intro (fun hd => ?_) (fun hd => ?_)
    · rw [if_neg hd, ← cmpS_skp i1.2] at hV
      exact fact_cmp step tpa H2 N2 dpb.2 (by omega) (by omega) hV K0 K
    · have hd : byF T n (skp T n i) = 91 := hd
      rw [if_pos hd] at hV
      have hjn := byF_lt hd (by decide)
      exact fact_br hT step hdd tpa H2 N2 dpb.2 hjn (by omega) (by omega) (by omega) hV K0 K
  · have hyes := (hr2.resolve_right (fun z => by omega)).2
    rw [if_pos hyes.1] at hV
    exact fact_not hF step hdd tpa H2 N2 dpb.2 hyes.2 (by omega) (by omega) (by omega) hV K0 K
