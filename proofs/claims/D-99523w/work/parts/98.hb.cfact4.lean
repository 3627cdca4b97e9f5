-- NEEDS: 98
/-! THE COMPONENT'S READER: facts: comparisons -/
theorem cmpK_skp {T : Int → Int} {n j m2 : Int} {f : FN} (h2 : j ≤ n) (j0 : 0 ≤ j) (h4 : m2 ≤ 60) : OKR n (skp T n j) m2 (cmpK T n j m2 f) := by
  have sk := skp_ok (T := T) h2
  have q := cmpK_ok (T := T) (f := f) (show 0 ≤ skp T n j by omega) sk.2 h4
  unfold cmpK at q ⊢
  rw [skp_idem h2] at q
  exact q
set_option maxHeartbeats 1000000 in
theorem fact_cmp {d mc ms sh pa : Nat} {T : Int → Int} {n i m dp c w : Int} {h p2 : AH} {Φ : OUT → AH → Prop} {V : PRS} {k : KT} (step : STP (d + 8) mc ms Φ C_X5_fact k) (tpa : tg pa = 22) (H2 : PY sh pa p2 T n i m dp c w) (N2 : NX [pa] [] h p2) (dpb : 0 ≤ dp ∧ dp ≤ 10) (hmc : chg n i V ≤ mc) (hms : 4 * chg n i V ≤ ms) (hV : cmpS T n i m = V)
    (K0 : ∀ m2 e, V = (m2, .inl e) → ∀ p, hI p xWR 0 = e → NX [pa, xWR] [] h p → Φ (.inr xWR) p)
    (K : ∀ m2 j f, V = (m2, .inr (j, f)) → ∀ p a, PY sh pa p T n j m2 dp c w → NX [pa] [] h p → CND (m2 - m + (10 - dp)) p a f → Φ (.inl (some (vo a))) p) : k 0 0 131 [(0, vo pa), (1, vi i)] [] p2 := by
  have tp : ((tg pa : Nat) : Int) = 22 := by omega
  have dpa := H2.1.2.2.2.2.1
  have up1 : ∀ {p q : AH}, NX [pa] [] p q → NX [pa, xWR] [] p q := fun N => N.up (by intro a ha; rw [List.mem_singleton.mp ha]; simp) (by decide)
  have sk := H2.1.2.2.2.2.2.2.2.2.1
  have n4 := H2.1.2.2.2.2.2.2.2.2.2.1
  have hB := H2.1.2.2.2.2.2.2.2.2.2.2
  have mb := H2.2.1
  have q2 := H2.1.2.2.2.2.2.2.2.1
  have qs : hI p2 pa 1 = i := q2
  have sok := smS_ok (T := T) (n := n) (i := i) (m := m) (by omega) sk.2 mb.2.2
  have sok2 := sok
  have cok := cmpS_ok (T := T) (n := n) (i := i) (m := m) (by omega) sk.2 mb.2.2
  rw [hV] at cok
  unfold cmpS at hV
  refine step ?_
  refine step ?_
  refine And.intro tp ?_
  refine And.intro rfl ?_
  have ch1 : chg n (i) (smS T n (i) m) ≤ chg n (i) V := by
    rcases hs : smS T n (i) m with ⟨m1, e | ⟨j0, f⟩⟩
    · rw [hs] at hV
      have hV : ((m1, .inl e) : PRS) = V := hV
      rw [← hV]
      exact Nat.le_refl _
    · rw [hs] at sok
      have s1 : i < j0 ∧ j0 ≤ n := sok.2.2.1
      rw [hs] at hV
      have ko := cmpK_ok (T := T) (n := n) (j := j0) (m2 := m1) (f := f) (by omega) s1.2 sok.2.1
      have hV : cmpK T n j0 m1 f = V := hV
      rw [hV] at ko
      have := chg_add (n := n) (i := i) (j := j0) (by omega) s1.2 ko
      show (j0 - i).toNat ≤ _
      omega
  refine Or.inr ⟨chg n (i) (smS T n (i) m), 4 * chg n (i) (smS T n (i) m), by omega, by omega, cp_sum H2 (Nat.le_refl _) (Nat.le_refl _) (fun m3 e he p3 e3 N3 => ?_) (fun m1 j0 f he p3 x H3 N3 Vx => ?_)⟩
  · rw [he] at hV
    exact K0 m3 e hV.symm p3 e3 ((up1 N2).tr N3)
  · rw [he] at hV sok2
    have s1 : i < j0 ∧ j0 ≤ n := sok2.2.2.1
    have s2 : m < m1 := sok2.2.2.2
    have s3 : m1 ≤ 60 := sok2.2.1
    have ko := cmpK_ok (T := T) (n := n) (j := j0) (m2 := m1) (f := f) (by omega) s1.2 s3
    have hV : cmpK T n j0 m1 f = V := hV
    rw [hV] at ko
    have ca1 := chg_add (n := n) (i := i) (j := j0) (by omega) s1.2 ko
    have c0 : chg n (i) (smS T n (i) m) = (j0 - i).toNat := by rw [he]; rfl
    rw [c0]
    have hV0 := hV
    unfold cmpK at hV
    have N3' := N2.tr N3
    have sk0 := skp_ok (T := T) s1.2
    refine step ?_
    refine step ?_
    refine step ?_
    refine And.intro tp ?_
    refine And.intro rfl ?_
    refine Or.inl (cp_next H3.1 (fun p4 Hx4 F4 => ?_))
    have H4 := H3.pf F4 Hx4
    have N4 := N3'.tr F4.nx
    have ni4 : hN p4 = hN p3 := congrArg (fun z => z.1) F4.1.1
    have Vx4 := Vx.go (Int.le_refl _) (by omega) (OLD.of F4.nx (pa_tag H3))
    have q4 := Hx4.2.2.2.2.2.2.2.1
    have r4 := Hx4.2.1
    have r4' := Hx4.2.2.2.1
    have hR := Hx4.1
    generalize hJ : skp T n j0 = j at *
    have bb := byF_b (i := j) hB (by omega) n4
    obtain ⟨ch, hC⟩ : ∃ ch, byF T n j = ch := ⟨_, rfl⟩
    rw [hC] at bb ⊢
    have go : (ch = 60 ∨ ch = 61 ∨ ch = 62) → ∀ cu su, cu = (j0 - i).toNat → su = 4 * (j0 - i).toNat → k cu su 172 [(0, vo pa), (1, vi i), (2, vo x), (3, vi ch)] [] p4 := by
      intro hc cu su hcu hsu
      have hV := hV
      rw [if_pos (by rw [hC]; exact hc)] at hV
      have ko2 : OKR n j m1 V := by
        have q := cmpK_skp (T := T) (f := f) s1.2 (by omega) s3
        rw [hJ, hV0] at q
        exact q
      have ca2 := chg_add (n := n) (i := j0) (j := j) (by omega) (by omega) ko2
      exact fact_cnt step tpa H4 N4 Vx4 s2 dpb hC hc (by omega) (by omega) hV K0 K
    refine step ?_
    refine step ?_
    refine step ?_
    refine step ?_
    refine And.intro (by omega) ?_
    refine And.intro (by omega) ?_
    refine And.intro (fun z => ?_) (fun z1 => ?_)
    · exact go (Or.inl z) _ _ (by omega) (by omega)
    · refine step ?_
      refine step ?_
      refine step ?_
      refine And.intro (by omega) ?_
      refine And.intro (by omega) ?_
      refine And.intro (fun z => ?_) (fun z2 => ?_)
      · exact go (Or.inr (Or.inl z)) _ _ (by omega) (by omega)
      · refine step ?_
        refine step ?_
        refine step ?_
        refine And.intro (by omega) ?_
        refine And.intro (by omega) ?_
        refine And.intro (fun z => ?_) (fun z3 => ?_)
        · exact go (Or.inr (Or.inr z)) _ _ (by omega) (by omega)
        · rw [if_neg (by rw [hC]; omega)] at hV
          have hR4 : hP p4 = hP p4 := rfl
          have r4 : hP p4 X = XP sh := H4.1.2.1
          have r4' : hP p4 pa 6 = some X := H4.1.2.2.2.1
          refine step ?_
          refine step ?_
          refine And.intro tpa ?_
          refine Exists.intro _ (And.intro r4' ?_)
          refine step ?_
          refine step ?_
          refine step ?_
          refine And.intro tpa ?_
          refine Exists.intro _ (And.intro q4 ?_)
          refine step ?_
          refine And.intro rfl ?_
          refine And.intro rfl ?_
          refine Or.inl (cp_fails rfl r4 (fun p5 hR5 e5 T5 => ?_))
          refine step ?_
          refine And.intro rfl ?_
          exact K0 m1 _ hV.symm p5 e5 ((up1 N4).tr (NX.of (T5.up (by intro a ha; rw [List.mem_singleton.mp ha]; simp) (by decide))))
