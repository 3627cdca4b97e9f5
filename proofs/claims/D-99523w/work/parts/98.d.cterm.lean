-- NEEDS: 98
/-! THE COMPONENT'S READER: terms, sums -/
theorem chg_add {n i j m : Int} {W : PRS} (hij : i ≤ j) (hj : j ≤ n) (hW : OKR n j m W) : chg n i W = chg n j W + (j - i).toNat := by
  rcases W with ⟨m2, e | ⟨j2, f⟩⟩
  · show (n - i).toNat = (n - j).toNat + (j - i).toNat
    omega
  · have h1 : j ≤ j2 := hW.2.2.1
    show (j2 - i).toNat = (j2 - j).toNat + (j - i).toNat
    omega
theorem chg_bnd {n i m : Int} {r : PRS} {K : Int → Int → FN → PRS} (i1 : i ≤ n) (hr : OKR n i m r) (hK : ∀ j m2 f, r = (m2, .inr (j, f)) → OKR n j m2 (K j m2 f)) : chg n i r ≤ chg n i (bnd r K) ∧ ∀ j m2 f, r = (m2, .inr (j, f)) → chg n i (bnd r K) = chg n i r + chg n j (K j m2 f) := by
  rcases r with ⟨m2, e | ⟨j, f⟩⟩
  · exact ⟨Nat.le_refl _, fun j m2 f h => by cases h⟩
  · have q := chg_add (i := i) hr.2.2.1 hr.2.2.2 (hK j m2 f rfl)
    refine ⟨?_, fun j2 m3 f2 h => ?_⟩
    · show (j - i).toNat ≤ chg n i (K j m2 f)
      omega
    · cases h
      show chg n i (K j m2 f) = (j - i).toNat + chg n j (K j m2 f)
      omega
theorem one64 {a pa : Nat} {A : List Nat} (h : A = [pa]) (d : DYS pa) : ∀ b ∈ A, 64 ≤ ix b := fun b hb => by
  rw [h] at hb
  exact d.n64 b hb
theorem pa_tag {sh pa : Nat} {h : AH} {T : Int → Int} {n i m dp c w : Int} (H : PY sh pa h T n i m dp c w) : ∀ a ∈ [pa], ¬ (DYS a ∧ 25 ≤ tg a ∧ tg a ≤ 31) := fun a ha z => by
  have t := H.1.2.2.1
  rw [List.mem_singleton.mp ha] at z
  omega
theorem cp_step1 {P : AH → Prop} {sh pa : Nat} {h : AH} {T : Int → Int} {n i m dp c w j : Int} (H : PY sh pa h T n i m dp c w) (j0 : 0 ≤ j) (j1 : j ≤ n) (K : ∀ p, PY sh pa p T n j m dp c w → TX [pa] [] h p → P p) : P (sI h pa 1 j) := by
  obtain ⟨⟨-, -, -, -, dpa, -, -, -, -, -, -⟩, ⟨m0, m1, m2⟩, ⟨q2, d0, d1⟩, ⟨q4, q5, c0, c1, w0, w1⟩, -, -, -⟩ := id H
  refine wxF dpa (fun p e1 ne T1 => ?_)
  exact K p (H.tx T1 e1 j0 j1 (by rw [ne 3 (by omega)]; exact m0) m1 m2 (by rw [ne 2 (by omega)]; exact q2) d0 d1 (by rw [ne 4 (by omega)]; exact q4) c0 c1 (by rw [ne 5 (by omega)]; exact q5)) T1
set_option maxHeartbeats 1000000 in
theorem cp_term {d : Nat} {h : AH} {Φ : OUT → AH → Prop} {mc ms sh pa : Nat} {T : Int → Int} {n i m dp c w : Int} (H : PY sh pa h T n i m dp c w) (hmc : chg n i (terS T n i m) ≤ mc) (hms : 4 * chg n i (terS T n i m) ≤ ms)
    (K0 : ∀ m2 e, terS T n i m = (m2, .inl e) → ∀ p, hI p xWR 0 = e → NX [pa, xWR] [] h p → Φ (.inr xWR) p)
    (K : ∀ m2 j f, terS T n i m = (m2, .inr (j, f)) → ∀ p a, PY sh pa p T n j m2 dp c w → NX [pa] [] h p → VAL (m2 - m) p a f → Φ (.inl (some (vo a))) p) : CT (d + 7) mc ms J_X5_term [vo pa] h Φ := by
  refine e_X5_term ?_; intro k step keep
  have tpa := H.1.2.2.1
  have tp : ((tg pa : Nat) : Int) = 22 := by omega
  have i1 := H.1.2.2.2.2.2.2.2.2.1
  have n1 := H.1.2.2.2.2.2.2.2.2.2.1
  have hB := H.1.2.2.2.2.2.2.2.2.2.2
  have dpa := H.1.2.2.2.2.1
  have mb := H.2.1
  have hR : hP h = hP h := rfl
  have vok := valS_ok (T := T) i1.1 i1.2 mb.2.2
  have up1 : ∀ {p q : AH}, NX [pa] [] p q → NX [pa, xWR] [] p q := fun N => N.up (by intro a ha; rw [List.mem_singleton.mp ha]; simp) (by decide)
  obtain ⟨V, hV⟩ : ∃ V, terS T n i m = V := ⟨_, rfl⟩
  rw [hV] at K0 K hmc hms
  unfold terS at hV
  have loop : ∀ (q : Nat) (i2 m2 : Int) (f : FN) (p : AH) (x cu su : Nat), PY sh pa p T n i2 m2 dp c w → NX [pa] [] h p → VAL (m2 - m) p x f → m < m2 → n - i2 < q → terL T n q i2 m2 f = V → cu + chg n i2 V ≤ mc → su + 4 * chg n i2 V ≤ ms → k cu su 5 [(0, vo pa), (1, vo x)] [] p := by
    intro q
    induction q with
    | zero => intro i2 m2 f p x cu su P N Vx mm hk; have := P.1.2.2.2.2.2.2.2.2.1; omega
    | succ q ih =>
      intro i2 m2 f p x cu su P N Vx mm hk hL hcu hsu
      have i21 := P.1.2.2.2.2.2.2.2.2.1
      have mb2 := P.2.1
      have sk := skp_ok (T := T) i21.2
      have bb := byF_b (i := skp T n i2) hB (by omega) n1
      have hR : hP p = hP p := rfl
      unfold terL at hL
      refine step ?_
      refine step ?_
      refine And.intro tp ?_
      refine And.intro rfl ?_
      refine Or.inl (cp_next P.1 (fun p1 Hx1 F1 => ?_))
      have H1 := P.pf F1 Hx1
      have N1 := N.tr F1.nx
      have ni1 : hN p1 = hN p := congrArg (fun z => z.1) F1.1.1
      have O1 : OLD p p1 := OLD.of F1.nx (pa_tag P)
      have go : isMul (byF T n (skp T n i2)) → k cu su 32 [(0, vo pa), (1, vo x)] [] p1 := by
        intro hc
        rw [if_pos hc] at hL
        have hjn : skp T n i2 < n := by rcases hc with z | z | z <;> exact byF_lt z (by decide)
        have vok2 := valS_ok (T := T) (n := n) (i := skp T n i2 + 1) (m := m2) (by omega) (by omega) mb2.2.2
        have kok : ∀ j m3 g, valS T n (skp T n i2 + 1) m2 = (m3, .inr (j, g)) → OKR n j m3 (terL T n q j m3 (fun w => oneS (opc (byF T n (skp T n i2))) (f w) (g w))) := fun j m3 g e => by
          rw [e] at vok2
          exact terL_ok q j m3 _ (by have := vok2.2.2.1.1; omega) vok2.2.2.1.2 vok2.2.1
        obtain ⟨cb1, cb2⟩ := chg_bnd (n := n) (i := skp T n i2 + 1) (m := m2) (by omega) vok2.r kok
        have okW : OKR n (skp T n i2 + 1) m2 V := by
          rw [← hL]
          exact bnd_OKR vok2.r (fun j m3 g a1 a2 a3 a4 => terL_ok q j m3 _ (by omega) a2 a4)
        have ca := chg_add (n := n) (i := i2) (j := skp T n i2 + 1) (by omega) (by omega) okW
        rw [hL] at cb1 cb2
        have q1 := Hx1.2.2.2.2.2.2.2.1
        refine step ?_
        refine step ?_
        refine And.intro tp ?_
        refine And.intro rfl ?_
        refine Or.inl (c_sign Hx1 ?_)
        refine step ?_
        refine step ?_
        refine step ?_
        refine step ?_
        refine And.intro tpa ?_
        refine Exists.intro _ (And.intro q1 ?_)
        refine step ?_
        refine step ?_
        refine step ?_
        refine And.intro tpa ?_
        refine cp_step1 H1 (by omega) (by omega) (fun p2 H2 T2 => ?_)
        have n2 := H2.2.2.2.2.2.1
        have ni2 : hN p2 = hN p1 := congrArg (fun z => z.1) T2.1
        have O2 : OLD p1 p2 := OLD.of (NX.of T2) (pa_tag P)
        refine step ?_
        refine And.intro rfl ?_
        refine And.intro (by omega) ?_
        refine And.intro (by omega) ?_
        generalize ea : nwA p2 27 0 = a
        generalize eq : nwH p2 27 0 = p3
        obtain ⟨o1, o2, o3, o4, o5, o6, o7⟩ := nw_ok ea eq (by decide) (by decide) n2.2
        have da := nw_dy o1 n2.2
        have apa : a ≠ pa := fun z => by rw [z] at o1; omega
        have H3 := H2.nx o7 (by simp) (by simp) (by simp) (by decide) (by simp)
        have N3 := (N1.tr (NX.of T2)).tr (o7.up (A' := [pa]) (B' := []) (by simp) (by simp))
        have O3 : OLD p2 p3 := OLD.of o7 (by simp)
        refine step ?_
        refine step ?_
        refine step ?_
        refine step ?_
        refine And.intro tp ?_
        refine And.intro rfl ?_
        refine Or.inr ⟨chg n (skp T n i2 + 1) (valS T n (skp T n i2 + 1) m2), 4 * chg n (skp T n i2 + 1) (valS T n (skp T n i2 + 1) m2), by omega, by omega, cp_value H3 (Nat.le_refl _) (Nat.le_refl _) (fun m3 e he p4 e4 N4 => ?_) (fun m3 j3 g he p4 y H4 N4 Vy => ?_)⟩
        · rw [he] at hL
          exact K0 m3 e hL.symm p4 e4 ((up1 N3).tr N4)
        · have cb3 := cb2 j3 m3 g he
          rw [he] at hL vok2
          have hL : terL T n q j3 m3 (fun w => oneS (opc (byF T n (skp T n i2))) (f w) (g w)) = V := hL
          rw [hL] at cb3
          have vm : m2 < m3 := vok2.2.2.2
          have vj : skp T n i2 + 1 < j3 := vok2.2.2.1.1
          have a4 : ix a < hN p3 := by omega
          have ua : hP p4 a 0 = none := by rw [N4.2.2.2.1 a a4 (fun z => apa (List.mem_singleton.mp z))]; exact o6 0
          refine step ?_
          refine step ?_
          refine And.intro (by omega) ?_
          refine And.intro rfl ?_
          refine Or.inl (c_X11init o2 (fun p5 W5 e0 e1 e2 => ?_))
          have ni4 := N4.1
          have N5 : NX [pa] [] h p5 := (N3.tr N4).w W5 (Or.inr (by have := N1.1; omega)) da.nX
          have a5 : NX [a] [] p4 p5 := NX.rf.w W5 (Or.inl List.mem_cons_self) da.nX
          have H5 := H4.nx a5 (fun z => apa (List.mem_singleton.mp z).symm) (fun z => da.nX (List.mem_singleton.mp z).symm) (fun z => by rw [← List.mem_singleton.mp z] at da; revert da; decide) (by decide) da.n64
          have O5 : OLD p4 p5 := OLD.mk W5 (by omega) ua
          have Vx5 : VAL (m3 - m - 1) p5 x f := ((((Vx.go (Int.le_refl _) (by omega) O1).go (Int.le_refl _) (by omega) O2).go (Int.le_refl _) (by omega) O3).go (Int.le_refl _) ni4 (OLD.of N4 (pa_tag P))).go (by omega) (by rw [W5.1]; exact Nat.le_refl _) O5
          have Vy5 : VAL (m3 - m - 1) p5 y g := Vy.go (by omega) (by rw [W5.1]; exact Nat.le_refl _) O5
          have V5 : VAL (m3 - m) p5 a (fun w => oneS (opc (byF T n (skp T n i2))) (f w) (g w)) := VAL_11 o2 (by rw [W5.1]; omega) da e0 e1 e2 (Or.inl hc) Vx5 Vy5 (by omega)
          refine step ?_
          refine step ?_
          have cz : chg n i2 V = chg n (skp T n i2 + 1) V + (skp T n i2 + 1 - i2).toNat := ca
          exact keep [0, 1] (ih j3 m3 _ p5 a _ _ H5 N5 V5 (by omega) (by omega) hL (by omega) (by omega))
      have q1 := Hx1.2.2.2.2.2.2.2.1
      refine step ?_
      refine step ?_
      refine And.intro (by omega) ?_
      refine And.intro (by omega) ?_
      refine And.intro (fun h1 => ?_) (fun h1 => ?_)
      · exact go (Or.inl h1)
      · refine step ?_
        refine step ?_
        refine And.intro tp ?_
        refine And.intro rfl ?_
        refine Or.inl (c_sign Hx1 ?_)
        refine step ?_
        refine step ?_
        refine And.intro (by omega) ?_
        refine And.intro (by omega) ?_
        refine And.intro (fun h2 => ?_) (fun h2 => ?_)
        · exact go (Or.inr (Or.inl h2))
        · refine step ?_
          refine step ?_
          refine And.intro tp ?_
          refine And.intro rfl ?_
          refine Or.inl (c_sign Hx1 ?_)
          refine step ?_
          refine step ?_
          refine And.intro (by omega) ?_
          refine And.intro (by omega) ?_
          refine And.intro (fun h3 => ?_) (fun h3 => ?_)
          · rw [if_neg (by omega)] at hL
            refine step ?_
            refine step ?_
            exact K m2 _ f hL.symm p1 x H1 N1 (Vx.go (Int.le_refl _) (by omega) O1)
          · exact go (Or.inr (Or.inr h3))
  have vok3 := vok
  have kok0 : ∀ j m3 g, valS T n i m = (m3, .inr (j, g)) → OKR n j m3 (terL T n (n - j + 1).toNat j m3 g) := fun j m3 g e => by
    rw [e] at vok
    exact terL_ok _ j m3 _ (by have := vok.2.2.1.1; omega) vok.2.2.1.2 vok.2.1
  obtain ⟨cb1, cb2⟩ := chg_bnd (n := n) (i := i) (m := m) i1.2 vok.r kok0
  rw [hV] at cb1 cb2
  refine step ?_
  refine step ?_
  refine And.intro tp ?_
  refine And.intro rfl ?_
  refine Or.inr ⟨chg n i (valS T n i m), 4 * chg n i (valS T n i m), by omega, by omega, cp_value H (Nat.le_refl _) (Nat.le_refl _) (fun m3 e he p4 e4 N4 => ?_) (fun m3 j3 g he p4 y H4 N4 Vy => ?_)⟩
  · rw [he] at hV
    exact K0 m3 e hV.symm p4 e4 N4
  · have cb3 := cb2 j3 m3 g he
    rw [he] at hV vok3
    have hV : terL T n (n - j3 + 1).toNat j3 m3 g = V := hV
    rw [hV] at cb3
    have vm : m < m3 := vok3.2.2.2
    have vj := vok3.2.2.1
    refine step ?_
    exact loop (n - j3 + 1).toNat j3 m3 g p4 y _ _ H4 N4 Vy vm (by have : j3 ≤ n := vj.2; omega) hV (by omega) (by omega)
