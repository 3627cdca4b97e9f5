-- NEEDS: 98
/-! THE COMPONENT'S READER: facts -/
theorem c_X13init {d : Nat} {h : AH} {Φ : OUT → AH → Prop} {a : Nat} (ta : tg a ≠ 10) (K : Φ (.inl none) h) : CT (d + 1) 0 0 J_X13_init [vo a] h Φ := by
  refine e_X13_init ?_; intro k step keep
  refine step ?_
  refine step ?_
  refine And.intro ta ?_
  refine And.intro rfl ?_
  refine step ?_
  exact K
theorem c_X14init {d : Nat} {h : AH} {Φ : OUT → AH → Prop} {a x : Nat} (ta : tg a = 29) (K : ∀ q, WX a h q → hP q a 0 = some x → Φ (.inl none) q) : CT (d + 2) 0 0 J_X14_init [vo a, vo x] h Φ := by
  refine e_X14_init ?_; intro k step keep
  have tn : tg a ≠ 10 := by omega
  refine step ?_
  refine step ?_
  refine And.intro tn ?_
  refine And.intro rfl ?_
  refine Or.inl (c_X13init tn ?_)
  refine step ?_
  refine step ?_
  refine step ?_
  refine And.intro ta ?_
  refine wpP (fun q W e _ => ?_)
  refine step ?_
  exact K q W (by rw [e]; exact if_pos rfl)
theorem c_X15init {d : Nat} {h : AH} {Φ : OUT → AH → Prop} {a x y : Nat} {s b : Int} (ta : tg a = 30) (b01 : b = 0 ∨ b = 1) (K : ∀ q, WX a h q → hP q a 0 = some x → hP q a 1 = some y → hI q a 2 = s → hI q a 3 = b → Φ (.inl none) q) : CT (d + 2) 0 0 J_X15_init [vo a, vo x, vo y, vi s, vi b] h Φ := by
  refine e_X15_init ?_; intro k step keep
  have tn : tg a ≠ 10 := by omega
  refine step ?_
  refine step ?_
  refine And.intro tn ?_
  refine And.intro rfl ?_
  refine Or.inl (c_X13init tn ?_)
  refine step ?_
  refine step ?_
  refine step ?_
  refine And.intro ta ?_
  refine wpP (fun q1 W1 e1 g1 => ?_)
  refine step ?_
  refine step ?_
  refine step ?_
  refine And.intro ta ?_
  refine wpP (fun q2 W2 e2 g2 => ?_)
  refine step ?_
  refine step ?_
  refine step ?_
  refine And.intro ta ?_
  refine wpI (fun q3 W3 e3 g3 => ?_)
  refine step ?_
  refine step ?_
  refine step ?_
  refine And.intro ta ?_
  refine And.intro b01 ?_
  refine wpI (fun q4 W4 e4 g4 => ?_)
  refine step ?_
  exact K q4 (((W1.tr W2).tr W3).tr W4) (by rw [g4, g3, e2, if_neg (by decide), e1, if_pos rfl]) (by rw [g4, g3, e2, if_pos rfl]) (by rw [e4, if_neg (by decide), e3, if_pos rfl]) (by rw [e4, if_pos rfl])
theorem c_X16init {d : Nat} {h : AH} {Φ : OUT → AH → Prop} {a x y : Nat} {o : Int} (ta : tg a = 31) (o01 : o = 0 ∨ o = 1) (K : ∀ q, WX a h q → hP q a 0 = some x → hP q a 1 = some y → hI q a 2 = o → Φ (.inl none) q) : CT (d + 2) 0 0 J_X16_init [vo a, vo x, vo y, vi o] h Φ := by
  refine e_X16_init ?_; intro k step keep
  have tn : tg a ≠ 10 := by omega
  refine step ?_
  refine step ?_
  refine And.intro tn ?_
  refine And.intro rfl ?_
  refine Or.inl (c_X13init tn ?_)
  refine step ?_
  refine step ?_
  refine step ?_
  refine And.intro ta ?_
  refine wpP (fun q1 W1 e1 g1 => ?_)
  refine step ?_
  refine step ?_
  refine step ?_
  refine And.intro ta ?_
  refine wpP (fun q2 W2 e2 g2 => ?_)
  refine step ?_
  refine step ?_
  refine step ?_
  refine And.intro ta ?_
  refine And.intro o01 ?_
  refine wpI (fun q3 W3 e3 g3 => ?_)
  refine step ?_
  exact K q3 ((W1.tr W2).tr W3) (by rw [g3, e2, if_neg (by decide), e1, if_pos rfl]) (by rw [g3, e2, if_pos rfl]) (by rw [e3, if_pos rfl])
theorem cp_isW' {d : Nat} {h : AH} {Φ : OUT → AH → Prop} {u S W : Nat} (hu : u < 18) (hS : extAd (4 + 2 * u) = S) (hW : txN u = W) {sh pa : Nat} {T : Int → Int} {n i m dp c w : Int} (H : PY sh pa h T n i m dp c w)
    (K : ∀ p r, (r = 1 ∧ wdB T n (skp T n i) W = true ∧ lep T n (skp T n i) - skp T n i = txL u) ∨ (r = 0 ∧ ¬ wdB T n (skp T n i) W = true) → PY sh pa p T n (skp T n i) m dp c w → PF pa h p → Φ (.inl (some (vi r))) p) : CT (d + 5) 0 0 J_X5_isWord [vo pa, vo S] h Φ := by
  subst hS
  subst hW
  exact cp_isW H hu K
theorem cp_takes' {d : Nat} {h : AH} {Φ : OUT → AH → Prop} {u S W : Nat} (hu : u < 18) (hS : extAd (4 + 2 * u) = S) (hW : txN u = W) {sh pa : Nat} {T : Int → Int} {n i m dp c w : Int} (H : PY sh pa h T n i m dp c w)
    (K0 : ¬ wdB T n (skp T n i) W = true → ∀ p, PY sh pa p T n (skp T n i) m dp c w → TX [pa] [] h p → Φ (.inl (some (vi 0))) p)
    (K : wdB T n (skp T n i) W = true → ∀ p, PY sh pa p T n (lep T n (skp T n i)) m dp c w → TX [pa] [] h p → Φ (.inl (some (vi 1))) p) : CT (d + 6) 0 0 J_X5_takes [vo pa, vo S] h Φ := by
  subst hS
  subst hW
  exact cp_takes H hu K0 K
theorem cp_step2 {P : AH → Prop} {sh pa : Nat} {h : AH} {T : Int → Int} {n i m dp c w v : Int} (H : PY sh pa h T n i m dp c w) (v0 : 0 ≤ v) (v1 : v ≤ 10) (K : ∀ p, PY sh pa p T n i m v c w → TX [pa] [] h p → P p) : P (sI h pa 2 v) := by
  obtain ⟨⟨-, -, -, -, dpa, -, -, q1, ⟨i0, i1⟩, -, -⟩, ⟨m0, m1, m2⟩, ⟨q2, d0, d1⟩, ⟨q4, q5, c0, c1, w0, w1⟩, -, -, -⟩ := id H
  refine wxF dpa (fun p e1 ne T1 => ?_)
  exact K p (H.tx T1 (by rw [ne 1 (by omega)]; exact q1) i0 i1 (by rw [ne 3 (by omega)]; exact m0) m1 m2 e1 v0 v1 (by rw [ne 4 (by omega)]; exact q4) c0 c1 (by rw [ne 5 (by omega)]; exact q5)) T1
def FACT (sh pa : Nat) (T : Int → Int) (n c w : Int) (q : Nat) : Prop := ∀ (dd mc ms : Nat) (h : AH) (Φ : OUT → AH → Prop) (i m dp : Int), PY sh pa h T n i m dp c w → n - i < q → 3 * (10 - dp) + 9 ≤ dd → chg n i (cndS T n q 0 i m dp (fun _ => 0)) ≤ mc → 4 * chg n i (cndS T n q 0 i m dp (fun _ => 0)) ≤ ms →
    (∀ m2 e, cndS T n q 0 i m dp (fun _ => 0) = (m2, .inl e) → ∀ p, hI p xWR 0 = e → NX [pa, xWR] [] h p → Φ (.inr xWR) p) →
    (∀ m2 j f, cndS T n q 0 i m dp (fun _ => 0) = (m2, .inr (j, f)) → ∀ p a, PY sh pa p T n j m2 dp c w → NX [pa] [] h p → CND (m2 - m + (10 - dp)) p a f → Φ (.inl (some (vo a))) p) → CT dd mc ms J_X5_fact [vo pa] h Φ
def PART (sh pa : Nat) (T : Int → Int) (n c w : Int) (q : Nat) : Prop := ∀ (dd mc ms : Nat) (h : AH) (Φ : OUT → AH → Prop) (i m dp : Int), PY sh pa h T n i m dp c w → n - i < q → 3 * (10 - dp) + 10 ≤ dd → chg n i (parS T n q i m dp) ≤ mc → 4 * chg n i (parS T n q i m dp) ≤ ms →
    (∀ m2 e, parS T n q i m dp = (m2, .inl e) → ∀ p, hI p xWR 0 = e → NX [pa, xWR] [] h p → Φ (.inr xWR) p) →
    (∀ m2 j f, parS T n q i m dp = (m2, .inr (j, f)) → ∀ p a, PY sh pa p T n j m2 dp c w → NX [pa] [] h p → CND (m2 - m + (10 - dp)) p a f → Φ (.inl (some (vo a))) p) → CT dd mc ms J_X5_part [vo pa] h Φ
def TEST (sh pa : Nat) (T : Int → Int) (n c w : Int) (q : Nat) : Prop := ∀ (dd mc ms : Nat) (h : AH) (Φ : OUT → AH → Prop) (i m dp : Int), PY sh pa h T n i m dp c w → n - i < q → 3 * (10 - dp) + 11 ≤ dd → chg n i (tesS T n q i m dp) ≤ mc → 4 * chg n i (tesS T n q i m dp) ≤ ms →
    (∀ m2 e, tesS T n q i m dp = (m2, .inl e) → ∀ p, hI p xWR 0 = e → NX [pa, xWR] [] h p → Φ (.inr xWR) p) →
    (∀ m2 j f, tesS T n q i m dp = (m2, .inr (j, f)) → ∀ p a, PY sh pa p T n j m2 dp c w → NX [pa] [] h p → CND (m2 - m + (10 - dp)) p a f → Φ (.inl (some (vo a))) p) → CT dd mc ms J_X5_test [vo pa] h Φ
set_option maxHeartbeats 1000000 in
theorem part_of {sh pa : Nat} {T : Int → Int} {n c w : Int} {Q : Nat} (hF : ∀ q, q ≤ Q → FACT sh pa T n c w q) : PART sh pa T n c w Q := by
  intro dd mc ms h Φ i m dp H hk hdd hmc hms K0 K
  have i1 := H.1.2.2.2.2.2.2.2.2.1
  have dpb := H.2.2.1
  obtain ⟨d, rfl⟩ : ∃ d, dd = d + 1 := ⟨dd - 1, by omega⟩
  have tpa := H.1.2.2.1
  have tp : ((tg pa : Nat) : Int) = 22 := by omega
  have dpa := H.1.2.2.2.2.1
  have mb := H.2.1
  have up1 : ∀ {p q : AH}, NX [pa] [] p q → NX [pa, xWR] [] p q := fun N => N.up (by intro a ha; rw [List.mem_singleton.mp ha]; simp) (by decide)
  obtain ⟨V, hV⟩ : ∃ V, parS T n Q i m dp = V := ⟨_, rfl⟩
  rw [hV] at K0 K hmc hms
  unfold parS at hV
  refine e_X5_part ?_; intro k step keep
  have loop : ∀ (q : Nat) (i2 m2 : Int) (f : FN) (p : AH) (x cu su : Nat), q ≤ Q → PY sh pa p T n i2 m2 dp c w → NX [pa] [] h p → CND (m2 - m + (10 - dp)) p x f → m < m2 → n - i2 < q → cndS T n q 1 i2 m2 dp f = V → cu + chg n i2 V ≤ mc → su + 4 * chg n i2 V ≤ ms → k cu su 5 [(0, vo pa), (1, vo x)] [] p := by
    intro q
    induction q with
    | zero => intro i2 m2 f p x cu su hq P N Vx mm hk; have := P.1.2.2.2.2.2.2.2.2.1; omega
    | succ q ih =>
      intro i2 m2 f p x cu su hq P N Vx mm hk hL hcu hsu
      have i21 := P.1.2.2.2.2.2.2.2.2.1
      have mb2 := P.2.1
      have sk := skp_ok (T := T) i21.2
      rw [cnd1] at hL
      refine step ?_
      refine step ?_
      refine step ?_
      refine And.intro tp ?_
      refine And.intro rfl ?_
      obtain ⟨d6, rfl⟩ : ∃ d6, d = d6 + 6 := ⟨d - 6, by omega⟩
      refine Or.inl (cp_takes' (u := 7) (W := wAND) (by decide) (by decide) (by decide) P (fun hw p1 H1 T1 => ?_) (fun hw p1 H1 T1 => ?_))
      · rw [if_neg hw] at hL
        have ni1 : hN p1 = hN p := congrArg (fun z => z.1) T1.1
        refine step ?_
        refine And.intro (by omega) ?_
        refine And.intro (fun _ => ?_) (fun z => absurd rfl z)
        refine step ?_
        refine step ?_
        exact K m2 _ f hL.symm p1 x H1 (N.tr (NX.of T1)) (Vx.go (Int.le_refl _) (by omega) (OLD.of (NX.of T1) (pa_tag P)))
      · rw [if_pos hw] at hL
        have lpp := (wdB_iff.mp hw).1
        have lp := lep_ok (T := T) sk.2
        have N1 := N.tr (NX.of T1)
        have ni1 : hN p1 = hN p := congrArg (fun z => z.1) T1.1
        have O1 : OLD p p1 := OLD.of (NX.of T1) (pa_tag P)
        have vok := (cndS_ok (T := T) (n := n) q 0 (lep T n (skp T n i2)) m2 dp (fun _ => 0) (by omega) lp.2 mb2.2.2).2 rfl (by omega)
        have vok2 := vok
        have kok : ∀ j m3 g, cndS T n q 0 (lep T n (skp T n i2)) m2 dp (fun _ => 0) = (m3, .inr (j, g)) → OKR n j m3 (cndS T n q 1 j m3 dp (fun w => oneS 12 (f w) (g w))) := fun j m3 g e => by
          rw [e] at vok
          exact (cndS_ok q 1 j m3 dp _ (by have := vok.2.2.1.1; omega) vok.2.2.1.2 vok.2.1).1
        obtain ⟨cb1, cb2⟩ := chg_bnd (n := n) (i := lep T n (skp T n i2)) (m := m2) lp.2 vok2.r kok
        have okW : OKR n (lep T n (skp T n i2)) m2 V := by
          rw [← hL]
          exact bnd_OKR vok2.r (fun j m3 g a1 a2 a3 a4 => (cndS_ok q 1 j m3 dp _ (by omega) a2 a4).1)
        have ca := chg_add (n := n) (i := i2) (j := lep T n (skp T n i2)) (by omega) lp.2 okW
        rw [hL] at cb1 cb2
        have n2 := H1.2.2.2.2.2.1
        refine step ?_
        refine And.intro (by omega) ?_
        refine And.intro (fun z => by omega) (fun _ => ?_)
        refine step ?_
        refine And.intro rfl ?_
        refine And.intro (by omega) ?_
        refine And.intro (by omega) ?_
        generalize ea : nwA p1 31 0 = a
        generalize eq : nwH p1 31 0 = p3
        obtain ⟨o1, o2, o3, o4, o5, o6, o7⟩ := nw_ok ea eq (by decide) (by decide) n2.2
        have da := nw_dy o1 n2.2
        have apa : a ≠ pa := fun z => by rw [z] at o1; omega
        have H3 := H1.nx o7 (by simp) (by simp) (by simp) (by decide) (by simp)
        have N3 := N1.tr (o7.up (A' := [pa]) (B' := []) (by simp) (by simp))
        have O3 : OLD p1 p3 := OLD.of o7 (by simp)
        refine step ?_
        refine step ?_
        refine step ?_
        refine step ?_
        refine And.intro tp ?_
        refine And.intro rfl ?_
        refine Or.inr ⟨chg n (lep T n (skp T n i2)) (cndS T n q 0 (lep T n (skp T n i2)) m2 dp (fun _ => 0)), 4 * chg n (lep T n (skp T n i2)) (cndS T n q 0 (lep T n (skp T n i2)) m2 dp (fun _ => 0)), by omega, by omega, hF q (by omega) _ _ _ p3 _ _ m2 dp H3 (by omega) (by omega) (Nat.le_refl _) (Nat.le_refl _) (fun m3 e he p4 e4 N4 => ?_) (fun m3 j3 g he p4 y H4 N4 Vy => ?_)⟩
        · rw [he] at hL
          exact K0 m3 e hL.symm p4 e4 ((up1 N3).tr N4)
        · have cb3 := cb2 j3 m3 g he
          rw [he] at hL vok2
          have hL : cndS T n q 1 j3 m3 dp (fun w => oneS 12 (f w) (g w)) = V := hL
          rw [hL] at cb3
          have vm : m2 < m3 := vok2.2.2.2
          have vj : lep T n (skp T n i2) < j3 := vok2.2.2.1.1
          have a4 : ix a < hN p3 := by omega
          have ua : hP p4 a 0 = none := by rw [N4.2.2.2.1 a a4 (fun z => apa (List.mem_singleton.mp z))]; exact o6 0
          refine step ?_
          refine step ?_
          refine And.intro (by omega) ?_
          refine And.intro rfl ?_
          refine Or.inl (c_X16init o2 (Or.inl rfl) (fun p5 W5 e0 e1 e2 => ?_))
          have ni4 := N4.1
          have N5 : NX [pa] [] h p5 := (N3.tr N4).w W5 (Or.inr (by have := N1.1; omega)) da.nX
          have a5 : NX [a] [] p4 p5 := NX.rf.w W5 (Or.inl List.mem_cons_self) da.nX
          have H5 := H4.nx a5 (fun z => apa (List.mem_singleton.mp z).symm) (fun z => da.nX (List.mem_singleton.mp z).symm) (fun z => by rw [← List.mem_singleton.mp z] at da; revert da; decide) (by decide) da.n64
          have O5 : OLD p4 p5 := OLD.mk W5 (by omega) ua
          have Vx5 : CND (m3 - m + (10 - dp) - 1) p5 x f := (((Vx.go (Int.le_refl _) (by omega) O1).go (Int.le_refl _) (by omega) O3).go (Int.le_refl _) ni4 (OLD.of N4 (pa_tag P))).go (by omega) (by rw [W5.1]; exact Nat.le_refl _) O5
          have Vy5 : CND (m3 - m + (10 - dp) - 1) p5 y g := Vy.go (by omega) (by rw [W5.1]; exact Nat.le_refl _) O5
          have V5 : CND (m3 - m + (10 - dp)) p5 a (fun w => oneS 12 (f w) (g w)) := CND_16 o2 (by rw [W5.1]; omega) da e0 e1 e2 (Or.inl rfl) Vx5 Vy5 (by omega)
          refine step ?_
          refine step ?_
          exact keep [0, 1] (ih j3 m3 _ p5 a _ _ (by omega) H5 N5 V5 (by omega) (by omega) hL (by omega) (by omega))
  have vok := (cndS_ok (T := T) (n := n) Q 0 i m dp (fun _ => 0) i1.1 i1.2 mb.2.2).2 rfl hk
  have vok3 := vok
  have kok0 : ∀ j m3 g, cndS T n Q 0 i m dp (fun _ => 0) = (m3, .inr (j, g)) → OKR n j m3 (cndS T n Q 1 j m3 dp g) := fun j m3 g e => by
    rw [e] at vok
    exact (cndS_ok Q 1 j m3 dp g (by have := vok.2.2.1.1; omega) vok.2.2.1.2 vok.2.1).1
  obtain ⟨cb1, cb2⟩ := chg_bnd (n := n) (i := i) (m := m) i1.2 vok3.r kok0
  rw [hV] at cb1 cb2
  refine step ?_
  refine step ?_
  refine And.intro tp ?_
  refine And.intro rfl ?_
  refine Or.inr ⟨chg n i (cndS T n Q 0 i m dp (fun _ => 0)), 4 * chg n i (cndS T n Q 0 i m dp (fun _ => 0)), by omega, by omega, hF Q (Nat.le_refl _) _ _ _ h _ i m dp H hk (by omega) (Nat.le_refl _) (Nat.le_refl _) (fun m3 e he p4 e4 N4 => ?_) (fun m3 j3 g he p4 y H4 N4 Vy => ?_)⟩
  · rw [he] at hV
    exact K0 m3 e hV.symm p4 e4 N4
  · have cb3 := cb2 j3 m3 g he
    rw [he] at hV vok3
    have hV : cndS T n Q 1 j3 m3 dp g = V := hV
    rw [hV] at cb3
    have vm : m < m3 := vok3.2.2.2
    have vj := vok3.2.2.1
    refine step ?_
    exact loop Q j3 m3 g p4 y _ _ (Nat.le_refl _) H4 N4 Vy vm (by omega) hV (by omega) (by omega)
