-- NEEDS: 73 97 98
/-! THE COMPONENT'S READER: clauses of a rule -/
theorem cp_step4 {P : AH → Prop} {sh pa : Nat} {h : AH} {T : Int → Int} {n i m dp c w v : Int} (H : PY sh pa h T n i m dp c w) (v0 : 0 ≤ v) (v1 : v ≤ 40) (K : ∀ p, PY sh pa p T n i m dp v w → TX [pa] [] h p → P p) : P (sI h pa 4 v) := by
  obtain ⟨⟨-, -, -, -, dpa, -, -, q1, ⟨i0, i1⟩, -, -⟩, ⟨m0, m1, m2⟩, ⟨q2, d0, d1⟩, ⟨q4, q5, c0, c1, w0, w1⟩, -, -, -⟩ := id H
  refine wxF dpa (fun p e1 ne T1 => ?_)
  exact K p (H.tx T1 (by rw [ne 1 (by omega)]; exact q1) i0 i1 (by rw [ne 3 (by omega)]; exact m0) m1 m2 (by rw [ne 2 (by omega)]; exact q2) d0 d1 e1 v0 v1 (by rw [ne 5 (by omega)]; exact q5)) T1
theorem cp_begins {d : Nat} {h : AH} {Φ : OUT → AH → Prop} {u S W : Nat} (hu : u < 18) (hS : extAd (4 + 2 * u) = S) (hW : txN u = W) {sh pa : Nat} {T : Int → Int} {n i m dp c w v : Int} (H : PY sh pa h T n i m dp c w) (hcw : c ≤ w) (v01 : v = 0 ∨ v = 1)
    (K0 : ¬ wdB T n (skp T n i) W = true → ∀ p, PY sh pa p T n (skp T n i) m dp c w → TX [pa] [] h p → Φ (.inl (some (vi 0))) p)
    (K1 : wdB T n (skp T n i) W = true → (c = w ∨ v = 0) → ∀ p, hI p xWR 0 = 1 + 8 * skp T n i + 4 → TX [pa, xWR] [] h p → Φ (.inr xWR) p)
    (K : wdB T n (skp T n i) W = true → ¬ (c = w ∨ v = 0) → ∀ p, PY sh pa p T n (lep T n (skp T n i)) m dp (c + 1) w → TX [pa] [] h p → Φ (.inl (some (vi 1))) p) : CT (d + 6) 0 0 J_X5_begins [vo pa, vo S, vi v] h Φ := by
  subst hS
  subst hW
  refine e_X5_begins ?_; intro k step keep
  have tpa := H.1.2.2.1
  have tp : ((tg pa : Nat) : Int) = 22 := by omega
  have tk := tx_tg hu
  have tk2 : ((tg (extAd (4 + 2 * u)) : Nat) : Int) = 33 := by omega
  have i1 := H.1.2.2.2.2.2.2.2.2.1
  have sk := skp_ok (T := T) i1.2
  have lp := lep_ok (T := T) sk.2
  have dpa := H.1.2.2.2.2.1
  have hR : hP h = hP h := rfl
  refine step ?_
  refine step ?_
  refine step ?_
  refine And.intro tp ?_
  refine And.intro rfl ?_
  refine Or.inl (cp_isW H hu (fun p1 r hr H1 F1 => ?_))
  obtain ⟨-, ⟨m0, m1, m2⟩, ⟨q2, d0, d1⟩, ⟨q4, q5, c0, c1, w0, w1⟩, -, -, -⟩ := id H1
  have q1 := H1.1.2.2.2.2.2.2.2.1
  have r4 := H1.1.2.1
  have r4' := H1.1.2.2.2.1
  refine step ?_
  refine And.intro (by omega) ?_
  refine And.intro (fun z => ?_) (fun z => ?_)
  · have hy := hr.resolve_right (fun y => z y.1)
    have el : skp T n i + txL u = lep T n (skp T n i) := by omega
    have bad : (c = w ∨ v = 0) → k 0 0 25 [(0, vo pa), (1, vo (extAd (4 + 2 * u))), (2, vi v)] [] p1 := by
      intro hcv
      refine step ?_
      refine step ?_
      refine And.intro tpa ?_
      refine Exists.intro _ (And.intro r4' ?_)
      refine step ?_
      refine step ?_
      refine step ?_
      refine And.intro tpa ?_
      refine Exists.intro _ (And.intro q1 ?_)
      refine step ?_
      refine And.intro rfl ?_
      refine And.intro rfl ?_
      refine Or.inl (cp_fails rfl r4 (fun p5 hR5 e5 T5 => ?_))
      refine step ?_
      refine And.intro rfl ?_
      exact K1 hy.2.1 hcv p5 e5 ((F1.1.up (by intro a ha; rw [List.mem_singleton.mp ha]; simp) (by simp)).tr (T5.up (by intro a ha; rw [List.mem_singleton.mp ha]; simp) (by decide)))
    refine step ?_
    refine step ?_
    refine And.intro tpa ?_
    refine Exists.intro _ (And.intro q4 ?_)
    refine step ?_
    refine step ?_
    refine And.intro tpa ?_
    refine Exists.intro _ (And.intro q5 ?_)
    refine step ?_
    refine And.intro (by omega) ?_
    refine And.intro (by omega) ?_
    refine And.intro (fun y => ?_) (fun y => ?_)
    · exact bad (Or.inl y)
    · refine step ?_
      refine step ?_
      refine And.intro (by omega) ?_
      refine And.intro (fun x => ?_) (fun x => ?_)
      · have hno : ¬ (c = w ∨ v = 0) := by omega
        refine step ?_
        refine step ?_
        refine step ?_
        refine And.intro tpa ?_
        refine Exists.intro _ (And.intro q4 ?_)
        refine step ?_
        refine step ?_
        refine step ?_
        refine And.intro tpa ?_
        by_cases c40 : c + 1 ≤ 40
        · refine cp_step4 H1 (by omega) c40 (fun p2 H2 T2 => ?_)
          have q1 := H2.1.2.2.2.2.2.2.2.1
          refine step ?_
          refine step ?_
          refine step ?_
          refine And.intro tpa ?_
          refine Exists.intro _ (And.intro q1 ?_)
          refine step ?_
          refine step ?_
          refine And.intro tk2 ?_
          refine And.intro rfl ?_
          refine Or.inl (len_of H2.2.2.2.2.2.2 hu ?_)
          refine step ?_
          refine step ?_
          refine And.intro tpa ?_
          rw [el]
          refine cp_step1 H2 (by omega) lp.2 (fun p3 H3 T3 => ?_)
          refine step ?_
          refine step ?_
          refine And.intro ⟨by decide, by decide⟩ ?_
          exact K hy.2.1 hno p3 H3 ((F1.1.tr T2).tr T3)
        · exfalso
          omega
      · exact bad (Or.inr x)
  · have hn := hr.resolve_left (fun y => by omega)
    refine step ?_
    refine step ?_
    refine And.intro ⟨by decide, by decide⟩ ?_
    exact K0 hn.2 p1 H1 F1.1
theorem cp_goesOn {d : Nat} {h : AH} {Φ : OUT → AH → Prop} {sh pa : Nat} {T : Int → Int} {n i m dp c w : Int} (H : PY sh pa h T n i m dp c w)
    (K0 : byF T n (skp T n i) = -1 → ∀ p, PY sh pa p T n (skp T n i) m dp c w → TX [pa] [] h p → Φ (.inl (some (vi 0))) p)
    (K1 : byF T n (skp T n i) ≠ -1 → byF T n (skp T n i) ≠ 59 → ∀ p, hI p xWR 0 = 1 + 8 * skp T n i + 0 → TX [pa, xWR] [] h p → Φ (.inr xWR) p)
    (K : byF T n (skp T n i) = 59 → ∀ p, PY sh pa p T n (skp T n i + 1) m dp c w → TX [pa] [] h p → Φ (.inl (some (vi 1))) p) : CT (d + 3) 0 0 J_X5_goesOn [vo pa] h Φ := by
  refine e_X5_goesOn ?_; intro k step keep
  have tpa := H.1.2.2.1
  have tp : ((tg pa : Nat) : Int) = 22 := by omega
  have i1 := H.1.2.2.2.2.2.2.2.2.1
  have n4 := H.1.2.2.2.2.2.2.2.2.2.1
  have hB := H.1.2.2.2.2.2.2.2.2.2.2
  have sk := skp_ok (T := T) i1.2
  refine step ?_
  refine step ?_
  refine And.intro tp ?_
  refine And.intro rfl ?_
  refine Or.inl (cp_next H.1 (fun p1 Hx1 F1 => ?_))
  have H1 := H.pf F1 Hx1
  have bb := byF_b (i := skp T n i) hB (by omega) n4
  have q1 := H1.1.2.2.2.2.2.2.2.1
  have r4 := H1.1.2.1
  have r4' := H1.1.2.2.2.1
  refine step ?_
  refine step ?_
  refine step ?_
  refine step ?_
  refine And.intro (by omega) ?_
  refine And.intro (by omega) ?_
  refine And.intro (fun z => ?_) (fun z => ?_)
  · refine step ?_
    refine step ?_
    refine step ?_
    refine And.intro (by omega) ?_
    refine And.intro (by omega) ?_
    refine And.intro (fun y => ?_) (fun y => ?_)
    · have hl := byF_lt y (by decide)
      refine step ?_
      refine step ?_
      refine step ?_
      refine And.intro tpa ?_
      refine Exists.intro _ (And.intro q1 ?_)
      refine step ?_
      refine step ?_
      refine step ?_
      refine And.intro tpa ?_
      refine cp_step1 H1 (by omega) (by omega) (fun p2 H2 T2 => ?_)
      refine step ?_
      refine step ?_
      refine And.intro ⟨by decide, by decide⟩ ?_
      exact K y p2 H2 (F1.1.tr T2)
    · refine step ?_
      refine step ?_
      refine And.intro tpa ?_
      refine Exists.intro _ (And.intro r4' ?_)
      refine step ?_
      refine step ?_
      refine step ?_
      refine And.intro tpa ?_
      refine Exists.intro _ (And.intro q1 ?_)
      refine step ?_
      refine And.intro rfl ?_
      refine And.intro rfl ?_
      refine Or.inl (cp_fails rfl r4 (fun p5 hR5 e5 T5 => ?_))
      refine step ?_
      refine And.intro rfl ?_
      exact K1 z y p5 e5 ((F1.1.up (by intro a ha; rw [List.mem_singleton.mp ha]; simp) (by simp)).tr (T5.up (by intro a ha; rw [List.mem_singleton.mp ha]; simp) (by decide)))
  · refine step ?_
    refine step ?_
    refine And.intro ⟨by decide, by decide⟩ ?_
    exact K0 z p1 H1 F1.1
theorem c_X12init {d : Nat} {h : AH} {Φ : OUT → AH → Prop} {a x : Nat} {y : Option Nat} (ta : tg a = 28) (K : ∀ q, WX a h q → hP q a 0 = some x → hP q a 1 = y → Φ (.inl none) q) : CT (d + 2) 0 0 J_X12_init [vo a, vo x, vr y] h Φ := by
  refine e_X12_init ?_; intro k step keep
  have tn : tg a ≠ 10 := by omega
  refine step ?_
  refine step ?_
  refine And.intro tn ?_
  refine And.intro rfl ?_
  refine Or.inl (c_J9init tn ?_)
  refine step ?_
  refine step ?_
  refine step ?_
  refine And.intro ta ?_
  refine wpP (fun q1 W1 e1 g1 => ?_)
  refine step ?_
  refine step ?_
  refine step ?_
  refine And.intro ta ?_
  refine wpP (fun q2 W2 e2 g2 => ?_)
  refine step ?_
  exact K q2 (W1.tr W2) (by rw [e2, if_neg (by decide), e1, if_pos rfl]) (by rw [e2, if_pos rfl])
theorem lep_txt {u W : Nat} {T : Int → Int} {n j : Int} (hu : u < 18) (hW : txN u = W) (hj : j ≤ n) (h : wdB T n j W = true) : lep T n j - j = txL u := by
  subst hW
  have a := (tx_all ⟨u, hu⟩).2
  have a7 : 1 ≤ txL u ∧ txL u ≤ 7 := a.1
  exact ((wd_ws (T := T) (n := n) (j := j) (L := txL u) (W := txW u) hj a7.1 a7.2 (fun x x0 x1 => by
    have := a.2 ⟨x.toNat, by omega⟩ (by show ((x.toNat : Nat) : Int) < txL u; omega)
    rw [show (((⟨x.toNat, by omega⟩ : Fin 7).val : Nat) : Int) = x by simp; omega] at this
    exact this)).mp (wdB_iff.mp h)).1
theorem cnd2_skp {T : Int → Int} {n : Int} : ∀ (k : Nat) (i m d m2 j : Int) (f t : FN), 0 ≤ i → i ≤ n → m ≤ 60 → n - i < k → cndS T n k 2 i m d f = (m2, .inr (j, t)) → skp T n j = j := by
  intro k
  induction k with
  | zero => intro i m d m2 j f t i0 i1 m1 hk; omega
  | succ k ih =>
    intro i m d m2 j f t i0 i1 m1 hk e
    have sk := skp_ok (T := T) i1
    rw [cnd2] at e
    by_cases h : wdB T n (skp T n i) wOR = true
    · rw [if_pos h] at e
      have lp := (wdB_iff.mp h).1
      have l2 := lep_ok (T := T) sk.2
      obtain ⟨m3, j3, f3, e1, e2⟩ := bnd_inr e
      have q := parS_ok (T := T) (n := n) (k := k) (i := lep T n (skp T n i)) (m := m) (d := d) (by omega) l2.2 m1 (by omega)
      have e1 : parS T n k (lep T n (skp T n i)) m d = (m3, .inr (j3, f3)) := e1
      rw [e1] at q
      have q1 : lep T n (skp T n i) < j3 ∧ j3 ≤ n := q.2.2.1
      exact ih j3 m3 d m2 j _ t (by omega) q1.2 q.2.1 (by omega) e2
    · rw [if_neg h] at e
      have e : (m, Sum.inr (skp T n i, f)) = ((m2, .inr (j, t)) : PRS) := e
      cases e
      exact skp_idem i1
theorem tes_skp {T : Int → Int} {n i m m2 j : Int} {k : Nat} {t : FN} (i0 : 0 ≤ i) (i1 : i ≤ n) (m1 : m ≤ 60) (hk : n - i < k) (e : tesS T n k i m 0 = (m2, .inr (j, t))) : skp T n j = j := by
  unfold tesS at e
  obtain ⟨m3, j3, f3, e1, e2⟩ := bnd_inr e
  have q := parS_ok (T := T) (n := n) (k := k) (i := i) (m := m) (d := 0) i0 i1 m1 hk
  rw [e1] at q
  have q1 : i < j3 ∧ j3 ≤ n := q.2.2.1
  exact cnd2_skp k j3 m3 0 m2 j f3 t (by omega) q1.2 q.2.1 (by omega) e2
/-- the room of a clause -/
def chC {α : Type} (n i : Int) (r : Int ⊕ (Int × α)) : Nat := match r with
  | .inl _ => (n - i).toNat
  | .inr (j, _) => (j - i).toNat
set_option maxHeartbeats 2000000 in
theorem cp_clauseR {d : Nat} {h : AH} {Φ : OUT → AH → Prop} {mc ms sh pa ru li el : Nat} {T : Int → Int} {n i m c : Int} {L : List Nat} {acc : RLE} (H : PY sh pa h T n i m 0 c 12) (hc : c = acc.length) (hc12 : acc.length ≤ 12) (HR : RULE h ru li el L acc) (hmc : chC n i (rclS T n i (m, acc)) ≤ mc) (hms : 4 * chC n i (rclS T n i (m, acc)) ≤ ms)
    (K0 : ∀ e, rclS T n i (m, acc) = .inl e → ∀ p, hI p xWR 0 = e → NX [pa, xWR] [] h p → Φ (.inr xWR) p)
    (K : ∀ j m2 cl, rclS T n i (m, acc) = .inr (j, (m2, acc ++ [cl])) → ∀ p el2 L2, PY sh pa p T n j m2 0 (c + 1) 12 → RULE p ru li el2 L2 (acc ++ [cl]) → NX [pa, li, el] [] h p → (el2 = el ∨ hN h ≤ ix el2) → Φ (.inl none) p) : CT (d + 60) mc ms J_X5_clause_2 [vo pa, vo ru] h Φ := by
  refine e_X5_clause_2 ?_; intro k step keep
  have tpa := H.1.2.2.1
  have tp : ((tg pa : Nat) : Int) = 22 := by omega
  have i1 := H.1.2.2.2.2.2.2.2.2.1
  have n4 := H.1.2.2.2.2.2.2.2.2.2.1
  have mb := H.2.1
  have sk := skp_ok (T := T) i1.2
  have id2 := skp_idem (T := T) i1.2
  have lp := lep_ok (T := T) sk.2
  have up1 : ∀ {p q : AH}, NX [pa] [] p q → NX [pa, xWR] [] p q := fun N => N.up (by intro a ha; rw [List.mem_singleton.mp ha]; simp) (by decide)
  obtain ⟨V, hV⟩ : ∃ V, rclS T n i (m, acc) = V := ⟨_, rfl⟩
  rw [hV] at K0 K hmc hms
  unfold rclS at hV
  have hV : (if wdB T n (skp T n i) wTURN = true then (if acc.length = 12 then .inl (1 + 8 * skp T n i + 4) else match turS T n (skp T n i) m with
    | .inl e => .inl e
    | .inr (j, m2, cl) => .inr (j, (m2, acc ++ [cl]))) else .inl (1 + 8 * skp T n i + 0)) = V := hV
  refine step ?_
  refine step ?_
  refine step ?_
  refine step ?_
  refine And.intro tp ?_
  refine And.intro rfl ?_
  refine Or.inl (cp_begins (u := 4) (W := wTURN) (by decide) (by decide) (by decide) H (by omega) (Or.inr rfl) (fun hw p1 H1 T1 => ?_) (fun hw h12 p1 e1 T1 => ?_) (fun hw h12 p1 H1 T1 => ?_))
  · rw [if_neg hw] at hV
    have q1 := H1.1.2.2.2.2.2.2.2.1
    have r4 := H1.1.2.1
    have r4' := H1.1.2.2.2.1
    refine step ?_
    refine And.intro (by omega) ?_
    refine And.intro (fun z => absurd rfl z) (fun _ => ?_)
    refine step ?_
    refine step ?_
    refine And.intro tpa ?_
    refine Exists.intro _ (And.intro r4' ?_)
    refine step ?_
    refine step ?_
    refine step ?_
    refine And.intro tpa ?_
    refine Exists.intro _ (And.intro q1 ?_)
    refine step ?_
    refine And.intro rfl ?_
    refine And.intro rfl ?_
    refine Or.inl (cp_fails rfl r4 (fun p5 hR5 e5 T5 => ?_))
    refine step ?_
    refine And.intro rfl ?_
    exact K0 _ hV.symm p5 e5 ((up1 (NX.of T1)).tr (NX.of (T5.up (by intro a ha; rw [List.mem_singleton.mp ha]; simp) (by decide))))
  · rw [if_pos hw, if_pos (by omega)] at hV
    exact K0 _ hV.symm p1 e1 (NX.of T1)
  · rw [if_pos hw, if_neg (by omega)] at hV
    have lpp := (wdB_iff.mp hw).1
    have l4 : lep T n (skp T n i) - skp T n i = 4 := lep_txt (u := 4) (W := wTURN) (by decide) (by decide) sk.2 hw
    have N1 : NX [pa] [] h p1 := NX.of T1
    have ni1 : hN p1 = hN h := congrArg (fun z => z.1) T1.1
    have hV : (match turS T n (skp T n i) m with
      | .inl e => .inl e
      | .inr (j, m2, cl) => .inr (j, (m2, acc ++ [cl]))) = V := hV
    unfold turS at hV
    have sok := smS_ok (T := T) (n := n) (i := lep T n (skp T n i)) (m := m) (by omega) lp.2 mb.2.2
    have sok2 := sok
    obtain ⟨S1, hS1⟩ : ∃ S1, smS T n (lep T n (skp T n i)) m = S1 := ⟨_, rfl⟩
    have VC : chC n i V ≤ mc := hmc
    refine step ?_
    refine And.intro (by omega) ?_
    refine And.intro (fun _ => ?_) (fun z => by omega)
    refine step ?_
    refine step ?_
    refine And.intro tp ?_
    refine And.intro rfl ?_
    rcases S1 with ⟨m1, e | ⟨j1, f⟩⟩
    · rw [hS1] at hV
      have cV : V = .inl e := hV.symm
      rw [cV] at hmc hms
      have hmc : (n - i).toNat ≤ mc := hmc
      have hms : 4 * (n - i).toNat ≤ ms := hms
      have ce : chg n (lep T n (skp T n i)) (smS T n (lep T n (skp T n i)) m) = (n - lep T n (skp T n i)).toNat := by rw [hS1]; rfl
      refine Or.inr ⟨chg n (lep T n (skp T n i)) (smS T n (lep T n (skp T n i)) m), 4 * chg n (lep T n (skp T n i)) (smS T n (lep T n (skp T n i)) m), by omega, by omega, cp_sum H1 (Nat.le_refl _) (Nat.le_refl _) (fun m3 e3 he p3 w3 N3 => ?_) (fun m3 j3 g he => ?_)⟩
      · rw [hS1] at he
        cases he
        exact K0 e cV p3 w3 ((up1 N1).tr N3)
      · rw [hS1] at he
        cases he
    · rw [hS1] at hV sok2
      have vj : lep T n (skp T n i) < j1 ∧ j1 ≤ n := sok2.2.2.1
      have vm : m < m1 := sok2.2.2.2
      have m60 : m1 ≤ 60 := sok2.2.1
      have sk1 := skp_ok (T := T) vj.2
      have lp1 := lep_ok (T := T) sk1.2
      have hV : (match (if wdB T n (skp T n j1) wIF = true then (match tesS T n 500 (lep T n (skp T n j1)) m1 0 with
        | (_, .inl e) => .inl e
        | (m2, .inr (j2, t)) => .inr (skp T n j2, m2, (f, t))) else .inr (skp T n j1, m1, (f, fun _ => 1)) : Int ⊕ (Int × Int × (FN × FN))) with
        | .inl e => .inl e
        | .inr (j, m2, cl) => .inr (j, (m2, acc ++ [cl]))) = V := hV
      have ce : chg n (lep T n (skp T n i)) (smS T n (lep T n (skp T n i)) m) = (j1 - lep T n (skp T n i)).toNat := by rw [hS1]; rfl
      have tok := tesS_okm (T := T) (n := n) (i := lep T n (skp T n j1)) (m := m1) (d := 0) (k := 500) (by omega) lp1.2 m60 (by omega)
      -- the room
      have room : (j1 - i).toNat ≤ chC n i V ∧ (wdB T n (skp T n j1) wIF = true → (j1 - i).toNat + chg n (lep T n (skp T n j1)) (tesS T n 500 (lep T n (skp T n j1)) m1 0) ≤ chC n i V) := by
        by_cases hz : wdB T n (skp T n j1) wIF = true
        · rw [if_pos hz] at hV
          rcases htt : tesS T n 500 (lep T n (skp T n j1)) m1 0 with ⟨m2, e | ⟨j2, t⟩⟩
          · rw [htt] at hV
            rw [← hV]
            show (j1 - i).toNat ≤ (n - i).toNat ∧ (_ → (j1 - i).toNat + (n - lep T n (skp T n j1)).toNat ≤ (n - i).toNat)
            exact ⟨by omega, fun _ => by omega⟩
          · rw [htt] at hV tok
            have t2 : lep T n (skp T n j1) < j2 ∧ j2 ≤ n := tok.2.2.1
            have sk2 := skp_ok (T := T) t2.2
            rw [← hV]
            show (j1 - i).toNat ≤ (skp T n j2 - i).toNat ∧ (_ → (j1 - i).toNat + (j2 - lep T n (skp T n j1)).toNat ≤ (skp T n j2 - i).toNat)
            exact ⟨by omega, fun _ => by omega⟩
        · rw [if_neg hz] at hV
          rw [← hV]
          show (j1 - i).toNat ≤ (skp T n j1 - i).toNat ∧ _
          exact ⟨by omega, fun z => absurd z hz⟩
      refine Or.inr ⟨chg n (lep T n (skp T n i)) (smS T n (lep T n (skp T n i)) m), 4 * chg n (lep T n (skp T n i)) (smS T n (lep T n (skp T n i)) m), by omega, by omega, cp_sum H1 (Nat.le_refl _) (Nat.le_refl _) (fun m3 e3 he p3 w3 N3 => ?_) (fun m3 j3 g he p3 x H3 N3 Vx => ?_)⟩
      · rw [hS1] at he
        cases he
      · rw [hS1] at he
        cases he
        rw [ce]
        have N3' := N1.tr N3
        have O3 : OLD h p3 := OLD.of N3' (pa_tag H)
        have tru := HR.1.1
        have tli := HR.2.2.2.2.1.1
        have tel := HR.2.2.2.2.1.2.2.2.1
        have nru : ru ∉ [pa] := fun z => by rw [List.mem_singleton.mp z] at tru; omega
        have nli : li ∉ [pa] := fun z => by rw [List.mem_singleton.mp z] at tli; omega
        have nel : el ∉ [pa] := fun z => by rw [List.mem_singleton.mp z] at tel; omega
        have R3 := HR.nx N3' O3 nru nli nel
        have n3 := H3.2.2.2.2.2.1
        refine step ?_
        refine step ?_
        refine step ?_
        refine And.intro R3.1.1 ?_
        refine Exists.intro _ (And.intro R3.2.1 ?_)
        refine step ?_
        refine And.intro rfl ?_
        refine And.intro (by omega) ?_
        refine And.intro (by omega) ?_
        generalize ea : nwA p3 28 0 = a
        generalize eq : nwH p3 28 0 = p4
        obtain ⟨o1, o2, o3, o4, o5, o6, o7⟩ := nw_ok ea eq (by decide) (by decide) n3.2
        have da := nw_dy o1 n3.2
        have apa : a ≠ pa := fun z => by rw [z] at o1; omega
        have H4 := H3.nx o7 (by simp) (by simp) (by simp) (by decide) (by simp)
        have N4 := N3'.tr (o7.up (A' := [pa]) (B' := []) (by simp) (by simp))
        have O4 : OLD p3 p4 := OLD.of o7 (by simp)
        have R4 := R3.nx o7 O4 (by simp) (by simp) (by simp)
        have Vx4 := Vx.go (Int.le_refl _) (by omega) O4
        refine step ?_
        refine step ?_
        refine step ?_
        refine step ?_
        refine step ?_
        refine And.intro tp ?_
        refine And.intro rfl ?_
        -- the end
        have fin : ∀ (p : AH) (y : Option Nat) (t : FN) (j m2 : Int) (cu su : Nat), V = .inr (j, (m2, acc ++ [(f, t)])) → PY sh pa p T n j m2 0 (c + 1) 12 → NX [pa] [] p4 p → ((y = none ∧ ∀ w, t w = 1) ∨ ∃ z, y = some z ∧ CND 80 p z t) → cu + 1 ≤ mc → su + 13 ≤ ms → k cu su 54 [(0, vo pa), (1, vo ru), (2, vo x)] [vr y, vo x, vo a, vo a, vo li] p := by
          intro p y t j m2 cu su hres Hp Np hy hcu hsu
          have Op : OLD p4 p := OLD.of Np (pa_tag H4)
          have npa := Np.1
          have Rp := R4.nx Np Op nru nli nel
          have Vxp : VAL 80 p x f := Vx4.go (by omega) npa Op
          have ua : hP p a 0 = none := by rw [Np.2.2.2.1 a (by omega) (fun z => apa (List.mem_singleton.mp z))]; exact o6 0
          refine step ?_
          refine And.intro (by omega) ?_
          refine And.intro rfl ?_
          refine Or.inl (c_X12init o2 (fun p5 W5 e0 e1 => ?_))
          have O5 : OLD p p5 := OLD.mk W5 (by omega) ua
          have wn : hN p5 = hN p := W5.1
          have NN4 := N4.1
          have NN3 := N3'.1
          have N5 : NX [pa] [] h p5 := (N4.tr Np).w W5 (Or.inr (by omega)) da.nX
          have a5 : NX [a] [] p p5 := NX.rf.w W5 (Or.inl List.mem_cons_self) da.nX
          have H5 := Hp.nx a5 (fun z => apa (List.mem_singleton.mp z).symm) (fun z => da.nX (List.mem_singleton.mp z).symm) (fun z => by rw [← List.mem_singleton.mp z] at da; revert da; decide) (by decide) da.n64
          have nea : ∀ u, tg u ≠ 28 → u ∉ [a] := fun u hu z => hu (by rw [List.mem_singleton.mp z]; exact o2)
          have R5 := Rp.nx a5 O5 (nea ru (by omega)) (nea li (by omega)) (nea el (by omega))
          have TL : TLD 80 p5 a (f, t) := by
            refine ⟨o2, ⟨by omega, da⟩, x, e0, Vxp.go (Int.le_refl _) (by omega) O5, ?_⟩
            rcases hy with ⟨y1, y2⟩ | ⟨z, y1, y2⟩
            · exact Or.inl ⟨by rw [e1, y1], y2⟩
            · exact Or.inr ⟨z, by rw [e1, y1], y2.go (Int.le_refl _) (by omega) O5⟩
          have tl18 : ((tg li : Nat) : Int) = 18 := by omega
          have R5' := R5
          obtain ⟨⟨a1, a2, a3⟩, a4, ⟨a5', a6⟩, ⟨a7, a8⟩, a9, b1, b2⟩ := R5'
          have n5 := H5.2.2.2.2.2.1
          refine step ?_
          refine And.intro tl18 ?_
          refine And.intro rfl ?_
          refine Or.inr ⟨1, 13, by omega, by omega, c_add a9 (by omega) ⟨by omega, by omega⟩ (by omega) (by omega) n5.2 a6 a8 (fun p6 el2 q1 q2 q3 q4 => ?_)⟩
          have O6 : OLD p5 p6 := OLD.of q2 (fun b hb => by
            have hb2 : b = li ∨ b = el := by simpa using hb
            rcases hb2 with z | z <;> rw [z] <;> omega)
          have n6 := q2.1
          have d6 : DYS el2 := by
            rcases q3 with z | z
            · rw [z]; exact a7
            · exact Or.inr (by omega)
          have H6 := H5.nx q2 (by simp; exact ⟨fun z => by rw [z] at tpa; omega, fun z => by rw [z] at tpa; omega⟩) (by simp; exact ⟨fun z => by rw [← z] at tli; revert tli; decide, fun z => by rw [← z] at tel; revert tel; decide⟩) (by simp; exact ⟨fun z => by rw [← z] at tli; revert tli; decide, fun z => by rw [← z] at a7; revert a7; decide⟩) (by decide) (fun b hb => by
            have hb2 : b = li ∨ b = el := by simpa using hb
            rcases hb2 with z | z <;> rw [z] <;> omega)
          have NN5 := N5.1
          refine step ?_
          refine And.intro rfl ?_
          refine step ?_
          refine K j m2 (f, t) hres p6 el2 (L ++ [a]) H6 ⟨⟨a1, a2, by omega⟩, ?_, ⟨a5', by omega⟩, ⟨d6, q4⟩, q1, by simp; exact b1, fun k to q h1 h2 => ?_⟩ ((N5.up (by simp) (by simp)).tr (q2.up (by simp) (by simp))) (q3.elim Or.inl (fun z => Or.inr (by omega)))
          · rw [q2.2.2.2.1 ru a3 (by simp; exact ⟨fun z => by rw [z] at tru; omega, fun z => by rw [z] at tru; omega⟩)]
            exact a4
          · rcases Nat.lt_or_ge k L.length with z | z
            · rw [List.getElem?_append_left z] at h1
              rw [List.getElem?_append_left (by omega)] at h2
              exact (b2 k to q h1 h2).go (Int.le_refl _) n6 O6
            · rw [List.getElem?_append_right z] at h1
              rw [List.getElem?_append_right (by omega)] at h2
              have hk : k - L.length = 0 := by
                rcases Nat.lt_or_ge (k - L.length) 1 with u | u
                · omega
                · rw [List.getElem?_eq_none (by simpa using u)] at h1
                  cases h1
              rw [hk] at h1
              rw [← b1, hk] at h2
              have ht : to = a := by simpa using h1.symm
              have hq : q = (f, t) := by simpa using h2.symm
              rw [ht, hq]
              exact TL.go (Int.le_refl _) n6 O6
        refine Or.inl (cp_takes' (d := d + 53) (u := 5) (W := wIF) (by decide) (by decide) (by decide) H4 (fun hz p5 H5 T5 => ?_) (fun hz p5 H5 T5 => ?_))
        · rw [if_neg hz] at hV
          refine step ?_
          refine And.intro (by omega) ?_
          refine And.intro (fun _ => ?_) (fun z => absurd rfl z)
          refine step ?_
          exact fin p5 none _ _ m1 _ _ hV.symm H5 (NX.of T5) (Or.inl ⟨rfl, fun _ => rfl⟩) (by omega) (by omega)
        · rw [if_pos hz] at hV
          have room2 := room.2 hz
          have lqq := (wdB_iff.mp hz).1
          refine step ?_
          refine And.intro (by omega) ?_
          refine And.intro (fun z => by omega) (fun _ => ?_)
          refine step ?_
          refine step ?_
          refine And.intro tp ?_
          refine And.intro rfl ?_
          refine Or.inr ⟨chg n (lep T n (skp T n j1)) (tesS T n 500 (lep T n (skp T n j1)) m1 0), 4 * chg n (lep T n (skp T n j1)) (tesS T n 500 (lep T n (skp T n j1)) m1 0), by omega, by omega, test_all 500 _ _ _ p5 _ _ m1 0 H5 (by omega) (by omega) (Nat.le_refl _) (Nat.le_refl _) (fun m3 e he p6 e6 N6 => ?_) (fun m3 j3 t he p6 y H6 N6 Vy => ?_)⟩
          · rw [he] at hV
            exact K0 e hV.symm p6 e6 ((up1 (N4.tr (NX.of T5))).tr N6)
          · rw [he] at hV tok
            have t2 : lep T n (skp T n j1) < j3 ∧ j3 ≤ n := tok.2.2.1
            have m3b : m1 < m3 := tok.2.2.2
            have m3c : m3 ≤ 60 := tok.2.1
            have js := tes_skp (by omega) lp1.2 m60 (by omega) he
            have c3 : chg n (lep T n (skp T n j1)) (tesS T n 500 (lep T n (skp T n j1)) m1 0) = (j3 - lep T n (skp T n j1)).toNat := by rw [he]; rfl
            rw [c3] at room2 ⊢
            have hV : V = .inr (j3, (m3, acc ++ [(f, t)])) := by
              rw [← hV]
              show (.inr (skp T n j3, (m3, acc ++ [(f, t)])) : Int ⊕ (Int × (Int × RLE))) = _
              rw [js]
            refine step ?_
            exact fin p6 (some y) t j3 m3 _ _ hV H6 ((NX.of T5).tr N6) (Or.inr ⟨y, rfl, Vy.go (by omega) (Nat.le_refl _) OLD.rf⟩) (by omega) (by omega)
