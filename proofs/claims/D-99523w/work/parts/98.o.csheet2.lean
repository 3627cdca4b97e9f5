-- NEEDS: 73 77 81 97 98
/-! THE COMPONENT'S READER: clauses of a sheet, told apart -/
theorem c_goersT {d : Nat} {h : AH} {Φ : OUT → AH → Prop} {sh gl : Nat} (tsh : tg sh = 17) (e : hP h sh 0 = some gl) (tgl : tg gl = 18) (K : Φ (.inl (some (vi (hI h gl 2)))) h) : CT (d + 2) 0 0 J_X1_goers [vo sh] h Φ := by
  refine e_X1_goers ?_; intro k step keep
  have t2 : ((tg gl : Nat) : Int) = 18 := by omega
  refine step ?_
  refine step ?_
  refine And.intro tsh ?_
  refine Exists.intro _ (And.intro e ?_)
  refine step ?_
  refine And.intro t2 ?_
  refine And.intro rfl ?_
  refine Or.inl (c_size tgl ?_)
  refine step ?_
  refine And.intro trivial ?_
  exact K
set_option maxHeartbeats 1000000 in
theorem cp_join {d : Nat} {h : AH} {Φ : OUT → AH → Prop} {sh0 pa sh gl ld dy el : Nat} {Lg : List Nat} {T : Int → Int} {n i m c w : Int} {r : Int → Int} (H : PY sh0 pa h T n i m 0 c w) (HS : SHT h sh gl ld dy el Lg r) (hr : RDO r)
    (K0 : ∀ e, (bN (numS T n i 0 3) (fun j1 v1 => bN (numS T n j1 0 3) (fun j2 v2 => bN (numS T n j2 0 9) (fun j3 v3 => .inr (j3, v1, v2, v3)))) : Int ⊕ (Int × Int × Int × Int)) = .inl e → ∀ p, hI p xWR 0 = e → NX [pa, xWR] [] h p → Φ (.inr xWR) p)
    (K : ∀ j v1 v2 v3, (bN (numS T n i 0 3) (fun j1 v1 => bN (numS T n j1 0 3) (fun j2 v2 => bN (numS T n j2 0 9) (fun j3 v3 => .inr (j3, v1, v2, v3)))) : Int ⊕ (Int × Int × Int × Int)) = .inr (j, v1, v2, v3) → ∀ p, PY sh0 pa p T n j m 0 c w → SHT p sh gl ld dy el Lg (upF (upF r (105 + v1) v2) (86 + v1) v3) → NX [pa, ld, dy] [] h p → Φ (.inl none) p) : CT (d + 9) 0 0 J_X5_join [vo pa, vo sh] h Φ := by
  refine e_X5_join ?_; intro k step keep
  have tpa := H.1.2.2.1
  have tp : ((tg pa : Nat) : Int) = 22 := by omega
  have tsh := HS.1.1
  have i1 := H.1.2.2.2.2.2.2.2.2.1
  have nk := numS_ok (T := T) (n := n) (i := i) (lo := 0) (hi := 3) i1.1 i1.2
  have up1 : ∀ {p q : AH}, TX [pa] [] p q → NX [pa, xWR] [] p q := fun N => (NX.of N).up (by intro a ha; rw [List.mem_singleton.mp ha]; simp) (by decide)
  refine step ?_
  refine step ?_
  refine step ?_
  refine step ?_
  refine And.intro tp ?_
  refine And.intro rfl ?_
  refine Or.inl (cp_numR H (by omega) (by omega) (fun e he p2 e9 T2 => ?_) (fun j1 v1 hv p2 H2 T2 => ?_))
  · rw [he] at K0
    exact K0 e rfl p2 e9 (NX.of T2)
  · rw [hv] at K0 K nk
    have nk : i < j1 ∧ j1 ≤ n ∧ 0 ≤ v1 ∧ v1 ≤ 3 := nk
    have K0 : ∀ e, (bN (numS T n j1 0 3) (fun j2 v2 => bN (numS T n j2 0 9) (fun j3 v3 => .inr (j3, v1, v2, v3))) : Int ⊕ (Int × Int × Int × Int)) = .inl e → ∀ p, hI p xWR 0 = e → NX [pa, xWR] [] h p → Φ (.inr xWR) p := K0
    have K : ∀ j v1' v2 v3, (bN (numS T n j1 0 3) (fun j2 v2 => bN (numS T n j2 0 9) (fun j3 v3 => .inr (j3, v1, v2, v3))) : Int ⊕ (Int × Int × Int × Int)) = .inr (j, v1', v2, v3) → ∀ p, PY sh0 pa p T n j m 0 c w → SHT p sh gl ld dy el Lg (upF (upF r (105 + v1') v2) (86 + v1') v3) → NX [pa, ld, dy] [] h p → Φ (.inl none) p := K
    refine step ?_
    refine step ?_
    refine step ?_
    refine step ?_
    refine step ?_
    refine And.intro tp ?_
    refine And.intro rfl ?_
    refine Or.inl (cp_numR H2 (by omega) (by omega) (fun e he p3 e9 T3 => ?_) (fun j2 v2 hv2 p3 H3 T3 => ?_))
    · rw [he] at K0
      exact K0 e rfl p3 e9 ((up1 T2).tr (NX.of T3))
    · rw [hv2] at K0 K
      have K0 : ∀ e, (bN (numS T n j2 0 9) (fun j3 v3 => .inr (j3, v1, v2, v3)) : Int ⊕ (Int × Int × Int × Int)) = .inl e → ∀ p, hI p xWR 0 = e → NX [pa, xWR] [] h p → Φ (.inr xWR) p := K0
      have K : ∀ j v1' v2' v3, (bN (numS T n j2 0 9) (fun j3 v3 => .inr (j3, v1, v2, v3)) : Int ⊕ (Int × Int × Int × Int)) = .inr (j, v1', v2', v3) → ∀ p, PY sh0 pa p T n j m 0 c w → SHT p sh gl ld dy el Lg (upF (upF r (105 + v1') v2') (86 + v1') v3) → NX [pa, ld, dy] [] h p → Φ (.inl none) p := K
      have S3 := HS.nx (NX.of (T2.tr T3)) (nts_pa tpa)
      have d3 := S3.2.1.2.2
      refine step ?_
      refine step ?_
      refine step ?_
      refine And.intro tsh ?_
      refine Exists.intro _ (And.intro d3 ?_)
      refine step ?_
      refine step ?_
      refine step ?_
      refine step ?_
      refine step ?_
      refine And.intro tp ?_
      refine And.intro rfl ?_
      refine Or.inl (cp_numR H3 (by omega) (by omega) (fun e he p4 e9 T4 => ?_) (fun j3 v3 hv3 p4 H4 T4 => ?_))
      · rw [he] at K0
        exact K0 e rfl p4 e9 ((up1 (T2.tr T3)).tr (NX.of T4))
      · rw [hv3] at K
        have K : ∀ p, PY sh0 pa p T n j3 m 0 c w → SHT p sh gl ld dy el Lg (upF (upF r (105 + v1) v2) (86 + v1) v3) → NX [pa, ld, dy] [] h p → Φ (.inl none) p := K j3 v1 v2 v3 rfl
        have N4 : NX [pa] [] h p4 := NX.of ((T2.tr T3).tr T4)
        have S4 := S3.nx (NX.of T4) (nts_pa tpa)
        obtain ⟨⟨a1, a2, a3⟩, ⟨b1, b2, b3⟩, ⟨c1, c2⟩, ⟨d1, d2⟩, ⟨e1, e2, e3, e4⟩, ⟨f1, f2, f3, f4⟩, g, l, l2, go, s3, s4, s5⟩ := S4
        have tgl := l.1
        have tel := l.2.2.2.1
        refine step ?_
        refine And.intro f1 ?_
        refine And.intro (by omega) ?_
        refine And.intro (by omega) ?_
        refine wpI (fun p5 W5 g5 i5 => ?_)
        have b5 : hP p5 sh 1 = some ld := by rw [W5.2.2.1 sh (fun z => by rw [← z] at f1; omega)]; exact b2
        refine step ?_
        refine step ?_
        refine And.intro tsh ?_
        refine Exists.intro _ (And.intro b5 ?_)
        refine step ?_
        refine step ?_
        refine step ?_
        refine And.intro e1 ?_
        refine And.intro (by omega) ?_
        refine And.intro (by omega) ?_
        refine wpI (fun p6 W6 g6 i6 => ?_)
        refine step ?_
        have nA : ∀ b, tg b ≠ 0 → b ≠ ld ∧ b ≠ dy := fun b hb => ⟨fun z => hb (by rw [z]; exact e1), fun z => hb (by rw [z]; exact f1)⟩
        have iB : ∀ b, tg b ≠ 0 → hI p6 b = hI p4 b := fun b hb => by rw [W6.2.1 b (nA b hb).1, W5.2.1 b (nA b hb).2]
        have pB : ∀ b, tg b ≠ 0 → hP p6 b = hP p4 b := fun b hb => by rw [W6.2.2.1 b (nA b hb).1, W5.2.2.1 b (nA b hb).2]
        have hn6 : hN p6 = hN p4 := by rw [W6.1, W5.1]
        have N6 : NX [pa, ld, dy] [] h p6 := ((N4.up (by simp) (by simp)).w W5 (Or.inl (by simp)) f3.nX).w W6 (Or.inl (by simp)) e3.nX
        have N46 : NX [ld, dy] [] p4 p6 := ((NX.rf).w W5 (Or.inl (by simp)) f3.nX).w W6 (Or.inl (by simp)) e3.nX
        have H6 := H4.nx N46 (by simp; exact ⟨(nA pa (by omega)).1, (nA pa (by omega)).2⟩) (by simp; exact ⟨(nA X (by decide)).1, (nA X (by decide)).2⟩) (by simp; exact ⟨(nA xTA (by decide)).1, (nA xTA (by decide)).2⟩) (by decide) (fun b hb => by
          have hb2 : b = ld ∨ b = dy := by simpa using hb
          rcases hb2 with z | z <;> rw [z] <;> omega)
        have o : ∀ x, x ≠ 105 + v1 → x ≠ 86 + v1 → upF (upF r (105 + v1) v2) (86 + v1) v3 x = r x := fun x x1 x2 => by
          show (if x = 86 + v1 then _ else if x = 105 + v1 then _ else _) = _
          rw [if_neg x2, if_neg x1]
        refine K p6 H6 ⟨⟨a1, a2, by omega⟩, ⟨by rw [pB sh (by omega)]; exact b1, by rw [pB sh (by omega)]; exact b2, by rw [pB sh (by omega)]; exact b3⟩, ⟨c1, by omega⟩, ⟨d1, by omega⟩, ⟨e1, e2, e3, by omega⟩, ⟨f1, f2, f3, by omega⟩, g, l.of (by rw [iB gl (by omega)]) (by rw [pB gl (by omega)]) (pB el (by omega)), ?_, fun k x hk => ?_, ?_, fun e e0 e1' => ?_, ?_⟩ N6
        · rw [o 2 (by omega) (by omega)]; exact l2
        · obtain ⟨q1, q2, q3, q4⟩ := go k x hk
          have kl : k < Lg.length := by
            rcases Nat.lt_or_ge k Lg.length with z | z
            · exact z
            · rw [List.getElem?_eq_none z] at hk; cases hk
          have r5 := hr.2.2.2.1
          rw [iB x (by omega), o (90 + 3 * k) (by omega) (by omega), o (90 + 3 * k + 1) (by omega) (by omega), o (90 + 3 * k + 2) (by omega) (by omega)]
          exact ⟨q1, q2, by omega, q4⟩
        · rw [iB sh (by omega), o 1 (by omega) (by omega)]; exact s3
        · constructor
          · rw [g6 e]
            by_cases hz : e = v1
            · rw [if_pos hz, hz]
              show v2 = (if 105 + v1 = 86 + v1 then _ else if 105 + v1 = 105 + v1 then v2 else _)
              rw [if_neg (by omega), if_pos rfl]
            · rw [if_neg hz, W5.2.1 ld g, o (105 + e) (by omega) (by omega)]
              exact (s4 e e0 e1').1
          · rw [W6.2.1 dy (fun z => g z.symm), g5 e]
            by_cases hz : e = v1
            · rw [if_pos hz, hz]
              show v3 = (if 86 + v1 = 86 + v1 then v3 else _)
              rw [if_pos rfl]
            · rw [if_neg hz, o (86 + e) (by omega) (by omega)]
              exact (s4 e e0 e1').2
        · rw [W6.2.2.2, W5.2.2.2]
          exact s5.to (fun x x0 x1 => o _ (by omega) (by omega))
set_option maxHeartbeats 2000000 in
theorem cp_clauseS {d : Nat} {h : AH} {Φ : OUT → AH → Prop} {mc ms sh0 pa sh gl ld dy el : Nat} {Lg : List Nat} {T : Int → Int} {n i m c : Int} {r : Int → Int} (H : PY sh0 pa h T n i m 0 c 40) (HS : SHT h sh gl ld dy el Lg r) (hr : RDO r) (hmc : chC n i (sclS T n i (c, r)) ≤ mc) (hms : 4 * chC n i (sclS T n i (c, r)) ≤ ms)
    (K0 : ∀ e, sclS T n i (c, r) = .inl e → ∀ p, hI p xWR 0 = e → NX [pa, xWR] [] h p → Φ (.inr xWR) p)
    (K : ∀ j r2, sclS T n i (c, r) = .inr (j, (c + 1, r2)) → ∀ p el2 Lg2, PY sh0 pa p T n j m 0 (c + 1) 40 → SHT p sh gl ld dy el2 Lg2 r2 → NX [pa, gl, el, ld, dy, sh, lb sh] [] h p → (el2 = el ∨ hN h ≤ ix el2) → Φ (.inl none) p) : CT (d + 10) mc ms J_X5_clause [vo pa, vo sh] h Φ := by
  have tpa := H.1.2.2.1
  have tp : ((tg pa : Nat) : Int) = 22 := by omega
  have tsh := HS.1.1
  have tsh2 : ((tg sh : Nat) : Int) = 17 := by omega
  have i1 := H.1.2.2.2.2.2.2.2.2.1
  have sk := skp_ok (T := T) i1.2
  have id2 := skp_idem (T := T) i1.2
  have lp := lep_ok (T := T) sk.2
  have r01 := hr.1
  have r25 := hr.2.2.2.1
  have rs : (r 0 = 1 → 2 ≤ r 1 ∧ r 1 ≤ 6) ∧ (r 0 = 0 → r 1 = 0) := ⟨hr.2.2.1, fun z => (hr.2.1 z).1⟩
  have cb := H.2.2.2.1
  have up1 : ∀ {p q : AH}, TX [pa] [] p q → NX [pa, xWR] [] p q := fun N => (NX.of N).up (by intro a ha; rw [List.mem_singleton.mp ha]; simp) (by decide)
  obtain ⟨V, hV⟩ : ∃ V, sclS T n i (c, r) = V := ⟨_, rfl⟩
  rw [hV] at K0 K hmc hms
  unfold sclS at hV
  have hV : (if wdB T n (skp T n i) wSHEET = true then (if c = 40 ∨ 0 < r 0 then .inl (1 + 8 * skp T n i + 4) else bN (numS T n (lep T n (skp T n i)) 2 6) (fun j v => .inr (j, (c + 1, upF (upF r 1 v) 0 1))))
  else if wdB T n (skp T n i) wGOER = true then (if c = 40 ∨ r 0 = 0 ∨ r 2 = 5 then .inl (1 + 8 * skp T n i + 4) else bN (numS T n (lep T n (skp T n i)) 0 (r 1 * r 1 - 1)) (fun j1 v1 => bN (numS T n j1 0 3) (fun j2 v2 => bN (numS T n j2 0 60) (fun j3 v3 => .inr (j3, (c + 1, goeF r v1 v2 v3))))))
  else if wdB T n (skp T n i) wJOIN = true then (if c = 40 ∨ r 0 = 0 then .inl (1 + 8 * skp T n i + 4) else bN (numS T n (lep T n (skp T n i)) 0 3) (fun j1 v1 => bN (numS T n j1 0 3) (fun j2 v2 => bN (numS T n j2 0 9) (fun j3 v3 => .inr (j3, (c + 1, upF (upF r (105 + v1) v2) (86 + v1) v3))))))
  else if wdB T n (skp T n i) wSTONE = true then (if c = 40 ∨ r 0 = 0 then .inl (1 + 8 * skp T n i + 4) else bN (numS T n (lep T n (skp T n i)) 0 (r 1 * r 1 - 1)) (fun j v => .inr (j, (c + 1, upF r (109 + v) 1))))
  else .inl (1 + 8 * skp T n i + 0)) = V := hV
  have s3 : hI h sh 3 = r 1 := HS.2.2.2.2.2.2.2.2.2.2.1
  have sq : 0 ≤ r 1 * r 1 ∧ r 1 * r 1 ≤ 36 := by
    rcases hr.1 with z | z
    · rw [(hr.2.1 z).1]; omega
    · have := sq_lb (hr.2.2.1 z).1 (hr.2.2.1 z).2; omega
  have ends : ∀ p q, TX [pa] [] h p → NX [pa, gl, el, ld, dy, sh, lb sh] [] p q → NX [pa, gl, el, ld, dy, sh, lb sh] [] h q := fun p q T1 N => ((NX.of T1).up (by simp) (by simp)).tr N
  have hnT : ∀ p, TX [pa] [] h p → hN p = hN h := fun p T1 => congrArg (fun z => z.1) T1.1
  refine e_X5_clause ?_; intro k step keep
  have main : ∀ b : Int, (b = 1 ∧ r 0 = 1) ∨ (b = 0 ∧ r 0 = 0) → k 0 0 12 [(0, vo pa), (1, vo sh)] [vi b] h := by
    intro b hb
    have b01 : b = 0 ∨ b = 1 := by omega
    -- stone
    have stone : ∀ p, PY sh0 pa p T n (skp T n i) m 0 c 40 → TX [pa] [] h p → ¬ wdB T n (skp T n i) wSHEET = true → ¬ wdB T n (skp T n i) wGOER = true → ¬ wdB T n (skp T n i) wJOIN = true → k 0 0 97 [(0, vo pa), (1, vo sh), (2, vi b)] [] p := by
      intro p Hp T0 w1 w2 w3
      rw [if_neg w1, if_neg w2, if_neg w3] at hV
      refine step ?_
      refine step ?_
      refine step ?_
      refine step ?_
      refine And.intro tp ?_
      refine And.intro rfl ?_
      refine Or.inl (cp_begins (u := 3) (W := wSTONE) (by decide) (by decide) (by decide) Hp (by omega) b01 (fun hw p1 H1 T1 => ?_) (fun hw h12 p1 e1 T1 => ?_) (fun hw h12 p1 H1 T1 => ?_))
      · rw [id2] at hw H1
        rw [if_neg hw] at hV
        have q1 := H1.1.2.2.2.2.2.2.2.1
        have r4 := H1.1.2.1
        have r4' := H1.1.2.2.2.1
        refine step ?_
        refine And.intro (by omega) ?_
        refine And.intro (fun _ => ?_) (fun z => absurd rfl z)
        refine step ?_
        refine step ?_
        refine And.intro tpa ?_
        refine Exists.intro _ (And.intro r4' ?_)
        refine step ?_
        refine step ?_
        refine step ?_
        refine And.intro tpa ?_
        refine Exists.intro _ (And.intro q1 ?_)
        refine step ?_
        refine And.intro rfl ?_
        refine And.intro rfl ?_
        refine Or.inl (cp_fails rfl r4 (fun p5 hR5 e5 T5 => ?_))
        refine step ?_
        refine And.intro rfl ?_
        exact K0 _ hV.symm p5 e5 ((up1 (T0.tr T1)).tr (NX.of (T5.up (by intro a ha; rw [List.mem_singleton.mp ha]; simp) (by decide))))
      · rw [id2] at hw e1
        rw [if_pos hw, if_pos (by omega)] at hV
        exact K0 _ hV.symm p1 e1 ((up1 T0).tr (NX.of T1))
      · rw [id2] at hw H1
        rw [if_pos hw, if_neg (by omega)] at hV
        have T01 := T0.tr T1
        have S1 := HS.nx (NX.of T01) (nts_pa tpa)
        obtain ⟨⟨a1, a2, a3⟩, ⟨b1, b2, b3⟩, ⟨c1, c2⟩, ⟨d1, d2⟩, ⟨e1, e2, e3, e4⟩, ⟨f1, f2, f3, f4⟩, g, l, l2, go, t3, s4, s5⟩ := S1
        have hr1 : 2 ≤ r 1 ∧ r 1 ≤ 6 := rs.1 (by omega)
        have tgl := l.1
        have tel := l.2.2.2.1
        have nk := numS_ok (T := T) (n := n) (i := lep T n (skp T n i)) (lo := 0) (hi := r 1 * r 1 - 1) (by omega) lp.2
        refine step ?_
        refine And.intro (by omega) ?_
        refine And.intro (fun z => by omega) (fun _ => ?_)
        refine step ?_
        refine step ?_
        refine step ?_
        refine And.intro tsh ?_
        refine Exists.intro _ (And.intro rfl ?_)
        refine step ?_
        refine step ?_
        refine step ?_
        refine step ?_
        refine step ?_
        refine And.intro tsh2 ?_
        refine And.intro rfl ?_
        refine Or.inl (c_cells tsh ?_)
        rw [t3]
        refine step ?_
        refine step ?_
        refine step ?_
        refine And.intro tp ?_
        refine And.intro rfl ?_
        refine Or.inl (cp_numR H1 (by omega) (by omega) (fun e he p2 e9 T2 => ?_) (fun j v hv p2 H2 T2 => ?_))
        · rw [he] at hV
          exact K0 e hV.symm p2 e9 ((up1 T01).tr (NX.of T2))
        · rw [hv] at hV nk
          have nk : lep T n (skp T n i) < j ∧ j ≤ n ∧ 0 ≤ v ∧ v ≤ r 1 * r 1 - 1 := nk
          have T02 := T01.tr T2
          have S2 := HS.nx (NX.of T02) (nts_pa tpa)
          have T12s : hL p1 sh = hL p2 sh := (T2.2.2.1 sh (fun z => by have t := tg_lb sh; rw [List.mem_singleton.mp z] at t; omega)).symm
          obtain ⟨⟨a1, a2, a3⟩, ⟨b1, b2, b3⟩, ⟨c1, c2⟩, ⟨d1, d2⟩, ⟨e1, e2, e3, e4⟩, ⟨f1, f2, f3, f4⟩, g, l, l2, go, t3, s4, s5⟩ := S2
          refine step ?_
          refine step ?_
          refine step ?_
          refine And.intro tsh ?_
          rw [T12s]
          refine wxL (fun p3 e3' T3 => ?_)
          refine step ?_
          refine step ?_
          have sb : SB (hL p3 sh 4) (fun c => upF r (109 + v) 1 (109 + c)) := by
            rw [e3']
            show SB (if (4 : Int) = 4 then hL p2 sh 4 ||| lShl (Int64.ofInt 1) v else _) _
            rw [if_pos rfl]
            refine (s5.or (c := v) nk.2.2.1 (by omega)).to (fun x x0 x1 => ?_)
            show (if 109 + x = 109 + v then 1 else r (109 + x)) = (if x = v then 1 else r (109 + x))
            by_cases hz : x = v
            · rw [if_pos hz, if_pos (by omega)]
            · rw [if_neg hz, if_neg (by omega)]
          have o : ∀ x, x ≠ 109 + v → upF r (109 + v) 1 x = r x := fun x hx => if_neg hx
          have nlb : ∀ b, tg b ≠ 63 → b ∉ [lb sh] := fun b hb z => hb (by rw [List.mem_singleton.mp z]; exact tg_lb sh)
          have iB : ∀ b, tg b ≠ 63 → b ≠ X → hI p3 b = hI p2 b := fun b hb bX => T3.i (nlb b hb) bX
          have pB : hP p3 = hP p2 := T3.2.1
          have n3 : hN p3 = hN p2 := congrArg (fun z => z.1) T3.1
          have N23 : NX [lb sh] [] p2 p3 := NX.of T3
          have H3 := H2.nx N23 (nlb _ (by omega)) (nlb _ (by decide)) (nlb _ (by decide)) (by decide) (fun b hb => by rw [List.mem_singleton.mp hb, ix_lb]; have := a2; omega)
          refine K j _ hV.symm p3 el Lg H3 ⟨⟨a1, a2, by omega⟩, ⟨by rw [pB]; exact b1, by rw [pB]; exact b2, by rw [pB]; exact b3⟩, ⟨c1, by omega⟩, ⟨d1, by omega⟩, ⟨e1, e2, e3, by omega⟩, ⟨f1, f2, f3, by omega⟩, g, l.of (by rw [iB gl (by omega) c1.nX]) (by rw [pB]) (by rw [pB]), ?_, fun x y hk => ?_, ?_, fun e e0 e1' => ?_, sb⟩ (ends p2 p3 T02 (N23.up (by simp) (by simp))) (Or.inl rfl)
          · rw [o 2 (by omega)]; exact l2
          · obtain ⟨q1, q2, q3, q4⟩ := go x y hk
            have kl : x < Lg.length := by
              rcases Nat.lt_or_ge x Lg.length with z | z
              · exact z
              · rw [List.getElem?_eq_none z] at hk; cases hk
            rw [iB y (by omega) q2.nX, o (90 + 3 * x) (by omega), o (90 + 3 * x + 1) (by omega), o (90 + 3 * x + 2) (by omega)]
            exact ⟨q1, q2, by omega, q4⟩
          · rw [iB sh (by omega) a2.nX, o 1 (by omega)]; exact t3
          · rw [iB ld (by omega) e3.nX, iB dy (by omega) f3.nX, o (105 + e) (by omega), o (86 + e) (by omega)]; exact s4 e e0 e1'
    have join : ∀ p, PY sh0 pa p T n (skp T n i) m 0 c 40 → TX [pa] [] h p → ¬ wdB T n (skp T n i) wSHEET = true → ¬ wdB T n (skp T n i) wGOER = true → k 0 0 79 [(0, vo pa), (1, vo sh), (2, vi b)] [] p := by
      intro p Hp T0 w1 w2
      refine step ?_
      refine step ?_
      refine step ?_
      refine step ?_
      refine And.intro tp ?_
      refine And.intro rfl ?_
      refine Or.inl (cp_begins (u := 2) (W := wJOIN) (by decide) (by decide) (by decide) Hp (by omega) b01 (fun hw p1 H1 T1 => ?_) (fun hw h12 p1 e1 T1 => ?_) (fun hw h12 p1 H1 T1 => ?_))
      · rw [id2] at hw H1
        refine step ?_
        refine And.intro (by omega) ?_
        refine And.intro (fun _ => ?_) (fun z => absurd rfl z)
        exact stone p1 H1 (T0.tr T1) w1 w2 hw
      · rw [id2] at hw e1
        rw [if_neg w1, if_neg w2, if_pos hw, if_pos (by omega)] at hV
        exact K0 _ hV.symm p1 e1 ((up1 T0).tr (NX.of T1))
      · rw [id2] at hw H1
        rw [if_neg w1, if_neg w2, if_pos hw, if_neg (by omega)] at hV
        have T01 := T0.tr T1
        have S1 := HS.nx (NX.of T01) (nts_pa tpa)
        have hn1 := hnT p1 T01
        refine step ?_
        refine And.intro (by omega) ?_
        refine And.intro (fun z => by omega) (fun _ => ?_)
        refine step ?_
        refine step ?_
        refine step ?_
        refine And.intro tp ?_
        refine And.intro rfl ?_
        refine Or.inl (cp_join H1 S1 hr (fun e he q w X => ?_) (fun j v1 v2 v3 he q Hq Sq X => ?_))
        · have hz := bN_inl (K2 := (fun j1 v1 => bN (numS T n j1 0 3) (fun j2 v2 => bN (numS T n j2 0 9) (fun j3 v3 => .inr (j3, (c + 1, upF (upF r (105 + v1) v2) (86 + v1) v3)))))) (fun j v e h => bN_inl (fun j v e h => bN_inl (fun j v e h => by cases h) h) h) he
          exact K0 e (hV.symm.trans hz) q w ((up1 T01).tr X)
        · have hz := bN_inr (K2 := (fun j1 v1 => bN (numS T n j1 0 3) (fun j2 v2 => bN (numS T n j2 0 9) (fun j3 v3 => .inr (j3, (c + 1, upF (upF r (105 + v1) v2) (86 + v1) v3)))))) (b := (j, (c + 1, upF (upF r (105 + v1) v2) (86 + v1) v3))) (fun j v h => bN_inr (fun j v h => bN_inr (fun j v h => by cases h; rfl) h) h) he
          refine step ?_
          refine step ?_
          exact K j _ (hV.symm.trans hz) q el Lg Hq Sq (ends p1 q T01 (X.up (by simp) (by simp))) (Or.inl rfl)
    have goer : ∀ p, PY sh0 pa p T n (skp T n i) m 0 c 40 → TX [pa] [] h p → ¬ wdB T n (skp T n i) wSHEET = true → k 0 0 45 [(0, vo pa), (1, vo sh), (2, vi b)] [] p := by
      intro p Hp T0 w1
      have S0 := HS.nx (NX.of T0) (nts_pa tpa)
      have l20 : hI p gl 2 = r 2 := by rw [S0.2.2.2.2.2.2.2.1.2.1]; exact S0.2.2.2.2.2.2.2.2.1
      have tgl := S0.2.2.2.2.2.2.2.1.1
      have go2 : ∀ v : Int, (v = 1 ∧ r 0 = 1 ∧ r 2 < 5) ∨ (v = 0 ∧ ¬ (r 0 = 1 ∧ r 2 < 5)) → k 0 0 65 [(0, vo pa), (1, vo sh), (2, vi b)] [vi v, vo S_goer, vo pa] p := by
        intro v hv
        refine step ?_
        refine And.intro tp ?_
        refine And.intro rfl ?_
        refine Or.inl (cp_begins (u := 1) (W := wGOER) (by decide) (by decide) (by decide) Hp (by omega) (by omega) (fun hw p1 H1 T1 => ?_) (fun hw h12 p1 e1 T1 => ?_) (fun hw h12 p1 H1 T1 => ?_))
        · rw [id2] at hw H1
          refine step ?_
          refine And.intro (by omega) ?_
          refine And.intro (fun _ => ?_) (fun z => absurd rfl z)
          exact join p1 H1 (T0.tr T1) w1 hw
        · rw [id2] at hw e1
          rw [if_neg w1, if_pos hw, if_pos (by omega)] at hV
          exact K0 _ hV.symm p1 e1 ((up1 T0).tr (NX.of T1))
        · rw [id2] at hw H1
          rw [if_neg w1, if_pos hw, if_neg (by omega)] at hV
          have T01 := T0.tr T1
          have S1 := HS.nx (NX.of T01) (nts_pa tpa)
          have hn1 := hnT p1 T01
          have l4 : lep T n (skp T n i) - skp T n i = 4 := lep_txt (u := 1) (W := wGOER) (by decide) (by decide) sk.2 hw
          have room : 4 ≤ chC n i V := by
            rw [← hV]
            rcases hq : bN (numS T n (lep T n (skp T n i)) 0 (r 1 * r 1 - 1)) (fun j1 v1 => bN (numS T n j1 0 3) (fun j2 v2 => bN (numS T n j2 0 60) (fun j3 v3 => (.inr (j3, (c + 1, goeF r v1 v2 v3)) : Int ⊕ (Int × (Int × (Int → Int))))))) with e | ⟨j, s2⟩
            · show 4 ≤ (n - i).toNat
              omega
            · show 4 ≤ (j - i).toNat
              have q := OKC.n (T := T) (n := n) (i0 := lep T n (skp T n i)) (c := c) (i := lep T n (skp T n i)) (lo := 0) (hi := r 1 * r 1 - 1) (K := fun j1 v1 => bN (numS T n j1 0 3) (fun j2 v2 => bN (numS T n j2 0 60) (fun j3 v3 => .inr (j3, (c + 1, goeF r v1 v2 v3))))) (by omega) lp.2 (fun j v a b v0 v1 => OKC.n (by omega) b (fun j2 v2 a2 b2 w0 w1 => OKC.n (by omega) b2 (fun j3 v3 a3 b3 x0 x1 => ⟨by omega, b3, rfl, by show c + 1 ≤ 40; omega, RDO_go hr (fun z => h12 (Or.inr (by omega))) (fun z => h12 (Or.inr (by omega))) ⟨v0, v1⟩ ⟨w0, w1⟩ ⟨x0, x1⟩⟩)))
              rw [hq] at q
              have q1 : lep T n (skp T n i) < j := q.1
              omega
          refine step ?_
          refine And.intro (by omega) ?_
          refine And.intro (fun z => by omega) (fun _ => ?_)
          refine step ?_
          refine step ?_
          refine step ?_
          refine And.intro tp ?_
          refine And.intro rfl ?_
          refine Or.inr ⟨2, 16, by omega, by omega, cp_goer H1 S1 hr (by omega) (Nat.le_refl _) (Nat.le_refl _) (fun e he q w X => ?_) (fun j v1 v2 v3 he q el2 Lg2 Hq Sq X hel => ?_)⟩
          · have hz := bN_inl (K2 := (fun j1 v1 => bN (numS T n j1 0 3) (fun j2 v2 => bN (numS T n j2 0 60) (fun j3 v3 => .inr (j3, (c + 1, goeF r v1 v2 v3)))))) (fun j v e h => bN_inl (fun j v e h => bN_inl (fun j v e h => by cases h) h) h) he
            exact K0 e (hV.symm.trans hz) q w ((up1 T01).tr X)
          · have hz := bN_inr (K2 := (fun j1 v1 => bN (numS T n j1 0 3) (fun j2 v2 => bN (numS T n j2 0 60) (fun j3 v3 => .inr (j3, (c + 1, goeF r v1 v2 v3)))))) (b := (j, (c + 1, goeF r v1 v2 v3))) (fun j v h => bN_inr (fun j v h => bN_inr (fun j v h => by cases h; rfl) h) h) he
            refine step ?_
            refine step ?_
            exact K j _ (hV.symm.trans hz) q el2 Lg2 Hq Sq (ends p1 q T01 (X.up (by simp) (by simp))) (hel.elim Or.inl (fun z => Or.inr (by omega)))
      refine step ?_
      refine step ?_
      refine step ?_
      refine step ?_
      refine And.intro (by omega) ?_
      refine And.intro (fun z => ?_) (fun z => ?_)
      · refine step ?_
        exact go2 0 (Or.inr ⟨rfl, by omega⟩)
      · refine step ?_
        refine step ?_
        refine And.intro tsh2 ?_
        refine And.intro rfl ?_
        refine Or.inl (c_goersT tsh S0.2.1.1 tgl ?_)
        rw [l20]
        refine step ?_
        refine step ?_
        refine And.intro (by omega) ?_
        refine And.intro (by omega) ?_
        refine And.intro (fun y => ?_) (fun y => ?_)
        · refine step ?_
          exact go2 0 (Or.inr ⟨rfl, by omega⟩)
        · refine step ?_
          refine step ?_
          exact go2 1 (Or.inl ⟨rfl, by omega, by omega⟩)
    have go1 : ∀ v : Int, v = 1 - b → k 0 0 25 [(0, vo pa), (1, vo sh), (2, vi b)] [vi v, vo S_sheet, vo pa] h := by
      intro v hv
      refine step ?_
      refine And.intro tp ?_
      refine And.intro rfl ?_
      refine Or.inl (cp_begins (u := 0) (W := wSHEET) (by decide) (by decide) (by decide) H (by omega) (by omega) (fun hw p1 H1 T1 => ?_) (fun hw h12 p1 e1 T1 => ?_) (fun hw h12 p1 H1 T1 => ?_))
      · refine step ?_
        refine And.intro (by omega) ?_
        refine And.intro (fun _ => ?_) (fun z => absurd rfl z)
        exact goer p1 H1 T1 hw
      · rw [if_pos hw, if_pos (by omega)] at hV
        exact K0 _ hV.symm p1 e1 (NX.of T1)
      · rw [if_pos hw, if_neg (by omega)] at hV
        refine step ?_
        refine And.intro (by omega) ?_
        refine And.intro (fun z => by omega) (fun _ => ?_)
        refine step ?_
        refine step ?_
        refine step ?_
        refine step ?_
        refine step ?_
        refine And.intro tp ?_
        refine And.intro rfl ?_
        refine Or.inl (cp_numR H1 (by omega) (by omega) (fun e he p2 e9 T2 => ?_) (fun j v hv p2 H2 T2 => ?_))
        · rw [he] at hV
          exact K0 e hV.symm p2 e9 ((up1 T1).tr (NX.of T2))
        · rw [hv] at hV
          have T02 := T1.tr T2
          have S2 := HS.nx (NX.of T02) (nts_pa tpa)
          obtain ⟨⟨a1, a2, a3⟩, ⟨b1, b2, b3⟩, ⟨c1, c2⟩, ⟨d1, d2⟩, ⟨e1, e2, e3, e4⟩, ⟨f1, f2, f3, f4⟩, g, l, l2, go, t3, s4, s5⟩ := S2
          have tgl := l.1
          have tel := l.2.2.2.1
          refine step ?_
          refine And.intro tsh ?_
          refine wpI (fun p3 W3 g3 i3 => ?_)
          refine step ?_
          refine step ?_
          have nA : ∀ b, tg b ≠ 17 → b ≠ sh := fun b hb z => hb (by rw [z]; exact a1)
          have iB : ∀ b, tg b ≠ 17 → hI p3 b = hI p2 b := fun b hb => W3.2.1 b (nA b hb)
          have pB : hP p3 sh = hP p2 sh := funext i3
          have pB2 : ∀ b, tg b ≠ 17 → hP p3 b = hP p2 b := fun b hb => W3.2.2.1 b (nA b hb)
          have n3 : hN p3 = hN p2 := W3.1
          have N23 : NX [sh] [] p2 p3 := NX.rf.w W3 (Or.inl (by simp)) a2.nX
          have nsh : ∀ b, tg b ≠ 17 → b ∉ [sh] := fun b hb z => nA b hb (List.mem_singleton.mp z)
          have H3 := H2.nx N23 (nsh _ (by omega)) (nsh _ (by decide)) (nsh _ (by decide)) (by decide) (fun b hb => by rw [List.mem_singleton.mp hb]; have := a2; omega)
          have o : ∀ x, 2 ≤ x → upF (upF r 1 v) 0 1 x = r x := fun x hx => by
            show (if x = 0 then _ else if x = 1 then _ else _) = _
            rw [if_neg (by omega), if_neg (by omega)]
          refine K j _ hV.symm p3 el Lg H3 ⟨⟨a1, a2, by omega⟩, ⟨by rw [pB]; exact b1, by rw [pB]; exact b2, by rw [pB]; exact b3⟩, ⟨c1, by omega⟩, ⟨d1, by omega⟩, ⟨e1, e2, e3, by omega⟩, ⟨f1, f2, f3, by omega⟩, g, l.of (by rw [iB gl (by omega)]) (by rw [pB2 gl (by omega)]) (pB2 el (by omega)), ?_, fun x y hk => ?_, ?_, fun e e0 e1' => ?_, ?_⟩ (ends p2 p3 T02 (N23.up (by simp) (by simp))) (Or.inl rfl)
          · rw [o 2 (by omega)]; exact l2
          · obtain ⟨q1, q2, q3, q4⟩ := go x y hk
            rw [iB y (by omega), o (90 + 3 * x) (by omega), o (90 + 3 * x + 1) (by omega), o (90 + 3 * x + 2) (by omega)]
            exact ⟨q1, q2, by omega, q4⟩
          · rw [g3 3, if_pos rfl]; rfl
          · rw [iB ld (by omega), iB dy (by omega), o (105 + e) (by omega), o (86 + e) (by omega)]; exact s4 e e0 e1'
          · rw [W3.2.2.2]; exact s5.to (fun x x0 x1 => o _ (by omega))
    refine step ?_
    refine step ?_
    refine step ?_
    refine step ?_
    refine step ?_
    refine And.intro (by omega) ?_
    refine And.intro (fun z => ?_) (fun z => ?_)
    · refine step ?_
      exact go1 0 (by omega)
    · refine step ?_
      refine step ?_
      exact go1 1 (by omega)
  refine step ?_
  refine step ?_
  refine And.intro tsh ?_
  refine Exists.intro _ (And.intro s3 ?_)
  refine step ?_
  refine And.intro (by omega) ?_
  refine And.intro (fun z => ?_) (fun z => ?_)
  · refine step ?_
    exact main 0 (Or.inr ⟨rfl, by omega⟩)
  · refine step ?_
    refine step ?_
    exact main 1 (Or.inl ⟨rfl, by omega⟩)
