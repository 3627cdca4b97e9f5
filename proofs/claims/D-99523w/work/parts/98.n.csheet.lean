-- NEEDS: 73 81 97 98
/-! THE COMPONENT'S READER: clauses of a sheet -/
theorem cp_numR {d : Nat} {h : AH} {Φ : OUT → AH → Prop} {sh pa : Nat} {T : Int → Int} {n i m dp c w lo hi : Int} (H : PY sh pa h T n i m dp c w) (hlo : iR lo) (hhi : iR hi)
    (K0 : ∀ e, numS T n i lo hi = .inl e → ∀ p, hI p xWR 0 = e → TX [pa, xWR] [] h p → Φ (.inr xWR) p)
    (K : ∀ j v, numS T n i lo hi = .inr (j, v) → ∀ p, PY sh pa p T n j m dp c w → TX [pa] [] h p → Φ (.inl (some (vi v))) p) : CT (d + 3) 0 0 J_X5_number [vo pa, vi lo, vi hi] h Φ := by
  unfold numS at K0 K
  refine cp_number H.1 hlo hhi (fun hz p hR e9 T2 => ?_) (fun hz hq p hR e9 T2 => ?_) (fun hz hq p Hp F => ?_)
  · rw [if_neg hz] at K0
    exact K0 _ rfl p e9 T2
  · rw [if_pos hz, if_neg hq] at K0
    exact K0 _ rfl p e9 T2
  · rw [if_pos hz, if_pos hq] at K
    exact K _ _ rfl p (H.pf F Hp) F.1
/-- a sheet as a thing, of what r tells -/
def SHT (h : AH) (sh gl ld dy el : Nat) (Lg : List Nat) (r : Int → Int) : Prop := (tg sh = 17 ∧ DYS sh ∧ ix sh < hN h) ∧ (hP h sh 0 = some gl ∧ hP h sh 1 = some ld ∧ hP h sh 2 = some dy) ∧ (DYS gl ∧ ix gl < hN h) ∧ (DYS el ∧ ix el < hN h) ∧ (tg ld = 0 ∧ ln ld = 4 ∧ DYS ld ∧ ix ld < hN h) ∧ (tg dy = 0 ∧ ln dy = 4 ∧ DYS dy ∧ ix dy < hN h) ∧ ld ≠ dy ∧ LST h gl el Lg ∧ (Lg.length : Int) = r 2 ∧ (∀ (k : Nat) go, Lg[k]? = some go → tg go = 23 ∧ DYS go ∧ ix go < hN h ∧ hI h go 0 = r (90 + 3 * k) ∧ hI h go 1 = r (90 + 3 * k + 1) ∧ hI h go 2 = r (90 + 3 * k + 2)) ∧ hI h sh 3 = r 1 ∧ (∀ e, 0 ≤ e → e < 4 → hI h ld e = r (105 + e) ∧ hI h dy e = r (86 + e)) ∧ SB (hL h sh 4) (fun c => r (109 + c))
abbrev NTS (A : List Nat) : Prop := ∀ a ∈ A, DYS a → tg a ≠ 17 ∧ tg a ≠ 18 ∧ tg a ≠ 4 ∧ tg a ≠ 0 ∧ tg a ≠ 23 ∧ tg a ≠ 63
theorem SHT.nx {A : List Nat} {B : List Int} {h p : AH} {sh gl ld dy el : Nat} {Lg : List Nat} {r : Int → Int} (H : SHT h sh gl ld dy el Lg r) (N : NX A B h p) (hA : NTS A) : SHT p sh gl ld dy el Lg r := by
  obtain ⟨⟨a1, a2, a3⟩, ⟨b1, b2, b3⟩, ⟨c1, c2⟩, ⟨d1, d2⟩, ⟨e1, e2, e3, e4⟩, ⟨f1, f2, f3, f4⟩, g, l, l2, go, s3, s4, s5⟩ := H
  have n1 := N.1
  have tgl := l.1
  have tel := l.2.2.2.1
  have ni : ∀ b, DYS b → (tg b = 17 ∨ tg b = 18 ∨ tg b = 4 ∨ tg b = 0 ∨ tg b = 23 ∨ tg b = 63) → b ∉ A := fun b db hb z => by
    have := hA b z db
    omega
  have nl : lb sh ∉ A := ni _ a2.lb (by rw [tg_lb]; omega)
  have nsh := ni sh a2 (by omega)
  have ngl := ni gl c1 (by omega)
  have nel := ni el d1 (by omega)
  have nld := ni ld e3 (by omega)
  have ndy := ni dy f3 (by omega)
  have pS := N.2.2.2.1 sh a3 nsh
  have iS := N.2.1 sh a3 nsh a2.nX
  refine ⟨⟨a1, a2, by omega⟩, ⟨by rw [pS]; exact b1, by rw [pS]; exact b2, by rw [pS]; exact b3⟩, ⟨c1, by omega⟩, ⟨d1, by omega⟩, ⟨e1, e2, e3, by omega⟩, ⟨f1, f2, f3, by omega⟩, g, l.of (by rw [N.2.1 gl c2 ngl c1.nX]) (by rw [N.2.2.2.1 gl c2 ngl]) (N.2.2.2.1 el d2 nel), l2, fun k x hk => ?_, by rw [iS]; exact s3, fun e e0 e1 => ?_, ?_⟩
  · obtain ⟨q1, q2, q3, q4⟩ := go k x hk
    rw [N.2.1 x q3 (ni x q2 (by omega)) q2.nX]
    exact ⟨q1, q2, by omega, q4⟩
  · rw [N.2.1 ld e4 nld e3.nX, N.2.1 dy f4 ndy f3.nX]
    exact s4 e e0 e1
  · rw [N.2.2.2.2 sh a3 nl]
    exact s5
theorem c_X6init {d : Nat} {h : AH} {Φ : OUT → AH → Prop} {a : Nat} {u v w : Int} (ta : tg a = 23) (K : ∀ q, WX a h q → hI q a 0 = u → hI q a 1 = v → hI q a 2 = w → Φ (.inl none) q) : CT (d + 2) 0 0 J_X6_init [vo a, vi u, vi v, vi w] h Φ := by
  refine e_X6_init ?_; intro k step keep
  have tn : tg a ≠ 10 := by omega
  refine step ?_
  refine step ?_
  refine And.intro tn ?_
  refine And.intro rfl ?_
  refine Or.inl (c_J9init tn ?_)
  refine step ?_
  refine step ?_
  refine step ?_
  refine And.intro ta ?_
  refine wpI (fun q1 W1 e1 g1 => ?_)
  refine step ?_
  refine step ?_
  refine step ?_
  refine And.intro ta ?_
  refine wpI (fun q2 W2 e2 g2 => ?_)
  refine step ?_
  refine step ?_
  refine step ?_
  refine And.intro ta ?_
  refine wpI (fun q3 W3 e3 g3 => ?_)
  refine step ?_
  exact K q3 ((W1.tr W2).tr W3) (by rw [e3, if_neg (by decide), e2, if_neg (by decide), e1, if_pos rfl]) (by rw [e3, if_neg (by decide), e2, if_pos rfl]) (by rw [e3, if_pos rfl])
theorem nts_pa {pa : Nat} (tp : tg pa = 22) : NTS [pa] := fun a ha _ => by
  rw [List.mem_singleton.mp ha]
  omega
set_option maxHeartbeats 1000000 in
theorem cp_goer {d : Nat} {h : AH} {Φ : OUT → AH → Prop} {mc ms sh0 pa sh gl ld dy el : Nat} {Lg : List Nat} {T : Int → Int} {n i m c w : Int} {r : Int → Int} (H : PY sh0 pa h T n i m 0 c w) (HS : SHT h sh gl ld dy el Lg r) (hr : RDO r) (h2 : r 2 ≠ 5) (hmc : 2 ≤ mc) (hms : 16 ≤ ms)
    (K0 : ∀ e, (bN (numS T n i 0 (r 1 * r 1 - 1)) (fun j1 v1 => bN (numS T n j1 0 3) (fun j2 v2 => bN (numS T n j2 0 60) (fun j3 v3 => .inr (j3, v1, v2, v3)))) : Int ⊕ (Int × Int × Int × Int)) = .inl e → ∀ p, hI p xWR 0 = e → NX [pa, xWR] [] h p → Φ (.inr xWR) p)
    (K : ∀ j v1 v2 v3, (bN (numS T n i 0 (r 1 * r 1 - 1)) (fun j1 v1 => bN (numS T n j1 0 3) (fun j2 v2 => bN (numS T n j2 0 60) (fun j3 v3 => .inr (j3, v1, v2, v3)))) : Int ⊕ (Int × Int × Int × Int)) = .inr (j, v1, v2, v3) → ∀ p el2 Lg2, PY sh0 pa p T n j m 0 c w → SHT p sh gl ld dy el2 Lg2 (goeF r v1 v2 v3) → NX [pa, gl, el] [] h p → (el2 = el ∨ hN h ≤ ix el2) → Φ (.inl none) p) : CT (d + 9) mc ms J_X5_goer [vo pa, vo sh] h Φ := by
  refine e_X5_goer ?_; intro k step keep
  have tpa := H.1.2.2.1
  have tp : ((tg pa : Nat) : Int) = 22 := by omega
  have tsh := HS.1.1
  have tsh2 : ((tg sh : Nat) : Int) = 17 := by omega
  have rb := hr.2.2.2.1
  have sq : 0 ≤ r 1 * r 1 ∧ r 1 * r 1 ≤ 36 := by
    rcases hr.1 with z | z
    · rw [(hr.2.1 z).1]; omega
    · have := sq_lb (hr.2.2.1 z).1 (hr.2.2.1 z).2; omega
  have s3 : hI h sh 3 = r 1 := HS.2.2.2.2.2.2.2.2.2.2.1
  have up1 : ∀ {p q : AH}, TX [pa] [] p q → NX [pa, xWR] [] p q := fun N => (NX.of N).up (by intro a ha; rw [List.mem_singleton.mp ha]; simp) (by decide)
  refine step ?_
  refine step ?_
  refine step ?_
  refine step ?_
  refine And.intro tsh2 ?_
  refine And.intro rfl ?_
  refine Or.inl (c_cells tsh ?_)
  rw [s3]
  refine step ?_
  refine step ?_
  refine step ?_
  refine And.intro tp ?_
  refine And.intro rfl ?_
  refine Or.inl (cp_numR H (by omega) (by omega) (fun e he p2 e9 T2 => ?_) (fun j1 v1 hv p2 H2 T2 => ?_))
  · rw [he] at K0
    exact K0 e rfl p2 e9 (NX.of T2)
  · rw [hv] at K0 K
    have K0 : ∀ e, (bN (numS T n j1 0 3) (fun j2 v2 => bN (numS T n j2 0 60) (fun j3 v3 => .inr (j3, v1, v2, v3))) : Int ⊕ (Int × Int × Int × Int)) = .inl e → ∀ p, hI p xWR 0 = e → NX [pa, xWR] [] h p → Φ (.inr xWR) p := K0
    have K : ∀ j v1' v2 v3, (bN (numS T n j1 0 3) (fun j2 v2 => bN (numS T n j2 0 60) (fun j3 v3 => .inr (j3, v1, v2, v3))) : Int ⊕ (Int × Int × Int × Int)) = .inr (j, v1', v2, v3) → ∀ p el2 Lg2, PY sh0 pa p T n j m 0 c w → SHT p sh gl ld dy el2 Lg2 (goeF r v1' v2 v3) → NX [pa, gl, el] [] h p → (el2 = el ∨ hN h ≤ ix el2) → Φ (.inl none) p := K
    refine step ?_
    refine step ?_
    refine step ?_
    refine step ?_
    refine step ?_
    refine And.intro tp ?_
    refine And.intro rfl ?_
    refine Or.inl (cp_numR H2 (by omega) (by omega) (fun e he p3 e9 T3 => ?_) (fun j2 v2 hv2 p3 H3 T3 => ?_))
    · rw [he] at K0
      exact K0 e rfl p3 e9 ((up1 T2).tr (NX.of T3))
    · rw [hv2] at K0 K
      have K0 : ∀ e, (bN (numS T n j2 0 60) (fun j3 v3 => .inr (j3, v1, v2, v3)) : Int ⊕ (Int × Int × Int × Int)) = .inl e → ∀ p, hI p xWR 0 = e → NX [pa, xWR] [] h p → Φ (.inr xWR) p := K0
      have K : ∀ j v1' v2' v3, (bN (numS T n j2 0 60) (fun j3 v3 => .inr (j3, v1, v2, v3)) : Int ⊕ (Int × Int × Int × Int)) = .inr (j, v1', v2', v3) → ∀ p el2 Lg2, PY sh0 pa p T n j m 0 c w → SHT p sh gl ld dy el2 Lg2 (goeF r v1' v2' v3) → NX [pa, gl, el] [] h p → (el2 = el ∨ hN h ≤ ix el2) → Φ (.inl none) p := K
      have N3 : NX [pa] [] h p3 := NX.of (T2.tr T3)
      have S3 := HS.nx N3 (nts_pa tpa)
      have n3 := H3.2.2.2.2.2.1
      have g3 := S3.2.1.1
      refine step ?_
      refine step ?_
      refine step ?_
      refine And.intro tsh ?_
      refine Exists.intro _ (And.intro g3 ?_)
      refine step ?_
      refine And.intro rfl ?_
      refine And.intro (by omega) ?_
      refine And.intro (by omega) ?_
      generalize ea : nwA p3 23 0 = a
      generalize eq : nwH p3 23 0 = p4
      obtain ⟨o1, o2, o3, o4, o5, o6, o7⟩ := nw_ok ea eq (by decide) (by decide) n3.2
      have da := nw_dy o1 n3.2
      have apa : a ≠ pa := fun z => by rw [z] at o1; omega
      have H4 := H3.nx o7 (by simp) (by simp) (by simp) (by decide) (by simp)
      have S4 := S3.nx o7 (fun a ha => by cases ha)
      have N4 := N3.tr (o7.up (A' := [pa]) (B' := []) (by simp) (by simp))
      refine step ?_
      refine step ?_
      refine step ?_
      refine step ?_
      refine step ?_
      refine step ?_
      refine step ?_
      refine And.intro tp ?_
      refine And.intro rfl ?_
      refine Or.inl (cp_numR H4 (by omega) (by omega) (fun e he p5 e9 T5 => ?_) (fun j3 v3 hv3 p5 H5 T5 => ?_))
      · rw [he] at K0
        exact K0 e rfl p5 e9 ((N4.up (by intro a ha; rw [List.mem_singleton.mp ha]; simp) (by decide)).tr (NX.of T5))
      · rw [hv3] at K
        have K : ∀ p el2 Lg2, PY sh0 pa p T n j3 m 0 c w → SHT p sh gl ld dy el2 Lg2 (goeF r v1 v2 v3) → NX [pa, gl, el] [] h p → (el2 = el ∨ hN h ≤ ix el2) → Φ (.inl none) p := K j3 v1 v2 v3 rfl
        have ni5 : hN p5 = hN p4 := congrArg (fun z => z.1) T5.1
        have N5 := N4.tr (NX.of T5)
        have S5 := S4.nx (NX.of T5) (nts_pa tpa)
        have na := N3.1
        refine step ?_
        refine And.intro (by omega) ?_
        refine And.intro rfl ?_
        refine Or.inl (c_X6init o2 (fun p6 W6 f0 f1 f2 => ?_))
        have wn : hN p6 = hN p5 := W6.1
        have N6 : NX [pa] [] h p6 := N5.w W6 (Or.inr (by omega)) da.nX
        have a6 : NX [a] [] p5 p6 := NX.rf.w W6 (Or.inl List.mem_cons_self) da.nX
        have H6 := H5.nx a6 (fun z => apa (List.mem_singleton.mp z).symm) (fun z => da.nX (List.mem_singleton.mp z).symm) (fun z => by rw [← List.mem_singleton.mp z] at da; revert da; decide) (by decide) da.n64
        -- the sheet, but for a: its goers are older
        have S6 : SHT p6 sh gl ld dy el Lg r := by
          obtain ⟨⟨a1, a2, a3⟩, ⟨b1, b2, b3⟩, ⟨c1, c2⟩, ⟨d1, d2⟩, ⟨e1, e2, e3, e4⟩, ⟨f1, f2, f3, f4⟩, g, l, l2, go, s3, s4, s5⟩ := S5
          have tgl := l.1
          have tel := l.2.2.2.1
          have nt : ∀ b, tg b ≠ 23 → b ≠ a := fun b hb z => hb (by rw [z]; exact o2)
          have i4 : ix a < hN p5 := by omega
          refine ⟨⟨a1, a2, by omega⟩, ⟨by rw [W6.2.2.1 sh (nt _ (by omega))]; exact b1, by rw [W6.2.2.1 sh (nt _ (by omega))]; exact b2, by rw [W6.2.2.1 sh (nt _ (by omega))]; exact b3⟩, ⟨c1, by omega⟩, ⟨d1, by omega⟩, ⟨e1, e2, e3, by omega⟩, ⟨f1, f2, f3, by omega⟩, g, l.of (by rw [W6.2.1 gl (nt _ (by omega))]) (by rw [W6.2.2.1 gl (nt _ (by omega))]) (W6.2.2.1 el (nt _ (by omega))), l2, fun k x hk => ?_, by rw [W6.2.1 sh (nt _ (by omega))]; exact s3, fun e e0 e1 => ?_, by rw [W6.2.2.2]; exact s5⟩
          · obtain ⟨q1, q2, q3, q4⟩ := go k x hk
            have xa : x ≠ a := fun z => by
              obtain ⟨-, -, -, -, -, -, -, -, -, go3, -⟩ := S3
              have := (go3 k x hk).2.2.1
              rw [z] at this
              omega
            rw [W6.2.1 x xa]
            exact ⟨q1, q2, by omega, q4⟩
          · rw [W6.2.1 ld (nt _ (by omega)), W6.2.1 dy (nt _ (by omega))]
            exact s4 e e0 e1
        have n6 := H6.2.2.2.2.2.1
        obtain ⟨⟨a1, a2, a3⟩, ⟨b1, b2, b3⟩, ⟨c1, c2⟩, ⟨d1, d2⟩, ⟨e1, e2, e3, e4⟩, ⟨f1, f2', f3, f4⟩, g, l, l2, go, s3, s4, s5⟩ := S6
        have tgl : ((tg gl : Nat) : Int) = 18 := by have := l.1; omega
        have tgl' := l.1
        have tel := l.2.2.2.1
        refine step ?_
        refine And.intro tgl ?_
        refine And.intro rfl ?_
        refine Or.inr ⟨1, 13, by omega, by omega, c_add l (by omega) ⟨by omega, by omega⟩ (Nat.le_refl _) (Nat.le_refl _) n6.2 c2 d2 (fun p7 el2 q1 q2 q3 q4 => ?_)⟩
        have n7 := q2.1
        have nA : ∀ b, tg b ≠ 18 → tg b ≠ 4 → b ∉ [gl, el] := fun b h1 h2 z => by
          have z2 : b = gl ∨ b = el := by simpa using z
          rcases z2 with y | y <;> rw [y] at h1 h2 <;> omega
        have d6 : DYS el2 := by
          rcases q3 with z | z
          · rw [z]; exact d1
          · exact Or.inr (by omega)
        have H7 := H6.nx q2 (nA _ (by omega) (by omega)) (nA _ (by decide) (by decide)) (nA _ (by decide) (by decide)) (by decide) (fun b hb => by
          have hb2 : b = gl ∨ b = el := by simpa using hb
          rcases hb2 with z | z <;> rw [z] <;> omega)
        have NN6 := N6.1
        have o : ∀ x, x ≠ 2 → (x < 90 + 3 * r 2 ∨ 90 + 3 * r 2 + 2 < x) → goeF r v1 v2 v3 x = r x := fun x x2 hx => by
          show (if x = 2 then _ else if x = 90 + 3 * r 2 + 2 then _ else if x = 90 + 3 * r 2 + 1 then _ else if x = 90 + 3 * r 2 then _ else _) = _
          rw [if_neg x2, if_neg (by omega), if_neg (by omega), if_neg (by omega)]
        have u0 : goeF r v1 v2 v3 (90 + 3 * r 2) = v1 := by
          show (if 90 + 3 * r 2 = 2 then _ else if 90 + 3 * r 2 = 90 + 3 * r 2 + 2 then _ else if 90 + 3 * r 2 = 90 + 3 * r 2 + 1 then _ else if 90 + 3 * r 2 = 90 + 3 * r 2 then v1 else _) = _
          rw [if_neg (by omega), if_neg (by omega), if_neg (by omega), if_pos rfl]
        have u1 : goeF r v1 v2 v3 (90 + 3 * r 2 + 1) = v2 := by
          show (if 90 + 3 * r 2 + 1 = 2 then _ else if 90 + 3 * r 2 + 1 = 90 + 3 * r 2 + 2 then _ else if 90 + 3 * r 2 + 1 = 90 + 3 * r 2 + 1 then v2 else _) = _
          rw [if_neg (by omega), if_neg (by omega), if_pos rfl]
        have u2 : goeF r v1 v2 v3 (90 + 3 * r 2 + 2) = v3 := by
          show (if 90 + 3 * r 2 + 2 = 2 then _ else if 90 + 3 * r 2 + 2 = 90 + 3 * r 2 + 2 then v3 else _) = _
          rw [if_neg (by omega), if_pos rfl]
        have pS := q2.2.2.2.1 sh a3 (nA _ (by omega) (by omega))
        refine step ?_
        refine And.intro rfl ?_
        refine step ?_
        refine K p7 el2 (Lg ++ [a]) H7 ⟨⟨a1, a2, by omega⟩, ⟨by rw [pS]; exact b1, by rw [pS]; exact b2, by rw [pS]; exact b3⟩, ⟨c1, by omega⟩, ⟨d6, q4⟩, ⟨e1, e2, e3, by omega⟩, ⟨f1, f2', f3, by omega⟩, g, q1, ?_, fun k x hk => ?_, ?_, fun e e0 e1 => ?_, ?_⟩ ((N6.up (by simp) (by simp)).tr (q2.up (by simp) (by simp))) (q3.elim Or.inl (fun z => Or.inr (by omega)))
        · rw [show goeF r v1 v2 v3 2 = r 2 + 1 from rfl]
          simp
          omega
        · rcases Nat.lt_or_ge k Lg.length with z | z
          · rw [List.getElem?_append_left z] at hk
            obtain ⟨w1, w2, w3, w4⟩ := go k x hk
            rw [q2.2.1 x w3 (nA _ (by omega) (by omega)) w2.nX, o (90 + 3 * k) (by omega) (by omega), o (90 + 3 * k + 1) (by omega) (by omega), o (90 + 3 * k + 2) (by omega) (by omega)]
            exact ⟨w1, w2, by omega, w4⟩
          · rw [List.getElem?_append_right z] at hk
            have hk0 : k - Lg.length = 0 := by
              rcases Nat.lt_or_ge (k - Lg.length) 1 with u | u
              · omega
              · rw [List.getElem?_eq_none (by simpa using u)] at hk
                cases hk
            rw [hk0] at hk
            have hx : x = a := by simpa using hk.symm
            subst hx
            rw [show (k : Int) = r 2 by omega, u0, u1, u2, q2.2.1 x (by omega) (nA _ (by omega) (by omega)) da.nX]
            exact ⟨o2, da, by omega, f0, f1, f2⟩
        · rw [q2.2.1 sh a3 (nA _ (by omega) (by omega)) a2.nX, o 1 (by omega) (by omega)]
          exact s3
        · rw [q2.2.1 ld e4 (nA _ (by omega) (by omega)) e3.nX, q2.2.1 dy f4 (nA _ (by omega) (by omega)) f3.nX, o (105 + e) (by omega) (by omega), o (86 + e) (by omega) (by omega)]
          exact s4 e e0 e1
        · rw [q2.2.2.2.2 sh a3 (nA _ (by rw [tg_lb]; decide) (by rw [tg_lb]; decide))]
          exact s5.to (fun x x0 x1 => o _ (by omega) (by omega))
