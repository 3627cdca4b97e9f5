-- NEEDS: 73 77 81 97 98
/-! THE COMPONENT'S READER: a sheet, read to its end -/
theorem NX.cut {A : List Nat} {B : List Int} {h p q : AH} {A2 : List Nat} (x : NX A B h p) (y : NX A2 B p q) (hA : ∀ a ∈ A2, a ∈ A ∨ hN h ≤ ix a) : NX A B h q := by
  have n1 := x.1
  refine ⟨Nat.le_trans x.1 y.1, fun b hb nb bX => ?_, fun m hm => ?_, fun b hb nb => ?_, fun b hb nb => ?_⟩
  · rw [y.2.1 b (by omega) (fun z => (hA b z).elim nb (fun u => by omega)) bX]; exact x.2.1 b hb nb bX
  · rw [y.2.2.1 m hm]; exact x.2.2.1 m hm
  · rw [y.2.2.2.1 b (by omega) (fun z => (hA b z).elim nb (fun u => by omega))]; exact x.2.2.2.1 b hb nb
  · have lx := ix_lb b
    rw [y.2.2.2.2 b (by omega) (fun z => (hA _ z).elim nb (fun u => by omega))]; exact x.2.2.2.2 b hb nb
set_option maxHeartbeats 1000000 in
theorem cp_sheet {d : Nat} {h : AH} {Φ : OUT → AH → Prop} {sh0 pa : Nat} {T : Int → Int} {n : Int} (H : PY sh0 pa h T n 0 0 0 0 40)
    (K0 : ∀ e, sheS T n = .inl e → ∀ p, hI p xWR 0 = e → NX [pa, xWR] [] h p → Φ (.inr xWR) p)
    (K : ∀ c r, sheS T n = .inr (c, r) → RDO r → ∀ p sh gl ld dy el Lg, SHT p sh gl ld dy el Lg r → NX [pa] [] h p → (hN h ≤ ix sh ∧ hN h ≤ ix gl ∧ hN h ≤ ix ld ∧ hN h ≤ ix dy ∧ hN h ≤ ix el) → Φ (.inl (some (vo sh))) p) : CT (d + 61) 410 1700 J_X5_sheet [vo pa] h Φ := by
  have tpa := H.1.2.2.1
  have tp : ((tg pa : Nat) : Int) = 22 := by omega
  have i1 := H.1.2.2.2.2.2.2.2.2.1
  have n4 := H.1.2.2.2.2.2.2.2.2.2.1
  have hB := H.1.2.2.2.2.2.2.2.2.2.2
  have nh := H.2.2.2.2.2.1
  have up1 : ∀ {p q : AH}, NX [pa] [] p q → NX [pa, xWR] [] p q := fun N => N.up (by intro a ha; rw [List.mem_singleton.mp ha]; simp) (by decide)
  obtain ⟨V, hV⟩ : ∃ V, sheS T n = V := ⟨_, rfl⟩
  rw [hV] at K0 K
  unfold sheS at hV
  rw [show (n + 1).toNat = n.toNat + 1 by omega] at hV
  unfold rdL at hV
  refine e_X5_sheet ?_; intro k step keep
  have loop : ∀ (q : Nat) (p : AH) (sh gl ld dy el : Nat) (Lg : List Nat) (m j c : Int) (r : Int → Int) (cu su : Nat), n - j < q → PY sh0 pa p T n j m 0 c 40 → SHT p sh gl ld dy el Lg r → RDO r → NX [pa] [] h p → (hN h ≤ ix sh ∧ hN h ≤ ix gl ∧ hN h ≤ ix ld ∧ hN h ≤ ix dy ∧ hN h ≤ ix el) → cu ≤ 5 + j → su ≤ 18 + 4 * j → (V = if byF T n (skp T n j) = 59 then rdL (sclS T n) T n q (skp T n j + 1) (c, r) else if byF T n (skp T n j) = -1 then .inr (c, r) else .inl (1 + 8 * skp T n j + 0)) → k cu su 13 [(0, vo pa), (1, vo sh)] [] p := by
    intro q
    induction q with
    | zero =>
      intro p sh gl ld dy el Lg m j c r cu su hq Hp
      have := Hp.1.2.2.2.2.2.2.2.2.1
      omega
    | succ q ih =>
      intro p sh gl ld dy el Lg m j c r cu su hq Hp HS hr N hnew hcu hsu hres
      have j1 := Hp.1.2.2.2.2.2.2.2.2.1
      have sk := skp_ok (T := T) j1.2
      have cb := Hp.2.2.2.1
      refine step ?_
      refine step ?_
      refine And.intro tp ?_
      refine And.intro rfl ?_
      refine Or.inl (cp_goesOn Hp (fun hz p2 H2 T2 => ?_) (fun h1 h2 p2 e2 T2 => ?_) (fun hz p2 H2 T2 => ?_))
      · rw [if_neg (by omega), if_pos hz] at hres
        refine step ?_
        refine And.intro (by omega) ?_
        refine And.intro (fun _ => ?_) (fun z => absurd rfl z)
        refine step ?_
        refine step ?_
        exact K c r hres hr p2 sh gl ld dy el Lg (HS.nx (NX.of T2) (nts_pa tpa)) (N.tr (NX.of T2)) hnew
      · rw [if_neg h2, if_neg h1] at hres
        exact K0 _ hres p2 e2 ((up1 N).tr (NX.of T2))
      · rw [if_pos hz] at hres
        have hl := byF_lt hz (by decide)
        unfold rdL at hres
        have ok := sclS_ok (T := T) (n := n) (i := skp T n j + 1) (s := (c, r)) (by omega) (by omega) cb.2.2.1 cb.2.2.2.1 hr
        have S2 := HS.nx (NX.of T2) (nts_pa tpa)
        have N2 := N.tr (NX.of T2)
        have hn2 : hN p2 = hN p := congrArg (fun z => z.1) T2.1
        have cbd : chC n (skp T n j + 1) (sclS T n (skp T n j + 1) (c, r)) ≤ (n - (skp T n j + 1)).toNat := by
          rcases hc : sclS T n (skp T n j + 1) (c, r) with e | ⟨j2, s2⟩
          · exact Nat.le_refl _
          · rw [hc] at ok
            show (j2 - (skp T n j + 1)).toNat ≤ _
            have := ok.2.1
            omega
        refine step ?_
        refine And.intro (by omega) ?_
        refine And.intro (fun z => by omega) (fun _ => ?_)
        refine step ?_
        refine step ?_
        refine step ?_
        refine And.intro tp ?_
        refine And.intro rfl ?_
        refine Or.inr ⟨chC n (skp T n j + 1) (sclS T n (skp T n j + 1) (c, r)), 4 * chC n (skp T n j + 1) (sclS T n (skp T n j + 1) (c, r)), by omega, by omega, cp_clauseS (d := d + 50) H2 S2 hr (Nat.le_refl _) (Nat.le_refl _) (fun e he p3 w3 N3 => ?_) (fun j3 r3 he p3 el3 Lg3 H3 S3 N3 hel3 => ?_)⟩
        · rw [he] at hres
          exact K0 e hres p3 w3 ((up1 N2).tr N3)
        · rw [he] at hres ok
          have ok1 : skp T n j + 1 < j3 := ok.1
          have rok : RDO r3 := ok.2.2.2.2
          have cz : chC n (skp T n j + 1) (sclS T n (skp T n j + 1) (c, r)) = (j3 - (skp T n j + 1)).toNat := by rw [he]; rfl
          have NN2 := N2.1
          have lx := ix_lb sh
          have N3' : NX [pa] [] h p3 := N2.cut N3 (fun a ha => by
            simp only [List.mem_cons, List.not_mem_nil, or_false] at ha
            rcases ha with z | z | z | z | z | z | z
            · exact Or.inl (by rw [z]; simp)
            · exact Or.inr (by rw [z]; omega)
            · exact Or.inr (by rw [z]; omega)
            · exact Or.inr (by rw [z]; omega)
            · exact Or.inr (by rw [z]; omega)
            · exact Or.inr (by rw [z]; omega)
            · exact Or.inr (by rw [z]; omega))
          refine step ?_
          refine ih p3 sh gl ld dy el3 Lg3 m j3 (c + 1) r3 _ _ (by omega) H3 S3 rok N3' ⟨by omega, by omega, by omega, by omega, ?_⟩ (by omega) (by omega) hres
          rcases hel3 with z | z
          · rw [z]; omega
          · omega
  have ok := sclS_ok (T := T) (n := n) (i := 0) (s := (0, rd0)) (by omega) i1.2 (by decide) (by decide) RDO_0
  have cbd : chC n 0 (sclS T n 0 (0, rd0)) ≤ n.toNat := by
    rcases hc : sclS T n 0 (0, rd0) with e | ⟨j2, s2⟩
    · show (n - 0).toNat ≤ _
      omega
    · rw [hc] at ok
      show (j2 - 0).toNat ≤ _
      have := ok.2.1
      omega
  refine step ?_
  refine And.intro rfl ?_
  refine And.intro (by omega) ?_
  refine And.intro (by omega) ?_
  generalize ea : nwA h 17 0 = sh
  generalize eq : nwH h 17 0 = p1
  obtain ⟨o1, o2, o3, o4, o5, o6, o7⟩ := nw_ok ea eq (by decide) (by decide) nh.2
  have oL := nw_okL ea eq
  have ds := nw_dy o1 nh.2
  have H1 := H.nx o7 (by simp) (by simp) (by simp) (by decide) (by simp)
  have spa : pa ≠ sh := fun z => by rw [z] at nh; omega
  refine step ?_
  refine step ?_
  refine And.intro (by omega) ?_
  refine And.intro rfl ?_
  refine Or.inr ⟨4, 13, by omega, by omega, c_X1init o2 (by omega) ds (by omega) (o5 3) (oL 4) (Nat.le_refl _) (Nat.le_refl _) (fun p2 gl ld dy el S2 N2 hnew => ?_)⟩
  have H2 := H1.nx N2 (fun z => spa (List.mem_singleton.mp z)) (fun z => ds.nX (List.mem_singleton.mp z).symm) (fun z => by rw [← List.mem_singleton.mp z] at ds; revert ds; decide) (by decide) ds.n64
  have N2' : NX [pa] [] h p2 := o7.new N2 (fun a ha => Or.inr (by rw [List.mem_singleton.mp ha]; omega)) (by simp)
  refine step ?_
  refine step ?_
  refine step ?_
  refine step ?_
  refine And.intro tp ?_
  refine And.intro rfl ?_
  refine Or.inr ⟨chC n 0 (sclS T n 0 (0, rd0)), 4 * chC n 0 (sclS T n 0 (0, rd0)), by omega, by omega, cp_clauseS (d := d + 50) H2 S2 RDO_0 (Nat.le_refl _) (Nat.le_refl _) (fun e he p3 w3 N3 => ?_) (fun j3 r3 he p3 el3 Lg3 H3 S3 N3 hel3 => ?_)⟩
  · rw [he] at hV
    exact K0 e hV.symm p3 w3 ((up1 N2').tr N3)
  · rw [he] at hV ok
    have ok1 : 0 < j3 := ok.1
    have rok : RDO r3 := ok.2.2.2.2
    have hV : (if byF T n (skp T n j3) = 59 then rdL (sclS T n) T n n.toNat (skp T n j3 + 1) (0 + 1, r3) else if byF T n (skp T n j3) = -1 then .inr (0 + 1, r3) else .inl (1 + 8 * skp T n j3 + 0)) = V := hV
    have cz : chC n 0 (sclS T n 0 (0, rd0)) = (j3 - 0).toNat := by rw [he]; rfl
    have NN2 := N2'.1
    have lx := ix_lb sh
    have N3' : NX [pa] [] h p3 := N2'.cut N3 (fun a ha => by
      simp only [List.mem_cons, List.not_mem_nil, or_false] at ha
      rcases ha with z | z | z | z | z | z | z
      · exact Or.inl (by rw [z]; simp)
      · exact Or.inr (by rw [z]; omega)
      · exact Or.inr (by rw [z]; omega)
      · exact Or.inr (by rw [z]; omega)
      · exact Or.inr (by rw [z]; omega)
      · exact Or.inr (by rw [z]; omega)
      · exact Or.inr (by rw [z]; omega))
    refine loop n.toNat p3 sh gl ld dy el3 Lg3 0 j3 (0 + 1) r3 _ _ (by omega) H3 S3 rok N3' ⟨by omega, by omega, by omega, by omega, ?_⟩ (by omega) (by omega) hV.symm
    rcases hel3 with z | z
    · rw [z]; omega
    · omega
