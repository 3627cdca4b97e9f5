-- NEEDS: 73 97 98
/-! THE COMPONENT'S READER: a rule, whole -/
/-- the list of rules: elR its array -/
def RUS (h : AH) (ρ : Int → RLE) (nr : Int) (elR : Nat) : Prop := ∃ Lr, LST h xRU elR Lr ∧ (Lr.length : Int) = nr ∧ nr ≤ 6 ∧ (64 ≤ ix elR ∧ ix elR < hN h) ∧ ∀ (k : Nat) ru, Lr[k]? = some ru → ∃ li el L, RULE h ru li el L (ρ k) ∧ (ρ k).length ≤ 12 ∧ el ≠ elR
abbrev NTG (A : List Nat) : Prop := ∀ a ∈ A, tg a ≠ 24 ∧ tg a ≠ 18 ∧ tg a ≠ 4 ∧ ¬ (25 ≤ tg a ∧ tg a ≤ 31)
theorem RUS.nx {A : List Nat} {B : List Int} {h p : AH} {ρ : Int → RLE} {nr : Int} {elR : Nat} (H : RUS h ρ nr elR) (N : NX A B h p) (hA : NTG A) (hn : 307 ≤ hN h) : RUS p ρ nr elR := by
  obtain ⟨Lr, l1, l2, l3, ⟨l4, l5⟩, l6⟩ := H
  have O : OLD h p := OLD.of N (fun a ha z => (hA a ha).2.2.2 z.2)
  have ni : ∀ b, (tg b = 24 ∨ tg b = 18 ∨ tg b = 4) → b ∉ A := fun b hb z => by
    have := hA b z
    omega
  have ixr : ix xRU = 88 := by decide
  have n1 := N.1
  refine ⟨Lr, l1.of (by rw [N.2.1 xRU (by omega) (ni _ (by decide)) (by decide)]) (by rw [N.2.2.2.1 xRU (by omega) (ni _ (by decide))]) (N.2.2.2.1 elR l5 (ni _ (by have := l1.2.2.2.1; omega))), l2, l3, ⟨l4, by omega⟩, fun k ru hk => ?_⟩
  obtain ⟨li, el, L, R, q1, q2⟩ := l6 k ru hk
  exact ⟨li, el, L, R.nx N O (ni _ (Or.inl R.1.1)) (ni _ (by have := R.2.2.2.2.1.1; omega)) (ni _ (by have := R.2.2.2.2.1.2.2.2.1; omega)), q1, q2⟩
theorem c_X7init {d : Nat} {h : AH} {Φ : OUT → AH → Prop} {mc ms ru : Nat} (tr : tg ru = 24) (ir : ix ru < hN h) (dr : DYS ru) (hn : 307 ≤ hN h) (hmc : 2 ≤ mc) (hms : 5 ≤ ms) (K : ∀ p li el, RULE p ru li el [] [] → NX [ru] [] h p → hN h ≤ ix el → hN h ≤ ix li → Φ (.inl none) p) : CT (d + 4) mc ms J_X7_init [vo ru] h Φ := by
  refine e_X7_init ?_; intro k step keep
  have tn : tg ru ≠ 10 := by omega
  have rX : ru ≠ X := dr.nX
  refine step ?_
  refine step ?_
  refine And.intro tn ?_
  refine And.intro rfl ?_
  refine step ?_
  refine step ?_
  refine And.intro rfl ?_
  refine And.intro (by omega) ?_
  refine And.intro (by omega) ?_
  generalize ea : nwA h 18 0 = li
  generalize eq : nwH h 18 0 = q
  obtain ⟨o1, o2, o3, o4, o5, o6, o7⟩ := nw_ok ea eq (by decide) (by decide) hn
  have dl := nw_dy o1 hn
  have rl : ru ≠ li := fun z => by rw [z] at ir; omega
  refine step ?_
  refine step ?_
  refine step ?_
  refine And.intro (by omega) ?_
  refine And.intro rfl ?_
  refine Or.inr ⟨1, 2, by omega, by omega, c_J2init o2 (by omega) (by omega) (o5 2) (Nat.le_refl _) (Nat.le_refl _) (fun p el q1 q2 q3 q4 q5 => ?_)⟩
  refine step ?_
  refine And.intro tr ?_
  refine wpP (fun p2 W2 g2 i2 => ?_)
  refine step ?_
  have n5 := q5.1
  have lel : li ≠ el := fun z => by rw [← z] at q2; omega
  have e1 : hI p2 li = hI p li := W2.2.1 li (fun z => rl z.symm)
  have e2 : hP p2 li = hP p li := W2.2.2.1 li (fun z => rl z.symm)
  have rel : el ≠ ru := fun z => by rw [z] at q2; omega
  refine K p2 li el ⟨⟨tr, dr, by rw [W2.1]; omega⟩, by rw [g2, if_pos rfl], ⟨dl, by rw [W2.1]; omega⟩, ⟨Or.inr (by omega), by rw [W2.1]; omega⟩, q1.of (by rw [e1]) (by rw [e2]) (W2.2.2.1 el rel), rfl, fun k to q hk => by simp at hk⟩ ?_ (by omega) (by omega)
  have N1 : NX [] [] h p := by
    refine ⟨by omega, fun b hb _ bX => ?_, fun m _ => ?_, fun b hb _ => ?_, fun b hb _ => ?_⟩
    · have bl : b ∉ [li] := fun z => by rw [List.mem_singleton.mp z] at hb; omega
      rw [q5.2.1 b (by omega) bl bX]; exact o7.2.1 b hb (by simp) bX
    · rw [q5.2.2.1 m (by simp)]; exact o7.2.2.1 m (by simp)
    · have bl : b ∉ [li] := fun z => by rw [List.mem_singleton.mp z] at hb; omega
      rw [q5.2.2.2.1 b (by omega) bl]; exact o7.2.2.2.1 b hb (by simp)
    · have bl : lb b ∉ [li] := fun z => by
        have := List.mem_singleton.mp z
        have t := tg_lb b
        rw [this] at t
        omega
      rw [q5.2.2.2.2 b (by omega) bl]; exact o7.2.2.2.2 b hb (by simp)
  exact (N1.up (by simp) (by simp)).w W2 (Or.inl List.mem_cons_self) rX
/-- room left behind place i -/
abbrev upR (ρ : Int → RLE) (k : Int) (L : RLE) : Int → RLE := fun r => if r = k then L else ρ r
theorem rclS_len {T : Int → Int} {n i j : Int} {s s2 : Int × RLE} (h : rclS T n i s = .inr (j, s2)) : s.2.length ≠ 12 := by
  intro z
  unfold rclS at h
  by_cases hw : wdB T n (skp T n i) wTURN = true
  · rw [if_pos hw, if_pos z] at h; cases h
  · rw [if_neg hw] at h; cases h
set_option maxHeartbeats 1000000 in
theorem cp_rule {d : Nat} {h : AH} {Φ : OUT → AH → Prop} {sh pa elR : Nat} {T : Int → Int} {n nr : Int} {ρ : Int → RLE} (H : PY sh pa h T n 0 0 0 0 12) (HR : RUS h ρ nr elR) (r6 : nr < 6)
    (K0 : ∀ e, rulS T n = .inl e → ∀ p, hI p xWR 0 = e → NX [pa, xWR] [] h p → Φ (.inr xWR) p)
    (K : ∀ m acc, rulS T n = .inr (m, acc) → acc.length ≤ 12 → ∀ p el2, RUS p (upR ρ nr acc) (nr + 1) el2 → (el2 = elR ∨ hN h ≤ ix el2) → NX [pa, xRU, elR] [] h p → Φ (.inl (some (vi nr))) p) : CT (d + 61) 410 1700 J_X5_rule [vo pa] h Φ := by
  have tpa := H.1.2.2.1
  have tp : ((tg pa : Nat) : Int) = 22 := by omega
  have i1 := H.1.2.2.2.2.2.2.2.2.1
  have n4 := H.1.2.2.2.2.2.2.2.2.2.1
  have hB := H.1.2.2.2.2.2.2.2.2.2.2
  have nh := H.2.2.2.2.2.1
  have up1 : ∀ {p q : AH}, NX [pa] [] p q → NX [pa, xWR] [] p q := fun N => N.up (by intro a ha; rw [List.mem_singleton.mp ha]; simp) (by decide)
  obtain ⟨V, hV⟩ : ∃ V, rulS T n = V := ⟨_, rfl⟩
  rw [hV] at K0 K
  unfold rulS at hV
  rw [show (n + 1).toNat = n.toNat + 1 by omega] at hV
  unfold rdL at hV
  refine e_X5_rule ?_; intro k step keep
  -- what one clause does
  have fin : ∀ (p : AH) (ru li el : Nat) (L : List Nat) (m i : Int) (acc : RLE) (cu su : Nat), V = .inr (m, acc) → acc.length ≤ 12 → PY sh pa p T n i m 0 acc.length 12 → RULE p ru li el L acc → NX [pa] [] h p → hN h ≤ ix el → cu + 1 ≤ 410 → su + 13 ≤ 1700 → k cu su 28 [(0, vo pa), (1, vo ru)] [] p := by
    intro p ru li el L m i acc cu su hres a12 Hp HRu N hel hcu hsu
    have RUp := HR.nx N (by intro a ha; rw [List.mem_singleton.mp ha, tpa]; decide) nh.2
    obtain ⟨Lr, l1, l2, l3, ⟨l4, l5⟩, l6⟩ := RUp
    have r4 := Hp.1.2.1
    have r4' := Hp.1.2.2.2.1
    have np := Hp.2.2.2.2.2.1
    have nN := N.1
    have tru := HRu.1.1
    have ixr : ix xRU = 88 := by decide
    have tel := l1.2.2.2.1
    have ilr : ix elR < hN h := by
      obtain ⟨_, _, _, _, ⟨_, z⟩, _⟩ := HR
      exact z
    have rX3 : hP p X 3 = some xRU := by rw [r4]; rfl
    refine step ?_
    refine step ?_
    refine And.intro tpa ?_
    refine Exists.intro _ (And.intro r4' ?_)
    refine step ?_
    refine And.intro rfl ?_
    refine Exists.intro _ (And.intro rX3 ?_)
    refine step ?_
    refine step ?_
    refine And.intro rfl ?_
    refine And.intro rfl ?_
    refine Or.inr ⟨1, 13, by omega, by omega, c_add l1 (by omega) ⟨by omega, by omega⟩ (Nat.le_refl _) (Nat.le_refl _) np.2 (by omega) l5 (fun p2 el2 q1 q2 q3 q4 => ?_)⟩
    have n2 := q2.1
    have O2 : OLD p p2 := OLD.of q2 (fun b hb => by
      have hb2 : b = xRU ∨ b = elR := by simpa using hb
      rcases hb2 with z | z
      · rw [z]; decide
      · rw [z]; omega)
    have e6 : hP p2 pa 6 = some X := by
      rw [q2.2.2.2.1 pa np.1 (by simp; exact ⟨fun z => by rw [z] at tpa; revert tpa; decide, fun z => by rw [z] at tpa; omega⟩)]
      exact r4'
    have iX : ix X = 64 := by decide
    have e3 : hP p2 X 3 = some xRU := by
      rw [q2.2.2.2.1 X (by omega) (by simp; exact ⟨by decide, fun z => by rw [← z] at tel; revert tel; decide⟩)]
      exact rX3
    have sz : hI p2 xRU 2 = nr + 1 := by
      rw [q1.2.1]
      simp
      omega
    refine step ?_
    refine And.intro rfl ?_
    refine step ?_
    refine step ?_
    refine And.intro tpa ?_
    refine Exists.intro _ (And.intro e6 ?_)
    refine step ?_
    refine And.intro rfl ?_
    refine Exists.intro _ (And.intro e3 ?_)
    refine step ?_
    refine And.intro rfl ?_
    refine And.intro rfl ?_
    refine Or.inl (c_size rfl ?_)
    rw [sz]
    refine step ?_
    refine step ?_
    refine step ?_
    refine And.intro trivial ?_
    rw [show nr + 1 - 1 = nr by omega]
    refine K m acc hres a12 p2 el2 ⟨Lr ++ [ru], q1, by simp; omega, by omega, ⟨by
      rcases q3 with z | z
      · rw [z]; exact l4
      · omega, q4⟩, fun k r hk => ?_⟩ (q3.elim Or.inl (fun z => Or.inr (by omega))) ((N.up (by simp) (by simp)).tr (q2.up (by simp) (by simp)))
    have keepR : ∀ (r li el : Nat) (L : List Nat) (a : RLE), RULE p r li el L a → el ≠ elR → RULE p2 r li el L a := fun r li el L a hr hne => by
      refine hr.nx q2 O2 ?_ ?_ ?_
      · simp
        exact ⟨fun z => by have := hr.1.1; rw [z] at this; revert this; decide, fun z => by have := hr.1.1; rw [z] at this; omega⟩
      · have dl := hr.2.2.1.1
        have tl := hr.2.2.2.2.1.1
        simp
        exact ⟨fun z => by rw [z] at dl; revert dl; decide, fun z => by rw [z] at tl; omega⟩
      · have dl := hr.2.2.2.1.1
        simp
        exact ⟨fun z => by rw [z] at dl; revert dl; decide, hne⟩
    rcases Nat.lt_or_ge k Lr.length with z | z
    · rw [List.getElem?_append_left z] at hk
      obtain ⟨li2, e2, L2, w1, w2, w3⟩ := l6 k r hk
      refine ⟨li2, e2, L2, ?_, ?_, ?_⟩
      · show RULE p2 r li2 e2 L2 (if (k : Int) = nr then acc else ρ k)
        rw [if_neg (by omega)]
        exact keepR r li2 e2 L2 _ w1 w3
      · show (if (k : Int) = nr then acc else ρ k).length ≤ 12
        rw [if_neg (by omega)]
        exact w2
      · intro y
        rcases q3 with u | u
        · exact w3 (y.trans u)
        · have := w1.2.2.2.1.2
          rw [y] at this
          omega
    · rw [List.getElem?_append_right z] at hk
      have hk0 : k - Lr.length = 0 := by
        rcases Nat.lt_or_ge (k - Lr.length) 1 with u | u
        · omega
        · rw [List.getElem?_eq_none (by simpa using u)] at hk
          cases hk
      rw [hk0] at hk
      have hr : r = ru := by simpa using hk.symm
      subst hr
      have kn : (k : Int) = nr := by omega
      have ner : el ≠ elR := fun z => by rw [z] at hel; omega
      refine ⟨li, el, L, ?_, ?_, ?_⟩
      · show RULE p2 r li el L (if (k : Int) = nr then acc else ρ k)
        rw [if_pos kn]
        exact keepR r li el L acc HRu ner
      · show (if (k : Int) = nr then acc else ρ k).length ≤ 12
        rw [if_pos kn]
        exact a12
      · intro y
        rcases q3 with u | u
        · exact ner (y.trans u)
        · have := HRu.2.2.2.1.2
          rw [y] at this
          omega
  have loop : ∀ (q : Nat) (p : AH) (ru li el : Nat) (L : List Nat) (m j : Int) (acc : RLE) (cu su : Nat), n - j < q → PY sh pa p T n j m 0 acc.length 12 → RULE p ru li el L acc → NX [pa] [] h p → hN h ≤ ix el → hN h ≤ ix li → acc.length ≤ 12 → cu ≤ 3 + j → su ≤ 6 + 4 * j → (V = if byF T n (skp T n j) = 59 then rdL (rclS T n) T n q (skp T n j + 1) (m, acc) else if byF T n (skp T n j) = -1 then .inr (m, acc) else .inl (1 + 8 * skp T n j + 0)) → k cu su 13 [(0, vo pa), (1, vo ru)] [] p := by
    intro q
    induction q with
    | zero =>
      intro p ru li el L m j acc cu su hq Hp
      have := Hp.1.2.2.2.2.2.2.2.2.1
      omega
    | succ q ih =>
      intro p ru li el L m j acc cu su hq Hp HRu N hel ilh a12 hcu hsu hres
      have j1 := Hp.1.2.2.2.2.2.2.2.2.1
      have sk := skp_ok (T := T) j1.2
      have mb := Hp.2.1
      have tru := HRu.1.1
      have nru : ∀ b, tg b ≠ 22 → b ∉ [pa] := fun b hb z => hb (by rw [List.mem_singleton.mp z]; exact tpa)
      have kR : ∀ p2, TX [pa] [] p p2 → RULE p2 ru li el L acc := fun p2 T2 => HRu.nx (NX.of T2) (OLD.of (NX.of T2) (pa_tag Hp)) (nru _ (by omega)) (nru _ (by have := HRu.2.2.2.2.1.1; omega)) (nru _ (by have := HRu.2.2.2.2.1.2.2.2.1; omega))
      refine step ?_
      refine step ?_
      refine And.intro tp ?_
      refine And.intro rfl ?_
      refine Or.inl (cp_goesOn Hp (fun hz p2 H2 T2 => ?_) (fun h1 h2 p2 e2 T2 => ?_) (fun hz p2 H2 T2 => ?_))
      · rw [if_neg (by omega), if_pos hz] at hres
        refine step ?_
        refine And.intro (by omega) ?_
        refine And.intro (fun _ => ?_) (fun z => absurd rfl z)
        exact fin p2 ru li el L m _ acc cu su hres a12 H2 (kR p2 T2) (N.tr (NX.of T2)) hel (by omega) (by omega)
      · rw [if_neg h2, if_neg h1] at hres
        exact K0 _ hres p2 e2 ((up1 N).tr (NX.of T2))
      · rw [if_pos hz] at hres
        have hl := byF_lt hz (by decide)
        unfold rdL at hres
        have ok := rclS_ok (T := T) (n := n) (i := skp T n j + 1) (s := (m, acc)) (by omega) (by omega) mb.2.2
        have R2 := kR p2 T2
        have N2 := N.tr (NX.of T2)
        have cb : chC n (skp T n j + 1) (rclS T n (skp T n j + 1) (m, acc)) ≤ (n - (skp T n j + 1)).toNat := by
          rcases hc : rclS T n (skp T n j + 1) (m, acc) with e | ⟨j2, s2⟩
          · exact Nat.le_refl _
          · rw [hc] at ok
            show (j2 - (skp T n j + 1)).toNat ≤ _
            have := ok.2.1
            omega
        refine step ?_
        refine And.intro (by omega) ?_
        refine And.intro (fun z => by omega) (fun _ => ?_)
        refine step ?_
        refine step ?_
        refine step ?_
        refine And.intro tp ?_
        refine And.intro rfl ?_
        refine Or.inr ⟨chC n (skp T n j + 1) (rclS T n (skp T n j + 1) (m, acc)), 4 * chC n (skp T n j + 1) (rclS T n (skp T n j + 1) (m, acc)), by omega, by omega, cp_clauseR H2 rfl a12 R2 (Nat.le_refl _) (Nat.le_refl _) (fun e he p3 w3 N3 => ?_) (fun j3 m3 cl he p3 el3 L3 H3 R3 N3 hel3 => ?_)⟩
        · rw [he] at hres
          exact K0 e hres p3 w3 ((up1 N2).tr N3)
        · rw [he] at hres ok
          have ok1 : skp T n j + 1 < j3 := ok.1
          have cz : chC n (skp T n j + 1) (rclS T n (skp T n j + 1) (m, acc)) = (j3 - (skp T n j + 1)).toNat := by rw [he]; rfl
          have NN2 := N2.1
          have N3' : NX [pa] [] h p3 := by
            refine ⟨by have := N3.1; omega, fun b hb nb bX => ?_, fun x hx => ?_, fun b hb nb => ?_, fun b hb nb => ?_⟩ 
            · rw [N3.2.1 b (by omega) (by simp; exact ⟨fun z => nb (by rw [z]; simp), fun z => by rw [z] at hb; omega, fun z => by rw [z] at hb; omega⟩) bX]; exact N2.2.1 b hb nb bX
            · rw [N3.2.2.1 x hx]; exact N2.2.2.1 x hx
            · rw [N3.2.2.2.1 b (by omega) (by simp; exact ⟨fun z => nb (by rw [z]; simp), fun z => by rw [z] at hb; omega, fun z => by rw [z] at hb; omega⟩)]; exact N2.2.2.2.1 b hb nb
            · have lx := ix_lb b
              rw [N3.2.2.2.2 b (by omega) (by simp; exact ⟨fun z => nb (by rw [z]; simp), fun z => by rw [z] at lx; omega, fun z => by rw [z] at lx; omega⟩)]; exact N2.2.2.2.2 b hb nb
          have al := rclS_len he
          have al : acc.length ≠ 12 := al
          have hc2 : ((acc ++ [cl]).length : Int) = acc.length + 1 := by simp
          refine step ?_
          refine ih p3 ru li el3 L3 m3 j3 (acc ++ [cl]) _ _ (by omega) (by rw [hc2]; exact H3) R3 N3' ?_ ilh (by simp; omega) (by omega) (by omega) hres
          rcases hel3 with z | z
          · rw [z]; exact hel
          · omega
  have ok := rclS_ok (T := T) (n := n) (i := 0) (s := (0, [])) (by omega) i1.2 (by decide)
  have cb : chC n 0 (rclS T n 0 (0, [])) ≤ n.toNat := by
    rcases hc : rclS T n 0 (0, []) with e | ⟨j2, s2⟩
    · show (n - 0).toNat ≤ _
      omega
    · rw [hc] at ok
      show (j2 - 0).toNat ≤ _
      have := ok.2.1
      omega
  refine step ?_
  refine And.intro rfl ?_
  refine And.intro (by omega) ?_
  refine And.intro (by omega) ?_
  generalize ea : nwA h 24 0 = ru
  generalize eq : nwH h 24 0 = p1
  obtain ⟨o1, o2, o3, o4, o5, o6, o7⟩ := nw_ok ea eq (by decide) (by decide) nh.2
  have dr := nw_dy o1 nh.2
  have H1 := H.nx o7 (by simp) (by simp) (by simp) (by decide) (by simp)
  have rpa : pa ≠ ru := fun z => by rw [z] at nh; omega
  refine step ?_
  refine step ?_
  refine And.intro (by omega) ?_
  refine And.intro rfl ?_
  refine Or.inr ⟨2, 5, by omega, by omega, c_X7init o2 (by omega) dr (by omega) (Nat.le_refl _) (Nat.le_refl _) (fun p2 li el R2 N2 hel hli => ?_)⟩
  have H2 := H1.nx N2 (fun z => rpa (List.mem_singleton.mp z)) (fun z => dr.nX (List.mem_singleton.mp z).symm) (fun z => by rw [← List.mem_singleton.mp z] at dr; revert dr; decide) (by decide) dr.n64
  have N2' : NX [] [] h p2 := by
    refine ⟨by have := N2.1; omega, fun b hb nb bX => ?_, fun x hx => ?_, fun b hb nb => ?_, fun b hb nb => ?_⟩
    · rw [N2.2.1 b (by omega) (fun z => by rw [List.mem_singleton.mp z] at hb; omega) bX]; exact o7.2.1 b hb nb bX
    · rw [N2.2.2.1 x hx]; exact o7.2.2.1 x hx
    · rw [N2.2.2.2.1 b (by omega) (fun z => by rw [List.mem_singleton.mp z] at hb; omega)]; exact o7.2.2.2.1 b hb nb
    · have lx := ix_lb b
      rw [N2.2.2.2.2 b (by omega) (fun z => by rw [List.mem_singleton.mp z] at lx; omega)]; exact o7.2.2.2.2 b hb nb
  have N2'' : NX [pa] [] h p2 := N2'.up (by simp) (by simp)
  refine step ?_
  refine step ?_
  refine step ?_
  refine step ?_
  refine And.intro tp ?_
  refine And.intro rfl ?_
  refine Or.inr ⟨chC n 0 (rclS T n 0 (0, [])), 4 * chC n 0 (rclS T n 0 (0, [])), by omega, by omega, cp_clauseR H2 rfl (by decide) R2 (Nat.le_refl _) (Nat.le_refl _) (fun e he p3 w3 N3 => ?_) (fun j3 m3 cl he p3 el3 L3 H3 R3 N3 hel3 => ?_)⟩
  · rw [he] at hV
    exact K0 e hV.symm p3 w3 ((up1 N2'').tr N3)
  · rw [he] at hV ok
    have ok1 : 0 < j3 := ok.1
    have hV : (if byF T n (skp T n j3) = 59 then rdL (rclS T n) T n n.toNat (skp T n j3 + 1) (m3, [] ++ [cl]) else if byF T n (skp T n j3) = -1 then .inr (m3, [] ++ [cl]) else .inl (1 + 8 * skp T n j3 + 0)) = V := hV
    have cz : chC n 0 (rclS T n 0 (0, [])) = (j3 - 0).toNat := by rw [he]; rfl
    have NN2 := N2.1
    have N3' : NX [pa] [] h p3 := by
      refine ⟨by have := N3.1; omega, fun b hb nb bX => ?_, fun x hx => ?_, fun b hb nb => ?_, fun b hb nb => ?_⟩
      · rw [N3.2.1 b (by omega) (by simp; exact ⟨fun z => nb (by rw [z]; simp), fun z => by rw [z] at hb; omega, fun z => by rw [z] at hb; omega⟩) bX]; exact N2''.2.1 b hb nb bX
      · rw [N3.2.2.1 x hx]; exact N2''.2.2.1 x hx
      · rw [N3.2.2.2.1 b (by omega) (by simp; exact ⟨fun z => nb (by rw [z]; simp), fun z => by rw [z] at hb; omega, fun z => by rw [z] at hb; omega⟩)]; exact N2''.2.2.2.1 b hb nb
      · have lx := ix_lb b
        rw [N3.2.2.2.2 b (by omega) (by simp; exact ⟨fun z => nb (by rw [z]; simp), fun z => by rw [z] at lx; omega, fun z => by rw [z] at lx; omega⟩)]; exact N2''.2.2.2.2 b hb nb
    have hl1 : ((([] ++ [cl] : RLE).length : Nat) : Int) = 0 + 1 := rfl
    refine loop n.toNat p3 ru li el3 L3 m3 j3 ([] ++ [cl]) _ _ (by omega) (by rw [hl1]; exact H3) R3 N3' ?_ (by omega) (by simp) (by omega) (by omega) hV.symm
    rcases hel3 with z | z
    · rw [z]; omega
    · omega
