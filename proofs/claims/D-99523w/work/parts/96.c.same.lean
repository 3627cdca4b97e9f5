-- NEEDS: 96
/-! THE TWIN'S WAY ends as the text means -/
theorem nd_o {s : Int} {S : List Int} (h : ¬ (s = 11 ∨ s = 91)) : nd (s :: S) = nd S := by
  show nd S + (if s = 11 ∨ s = 91 then 1 else 0) = nd S
  rw [if_neg h]
  omega
theorem nd_i {s : Int} {S : List Int} (h : s = 11 ∨ s = 91) : nd (s :: S) = nd S + 1 := by
  show nd S + (if s = 11 ∨ s = 91 then 1 else 0) = nd S + 1
  rw [if_pos h]
theorem stp1 {T : Int → Int} {n i m : Int} {S : List Int} {F : List FN} : stp T n (1, i, m, S, F) = if S.head? = some 11 then .inl (1, i, m, S.tail, apS 11 F)
    else if byF T n (skp T n i) = 93 ∧ 91 ∈ S then (if S.head? = some 91 then .inl (1, skp T n i + 1, m, S.tail, F) else .inl (1, i, m, S.tail, apS (S.headD 0) F))
    else if wdB T n (skp T n i) wAND = true then (if S.head? = some 12 then .inl (1, i, m, S.tail, apS 12 F) else .inl (0, lep T n (skp T n i), m, 12 :: S, F))
    else if wdB T n (skp T n i) wOR = true then (if S.head? = some 12 ∨ S.head? = some 13 then .inl (1, i, m, S.tail, apS (S.headD 0) F) else .inl (0, lep T n (skp T n i), m, 13 :: S, F))
    else if 91 ∈ S then .inr (m, .inl (1 + 8 * skp T n i + 0))
    else if S = [] then .inr (m, .inr (skp T n i, hd1 F)) else .inl (1, i, m, S.tail, apS (S.headD 0) F) := rfl
theorem bnd_inr {r : PRS} {K : Int → Int → FN → PRS} {m j : Int} {f : FN} (h : bnd r K = (m, .inr (j, f))) : ∃ m1 j1 f1, r = (m1, .inr (j1, f1)) ∧ K j1 m1 f1 = (m, .inr (j, f)) := by
  rcases r with ⟨m1, e | ⟨j1, f1⟩⟩
  · have h : (m1, Sum.inl e) = ((m, .inr (j, f)) : PRS) := h
    cases h
  · exact ⟨m1, j1, f1, rfl, h⟩
theorem cnd1_no {T : Int → Int} {n : Int} : ∀ (k : Nat) (i m d m2 j : Int) (f t : FN), 0 ≤ i → i ≤ n → m ≤ 60 → n - i < k → cndS T n k 1 i m d f = (m2, .inr (j, t)) → noW T n j wAND := by
  intro k
  induction k with
  | zero => intro i m d m2 j f t i0 i1 m1 hk; omega
  | succ k ih =>
    intro i m d m2 j f t i0 i1 m1 hk e
    have sk := skp_ok (T := T) i1
    rw [cnd1] at e
    by_cases h : wdB T n (skp T n i) wAND = true
    · rw [if_pos h] at e
      have lp := (wdB_iff.mp h).1
      have l2 := lep_ok (T := T) sk.2
      obtain ⟨m3, j3, f3, e1, e2⟩ := bnd_inr e
      have q := (cndS_ok (T := T) (n := n) k 0 (lep T n (skp T n i)) m d (fun _ => 0) (by omega) l2.2 m1).1
      rw [e1] at q
      have q1 : lep T n (skp T n i) ≤ j3 ∧ j3 ≤ n := q.2.2
      exact ih j3 m3 d m2 j _ t (by omega) q1.2 q.2.1 (by omega) e2
    · rw [if_neg h] at e
      have e : (m, Sum.inr (skp T n i, f)) = ((m2, .inr (j, t)) : PRS) := e
      cases e
      unfold noW
      rw [skp_idem i1]
      exact h
theorem cnd2_no {T : Int → Int} {n : Int} : ∀ (k : Nat) (i m d m2 j : Int) (f t : FN), 0 ≤ i → i ≤ n → m ≤ 60 → n - i < k → noW T n i wAND → cndS T n k 2 i m d f = (m2, .inr (j, t)) → noW T n j wAND ∧ noW T n j wOR := by
  intro k
  induction k with
  | zero => intro i m d m2 j f t i0 i1 m1 hk; omega
  | succ k ih =>
    intro i m d m2 j f t i0 i1 m1 hk hA e
    have sk := skp_ok (T := T) i1
    rw [cnd2] at e
    by_cases h : wdB T n (skp T n i) wOR = true
    · rw [if_pos h] at e
      have lp := (wdB_iff.mp h).1
      have l2 := lep_ok (T := T) sk.2
      obtain ⟨m3, j3, f3, e1, e2⟩ := bnd_inr e
      obtain ⟨m4, j4, f4, e3, e4⟩ := bnd_inr e1
      have q := (cndS_ok (T := T) (n := n) k 0 (lep T n (skp T n i)) m d (fun _ => 0) (by omega) l2.2 m1).1
      rw [e3] at q
      have q1 : lep T n (skp T n i) ≤ j4 ∧ j4 ≤ n := q.2.2
      have u := (cndS_ok (T := T) (n := n) k 1 j4 m4 d f4 (by omega) q1.2 q.2.1).1
      rw [e4] at u
      have u1 : j4 ≤ j3 ∧ j3 ≤ n := u.2.2
      exact ih j3 m3 d m2 j _ t (by omega) u1.2 u.2.1 (by omega) (cnd1_no k j4 m4 d m3 j3 f4 f3 (by omega) q1.2 q.2.1 (by omega) e4) e2
    · rw [if_neg h] at e
      have e : (m, Sum.inr (skp T n i, f)) = ((m2, .inr (j, t)) : PRS) := e
      cases e
      unfold noW
      rw [skp_idem i1]
      exact ⟨hA, h⟩
theorem leads_all {T : Int → Int} {n : Int} (hB : TB T) (n4 : n ≤ 400) : ∀ k : Nat,
    (∀ (i m : Int) (S : List Int) (F : List FN) (f : FN), 0 ≤ i → i ≤ n → m ≤ 60 → n - i < k → LEADS T n (0, i, m, S, F) S F (cndS T n k 0 i m (nd S) f)) ∧
    (∀ (i m : Int) (S : List Int) (F : List FN) (t : FN), 0 ≤ i → i ≤ n → m ≤ 60 → n - i < k → S.head? ≠ some 11 → S.head? ≠ some 12 → LEADS T n (1, i, m, S, t :: F) S F (cndS T n k 1 i m (nd S) t)) ∧
    (∀ (i m : Int) (S : List Int) (F : List FN) (t : FN), 0 ≤ i → i ≤ n → m ≤ 60 → n - i < k → S.head? ≠ some 11 → S.head? ≠ some 12 → S.head? ≠ some 13 → noW T n i wAND → LEADS T n (1, i, m, S, t :: F) S F (cndS T n k 2 i m (nd S) t)) := by
  intro k
  induction k with
  | zero => exact ⟨fun i m S F f i0 i1 m1 hk => by omega, fun i m S F f i0 i1 m1 hk => by omega, fun i m S F f i0 i1 m1 hk => by omega⟩
  | succ k ih =>
    obtain ⟨ihF, ihA, ihO⟩ := ih
    refine ⟨fun i m S F f i0 i1 m1 hk => ?_, fun i m S F t i0 i1 m1 hk s11 s12 => ?_, fun i m S F t i0 i1 m1 hk s11 s12 s13 hA => ?_⟩
    · have sk := skp_ok (T := T) i1
      rw [cnd0]
      have e0 : stp T n (0, i, m, S, F) = (if wdB T n (skp T n i) wNOT = true then (if nd S = 10 then .inr (m, .inl (1 + 8 * skp T n i + 2)) else .inl (0, lep T n (skp T n i), m, 11 :: S, F))
        else if byF T n (skp T n i) = 91 then (if nd S = 10 then .inr (m, .inl (1 + 8 * skp T n i + 2)) else .inl (0, skp T n i + 1, m, 91 :: S, F))
        else (match cmpS T n i m with
          | (m2, .inl e) => .inr (m2, .inl e)
          | (m2, .inr (j, t)) => .inl (1, j, m2, S, t :: F))) := rfl
      by_cases h1 : wdB T n (skp T n i) wNOT = true
      · have lp := (wdB_iff.mp h1).1
        have l2 := lep_ok (T := T) sk.2
        rw [if_pos h1] at e0 ⊢
        by_cases hd : nd S = 10
        · rw [if_pos hd] at e0 ⊢
          exact (ends_fin e0).mpr rfl
        · rw [if_neg hd] at e0 ⊢
          refine leads_stp e0 (leads_bnd (11 :: S) F ?_ (fun j m2 t hr => ?_))
          · exact ihF (lep T n (skp T n i)) m (11 :: S) F _ (by omega) l2.2 m1 (by omega)
          · exact leads_stp (y := (1, j, m2, S, (fun w => 1 - t w) :: F)) rfl leads_rf
      · rw [if_neg h1] at e0 ⊢
        by_cases h2 : byF T n (skp T n i) = 91
        · have hj := byF_lt h2 (by decide)
          rw [if_pos h2] at e0 ⊢
          by_cases hd : nd S = 10
          · rw [if_pos hd] at e0 ⊢
            exact (ends_fin e0).mpr rfl
          · rw [if_neg hd] at e0 ⊢
            have k1 := (cndS_ok (T := T) (n := n) k 0 (skp T n i + 1) m (nd S + 1) (fun _ => 0) (by omega) (by omega) m1).1
            refine leads_stp e0 (leads_bnd (91 :: S) F (leads_bnd (91 :: S) F (leads_bnd (91 :: S) F ?_ (fun j m2 t hr => ?_)) (fun j m2 t hr => ?_)) (fun j m2 t hr => ?_))
            · exact ihF (skp T n i + 1) m (91 :: S) F _ (by omega) (by omega) m1 (by omega)
            · rw [hr] at k1
              have k2 : skp T n i + 1 ≤ j ∧ j ≤ n := k1.2.2
              exact ihA j m2 (91 :: S) F t (by omega) k2.2 k1.2.1 (by omega) (by simp) (by simp)
            · obtain ⟨m4, j4, f4, e3, e4⟩ := bnd_inr hr
              rw [e3] at k1
              have k2 : skp T n i + 1 ≤ j4 ∧ j4 ≤ n := k1.2.2
              have u := (cndS_ok (T := T) (n := n) k 1 j4 m4 (nd S + 1) f4 (by omega) k2.2 k1.2.1).1
              rw [e4] at u
              have u2 : j4 ≤ j ∧ j ≤ n := u.2.2
              exact ihO j m2 (91 :: S) F t (by omega) u2.2 u.2.1 (by omega) (by simp) (by simp) (by simp) (cnd1_no k j4 m4 _ m2 j f4 t (by omega) k2.2 k1.2.1 (by omega) e4)
            · obtain ⟨m5, j5, f5, e5, e6⟩ := bnd_inr hr
              obtain ⟨m4, j4, f4, e3, e4⟩ := bnd_inr e5
              rw [e3] at k1
              have k2 : skp T n i + 1 ≤ j4 ∧ j4 ≤ n := k1.2.2
              have u := (cndS_ok (T := T) (n := n) k 1 j4 m4 (nd S + 1) f4 (by omega) k2.2 k1.2.1).1
              rw [e4] at u
              have u2 : j4 ≤ j5 ∧ j5 ≤ n := u.2.2
              have nw := cnd2_no k j5 m5 (nd S + 1) m2 j f5 t (by omega) u2.2 u.2.1 (by omega) (cnd1_no k j4 m4 _ m5 j5 f4 f5 (by omega) k2.2 k1.2.1 (by omega) e4) e6
              by_cases hz : byF T n (skp T n j) = 93
              · rw [if_pos hz]
                refine leads_stp (y := (1, skp T n j + 1, m2, S, t :: F)) ?_ leads_rf
                rw [stp1, if_neg (by simp), if_pos ⟨hz, List.mem_cons_self⟩, if_pos (by simp)]
                rfl
              · rw [if_neg hz]
                refine (ends_fin ?_).mpr rfl
                rw [stp1, if_neg (by simp), if_neg (fun z => hz z.1), if_neg nw.1, if_neg nw.2, if_pos List.mem_cons_self]
        · rw [if_neg h2] at e0 ⊢
          rcases hc : cmpS T n i m with ⟨m2, e | ⟨j, t⟩⟩
          · rw [hc] at e0
            exact (ends_fin e0).mpr rfl
          · rw [hc] at e0
            exact leads_stp e0 leads_rf
    · have sk := skp_ok (T := T) i1
      rw [cnd1]
      by_cases h : wdB T n (skp T n i) wAND = true
      · have lp := (wdB_iff.mp h).1
        have l2 := lep_ok (T := T) sk.2
        have k1 := (cndS_ok (T := T) (n := n) k 0 (lep T n (skp T n i)) m (nd S) (fun _ => 0) (by omega) l2.2 m1).1
        rw [if_pos h]
        have e0 : stp T n (1, i, m, S, t :: F) = .inl (0, lep T n (skp T n i), m, 12 :: S, t :: F) := by
          show (if S.head? = some 11 then _ else _) = _
          rw [if_neg s11, if_neg (fun z => wd_no hB (by omega) n4 sk.2 h (c := 93) (by omega) z.1), if_pos h, if_neg s12]
        refine leads_stp e0 (leads_bnd (12 :: S) (t :: F) ?_ (fun j m2 g hr => ?_))
        · have := ihF (lep T n (skp T n i)) m (12 :: S) (t :: F) (fun _ => 0) (by omega) l2.2 m1 (by omega)
          rw [nd_o (by decide)] at this
          exact this
        · rw [hr] at k1
          have k2 : lep T n (skp T n i) ≤ j ∧ j ≤ n := k1.2.2
          have q := ihA j m2 S F (fun w => oneS 12 (t w) (g w)) (by omega) k2.2 k1.2.1 (by omega) s11 s12
          rcases hc : cndS T n k 1 j m2 (nd S) (fun w => oneS 12 (t w) (g w)) with ⟨m3, e | ⟨j3, t3⟩⟩
          · rw [hc] at q
            exact ends_and s11 q
          · rw [hc] at q
            exact fun z hz => ends_and s11 (q z hz)
      · rw [if_neg h]
        exact fun z hz => ends_skp i1 hz
    · have sk := skp_ok (T := T) i1
      rw [cnd2]
      by_cases h : wdB T n (skp T n i) wOR = true
      · have lp := (wdB_iff.mp h).1
        have l2 := lep_ok (T := T) sk.2
        have k1 := (cndS_ok (T := T) (n := n) k 0 (lep T n (skp T n i)) m (nd S) (fun _ => 0) (by omega) l2.2 m1).1
        rw [if_pos h]
        have e0 : stp T n (1, i, m, S, t :: F) = .inl (0, lep T n (skp T n i), m, 13 :: S, t :: F) := by
          show (if S.head? = some 11 then _ else _) = _
          rw [if_neg s11, if_neg (fun z => wd_no hB (by omega) n4 sk.2 h (c := 93) (by omega) z.1), if_neg hA, if_pos h, if_neg (fun z => z.elim s12 s13)]
        refine leads_stp e0 (leads_bnd (13 :: S) (t :: F) (leads_bnd (13 :: S) (t :: F) ?_ (fun j m2 g hr => ?_)) (fun j m2 g hr => ?_))
        · have := ihF (lep T n (skp T n i)) m (13 :: S) (t :: F) (fun _ => 0) (by omega) l2.2 m1 (by omega)
          rw [nd_o (by decide)] at this
          exact this
        · rw [hr] at k1
          have k2 : lep T n (skp T n i) ≤ j ∧ j ≤ n := k1.2.2
          have := ihA j m2 (13 :: S) (t :: F) g (by omega) k2.2 k1.2.1 (by omega) (by simp) (by simp)
          rw [nd_o (by decide)] at this
          exact this
        · obtain ⟨m4, j4, f4, e3, e4⟩ := bnd_inr hr
          rw [e3] at k1
          have k2 : lep T n (skp T n i) ≤ j4 ∧ j4 ≤ n := k1.2.2
          have u := (cndS_ok (T := T) (n := n) k 1 j4 m4 (nd S) f4 (by omega) k2.2 k1.2.1).1
          rw [e4] at u
          have u2 : j4 ≤ j ∧ j ≤ n := u.2.2
          have nw := cnd1_no k j4 m4 _ m2 j f4 g (by omega) k2.2 k1.2.1 (by omega) e4
          have q := ihO j m2 S F (fun w => oneS 13 (t w) (g w)) (by omega) u2.2 u.2.1 (by omega) s11 s12 s13 nw
          rcases hc : cndS T n k 2 j m2 (nd S) (fun w => oneS 13 (t w) (g w)) with ⟨m3, e | ⟨j3, t3⟩⟩
          · rw [hc] at q
            exact ends_or s11 nw q
          · rw [hc] at q
            exact fun z hz => ends_or s11 nw (q z hz)
      · rw [if_neg h]
        exact fun z hz => ends_skp i1 hz
/-- a whole test -/
theorem ends_tes {T : Int → Int} {n : Int} (hB : TB T) (n4 : n ≤ 400) {k : Nat} {i m : Int} (i0 : 0 ≤ i) (i1 : i ≤ n) (m1 : m ≤ 60) (hk : n - i < k) : ENDS T n (0, i, m, [], []) (match tesS T n k i m 0 with
    | (m2, .inl e) => (m2, .inl e)
    | (m2, .inr (j, t)) => (m2, .inr (skp T n j, t))) := by
  obtain ⟨lF, lA, lO⟩ := leads_all hB n4 k
  have k1 := (cndS_ok (T := T) (n := n) k 0 i m 0 (fun _ => 0) i0 i1 m1).1
  have L : LEADS T n (0, i, m, [], []) [] [] (tesS T n k i m 0) := by
    refine leads_bnd [] [] (leads_bnd [] [] (lF i m [] [] _ i0 i1 m1 hk) (fun j m2 t hr => ?_)) (fun j m2 t hr => ?_)
    · rw [hr] at k1
      have k2 : i ≤ j ∧ j ≤ n := k1.2.2
      exact lA j m2 [] [] t (by omega) k2.2 k1.2.1 (by omega) (by simp) (by simp)
    · obtain ⟨m4, j4, f4, e3, e4⟩ := bnd_inr hr
      rw [e3] at k1
      have k2 : i ≤ j4 ∧ j4 ≤ n := k1.2.2
      have u := (cndS_ok (T := T) (n := n) k 1 j4 m4 0 f4 (by omega) k2.2 k1.2.1).1
      rw [e4] at u
      have u2 : j4 ≤ j ∧ j ≤ n := u.2.2
      exact lO j m2 [] [] t (by omega) u2.2 u.2.1 (by omega) (by simp) (by simp) (by simp) (cnd1_no k j4 m4 _ m2 j f4 t (by omega) k2.2 k1.2.1 (by omega) e4)
  rcases hr : tesS T n k i m 0 with ⟨m2, e | ⟨j, t⟩⟩
  · rw [hr] at L
    exact L
  · rw [hr] at L
    refine L _ ?_
    have hr0 := hr
    unfold tesS at hr
    obtain ⟨m5, j5, f5, e5, e6⟩ := bnd_inr hr
    unfold parS at e5
    obtain ⟨m4, j4, f4, e3, e4⟩ := bnd_inr e5
    rw [e3] at k1
    have k2 : i ≤ j4 ∧ j4 ≤ n := k1.2.2
    have u := (cndS_ok (T := T) (n := n) k 1 j4 m4 0 f4 (by omega) k2.2 k1.2.1).1
    rw [e4] at u
    have u2 : j4 ≤ j5 ∧ j5 ≤ n := u.2.2
    have nw := cnd2_no k j5 m5 0 m2 j f5 t (by omega) u2.2 u.2.1 (by omega) (cnd1_no k j4 m4 _ m5 j5 f4 f5 (by omega) k2.2 k1.2.1 (by omega) e4) e6
    refine (ends_fin ?_).mpr rfl
    rw [stp1, if_neg (by simp), if_neg (fun z => by cases z.2), if_neg nw.1, if_neg nw.2, if_neg (fun z => by cases z), if_pos rfl]
    rfl
theorem valS_skp {T : Int → Int} {n i m : Int} (h : i ≤ n) : valS T n (skp T n i) m = valS T n i m := by
  unfold valS
  simp only [skp_idem h]
theorem cmpS_skp {T : Int → Int} {n i m : Int} (h : i ≤ n) : cmpS T n (skp T n i) m = cmpS T n i m := by
  unfold cmpS smS terS
  rw [valS_skp h]
theorem ends_skp' {T : Int → Int} {n i m : Int} {S : List Int} {F : List FN} {r : PRS} (hi : i ≤ n) : ENDS T n (1, i, m, S, F) r ↔ ENDS T n (1, skp T n i, m, S, F) r := by
  refine ⟨?_, ends_skp hi⟩
  have id := skp_idem (T := T) hi
  have key : ∀ (k : Nat) (S : List Int) (F : List FN), itr T n k (1, i, m, S, F) = some r → itr T n k (1, skp T n i, m, S, F) = some r := by
    intro k
    induction k with
    | zero => intro S F h; exact h
    | succ k ih =>
      intro S F h
      unfold itr at h ⊢
      rw [stp1] at h ⊢
      simp only [id] at h ⊢
      by_cases h1 : S.head? = some 11
      · simp only [if_pos h1] at h ⊢
        exact ih _ _ h
      · simp only [if_neg h1] at h ⊢
        by_cases h2 : byF T n (skp T n i) = 93 ∧ 91 ∈ S
        · simp only [if_pos h2] at h ⊢
          by_cases h3 : S.head? = some 91
          · simp only [if_pos h3] at h ⊢
            exact h
          · simp only [if_neg h3] at h ⊢
            exact ih _ _ h
        · simp only [if_neg h2] at h ⊢
          by_cases h3 : wdB T n (skp T n i) wAND = true
          · simp only [if_pos h3] at h ⊢
            by_cases h4 : S.head? = some 12
            · simp only [if_pos h4] at h ⊢
              exact ih _ _ h
            · simp only [if_neg h4] at h ⊢
              exact h
          · simp only [if_neg h3] at h ⊢
            by_cases h4 : wdB T n (skp T n i) wOR = true
            · simp only [if_pos h4] at h ⊢
              by_cases h5 : S.head? = some 12 ∨ S.head? = some 13
              · simp only [if_pos h5] at h ⊢
                exact ih _ _ h
              · simp only [if_neg h5] at h ⊢
                exact h
            · simp only [if_neg h4] at h ⊢
              by_cases h5 : 91 ∈ S
              · simp only [if_pos h5] at h ⊢
                exact h
              · simp only [if_neg h5] at h ⊢
                by_cases h6 : S = []
                · simp only [if_pos h6] at h ⊢
                  exact h
                · simp only [if_neg h6] at h ⊢
                  exact ih _ _ h
  rintro ⟨k, hk⟩
  exact ⟨k, key k S F hk⟩
