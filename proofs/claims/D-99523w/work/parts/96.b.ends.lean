-- NEEDS: 96
/-! THE TWIN'S WAY THROUGH A TEST, as a small machine: before a fact (0) or behind it (1), at i, m made, what is open, what is computed -/
abbrev TST : Type := Nat × Int × Int × List Int × List FN
def apS (s : Int) (F : List FN) : List FN := if s = 11 then (match F with
  | t :: r => (fun w => 1 - t w) :: r
  | _ => []) else (match F with
  | b :: a :: r => (fun w => oneS s (a w) (b w)) :: r
  | _ => [])
/-- how deep -/
def nd : List Int → Int
  | [] => 0
  | s :: r => nd r + (if s = 11 ∨ s = 91 then 1 else 0)
def hd1 (F : List FN) : FN := F.headD (fun _ => 0)
def stp (T : Int → Int) (n : Int) (x : TST) : TST ⊕ PRS := match x with
  | (0, i, m, S, F) =>
    if wdB T n (skp T n i) wNOT = true then (if nd S = 10 then .inr (m, .inl (1 + 8 * skp T n i + 2)) else .inl (0, lep T n (skp T n i), m, 11 :: S, F))
    else if byF T n (skp T n i) = 91 then (if nd S = 10 then .inr (m, .inl (1 + 8 * skp T n i + 2)) else .inl (0, skp T n i + 1, m, 91 :: S, F))
    else (match cmpS T n i m with
      | (m2, .inl e) => .inr (m2, .inl e)
      | (m2, .inr (j, t)) => .inl (1, j, m2, S, t :: F))
  | (_, i, m, S, F) =>
    if S.head? = some 11 then .inl (1, i, m, S.tail, apS 11 F)
    else if byF T n (skp T n i) = 93 ∧ 91 ∈ S then (if S.head? = some 91 then .inl (1, skp T n i + 1, m, S.tail, F) else .inl (1, i, m, S.tail, apS (S.headD 0) F))
    else if wdB T n (skp T n i) wAND = true then (if S.head? = some 12 then .inl (1, i, m, S.tail, apS 12 F) else .inl (0, lep T n (skp T n i), m, 12 :: S, F))
    else if wdB T n (skp T n i) wOR = true then (if S.head? = some 12 ∨ S.head? = some 13 then .inl (1, i, m, S.tail, apS (S.headD 0) F) else .inl (0, lep T n (skp T n i), m, 13 :: S, F))
    else if 91 ∈ S then .inr (m, .inl (1 + 8 * skp T n i + 0))
    else if S = [] then .inr (m, .inr (skp T n i, hd1 F)) else .inl (1, i, m, S.tail, apS (S.headD 0) F)
def itr (T : Int → Int) (n : Int) : Nat → TST → Option PRS
  | 0, _ => none
  | k + 1, x => match stp T n x with
    | .inr r => some r
    | .inl y => itr T n k y
def ENDS (T : Int → Int) (n : Int) (x : TST) (r : PRS) : Prop := ∃ k, itr T n k x = some r
theorem ends_stp {T : Int → Int} {n : Int} {x y : TST} {r : PRS} (h : stp T n x = .inl y) : ENDS T n x r ↔ ENDS T n y r := by
  constructor
  · rintro ⟨k, hk⟩
    cases k with
    | zero => cases hk
    | succ k =>
      unfold itr at hk
      rw [h] at hk
      exact ⟨k, hk⟩
  · rintro ⟨k, hk⟩
    refine ⟨k + 1, ?_⟩
    unfold itr
    rw [h]
    exact hk
theorem ends_fin {T : Int → Int} {n : Int} {x : TST} {r q : PRS} (h : stp T n x = .inr q) : ENDS T n x r ↔ q = r := by
  constructor
  · rintro ⟨k, hk⟩
    cases k with
    | zero => cases hk
    | succ k =>
      unfold itr at hk
      rw [h] at hk
      exact Option.some.inj hk
  · intro hq
    refine ⟨1, ?_⟩
    unfold itr
    rw [h, hq]
/-- x ends as r says, or goes on behind it as from (1, j, m2, S, t :: F) -/
def LEADS (T : Int → Int) (n : Int) (x : TST) (S : List Int) (F : List FN) (r : PRS) : Prop := match r with
  | (m2, .inl e) => ENDS T n x (m2, .inl e)
  | (m2, .inr (j, t)) => ∀ q, ENDS T n (1, j, m2, S, t :: F) q → ENDS T n x q
theorem leads_bnd {T : Int → Int} {n : Int} {x : TST} {S : List Int} {F : List FN} {r : PRS} {K : Int → Int → FN → PRS} (S1 : List Int) (F1 : List FN) (h : LEADS T n x S1 F1 r)
    (hK : ∀ j m2 t, r = (m2, .inr (j, t)) → LEADS T n (1, j, m2, S1, t :: F1) S F (K j m2 t)) : LEADS T n x S F (bnd r K) := by
  rcases r with ⟨m2, e | ⟨j, t⟩⟩
  · exact h
  · have q := hK j m2 t rfl
    show LEADS T n x S F (K j m2 t)
    rcases hk : K j m2 t with ⟨m3, e | ⟨j3, t3⟩⟩
    · rw [hk] at q
      exact h _ q
    · rw [hk] at q
      exact fun z hz => h z (q z hz)
theorem leads_stp {T : Int → Int} {n : Int} {x y : TST} {S : List Int} {F : List FN} {r : PRS} (h : stp T n x = .inl y) (q : LEADS T n y S F r) : LEADS T n x S F r := by
  rcases r with ⟨m2, e | ⟨j, t⟩⟩
  · exact (ends_stp h).mpr q
  · exact fun z hz => (ends_stp h).mpr (q z hz)
theorem leads_rf {T : Int → Int} {n : Int} {j m : Int} {S : List Int} {F : List FN} {t : FN} : LEADS T n (1, j, m, S, t :: F) S F (m, .inr (j, t)) := fun _ hz => hz
abbrev noW (T : Int → Int) (n i : Int) (W : Nat) : Prop := ¬ wdB T n (skp T n i) W = true
theorem wd_by {T : Int → Int} {n j : Int} {W : Nat} (hj : j ≤ n) (h : wdB T n j W = true) : 97 ≤ T j ∧ T j ≤ 122 ∧ j < n := by
  have h1 := (wdB_iff.mp h).1
  have la := (lep_all (T := T) (n := n) (n - j).toNat j (by omega)).2 j (Int.le_refl _) (by unfold lep at h1; omega)
  exact ⟨la.2.1, la.2.2, la.1⟩
theorem wd_uni {T : Int → Int} {n j : Int} {V W : Nat} (h : wdB T n j V = true) (hn : V ≠ W) : ¬ wdB T n j W = true := fun z => hn ((wdB_iff.mp h).2.2.symm.trans (wdB_iff.mp z).2.2)
theorem wd_no {T : Int → Int} {n j : Int} {W : Nat} (hB : TB T) (j0 : 0 ≤ j) (hn : n ≤ 400) (hj : j ≤ n) (h : wdB T n j W = true) {c : Int} (hc : ¬ (97 ≤ c ∧ c ≤ 122)) : byF T n j ≠ c := by
  have q := wd_by hj h
  rw [byF_v hB j0 hn q.2.2, if_neg (by omega)]
  omega
/-- behind a fact by and: the and is laid down now or later -/
theorem ends_and {T : Int → Int} {n i m : Int} {S : List Int} {F : List FN} {a b : FN} {r : PRS} (hS : S.head? ≠ some 11) (h : ENDS T n (1, i, m, S, (fun w => oneS 12 (a w) (b w)) :: F) r) : ENDS T n (1, i, m, 12 :: S, b :: a :: F) r := by
  have e : stp T n (1, i, m, 12 :: S, b :: a :: F) = (if byF T n (skp T n i) = 93 ∧ 91 ∈ S then .inl (1, i, m, S, (fun w => oneS 12 (a w) (b w)) :: F) else if wdB T n (skp T n i) wAND = true then .inl (1, i, m, S, (fun w => oneS 12 (a w) (b w)) :: F) else if wdB T n (skp T n i) wOR = true then .inl (1, i, m, S, (fun w => oneS 12 (a w) (b w)) :: F) else if 91 ∈ S then .inr (m, .inl (1 + 8 * skp T n i + 0)) else .inl (1, i, m, S, (fun w => oneS 12 (a w) (b w)) :: F)) := by
    unfold stp
    simp [apS]
  by_cases h1 : byF T n (skp T n i) = 93 ∧ 91 ∈ S
  · rw [if_pos h1] at e
    exact (ends_stp e).mpr h
  · rw [if_neg h1] at e
    by_cases h2 : wdB T n (skp T n i) wAND = true
    · rw [if_pos h2] at e
      exact (ends_stp e).mpr h
    · rw [if_neg h2] at e
      by_cases h3 : wdB T n (skp T n i) wOR = true
      · rw [if_pos h3] at e
        exact (ends_stp e).mpr h
      · rw [if_neg h3] at e
        by_cases h4 : 91 ∈ S
        · rw [if_pos h4] at e
          have e2 : stp T n (1, i, m, S, (fun w => oneS 12 (a w) (b w)) :: F) = .inr (m, .inl (1 + 8 * skp T n i + 0)) := by
            show (if S.head? = some 11 then _ else _) = _
            rw [if_neg hS, if_neg h1, if_neg h2, if_neg h3, if_pos h4]
          exact (ends_fin e).mpr ((ends_fin e2).mp h)
        · rw [if_neg h4] at e
          exact (ends_stp e).mpr h
/-- behind a part by or -/
theorem ends_or {T : Int → Int} {n i m : Int} {S : List Int} {F : List FN} {a b : FN} {r : PRS} (hS : S.head? ≠ some 11) (hA : noW T n i wAND) (h : ENDS T n (1, i, m, S, (fun w => oneS 13 (a w) (b w)) :: F) r) : ENDS T n (1, i, m, 13 :: S, b :: a :: F) r := by
  have e : stp T n (1, i, m, 13 :: S, b :: a :: F) = (if byF T n (skp T n i) = 93 ∧ 91 ∈ S then .inl (1, i, m, S, (fun w => oneS 13 (a w) (b w)) :: F) else if wdB T n (skp T n i) wOR = true then .inl (1, i, m, S, (fun w => oneS 13 (a w) (b w)) :: F) else if 91 ∈ S then .inr (m, .inl (1 + 8 * skp T n i + 0)) else .inl (1, i, m, S, (fun w => oneS 13 (a w) (b w)) :: F)) := by
    unfold stp
    simp [apS, hA]
  by_cases h1 : byF T n (skp T n i) = 93 ∧ 91 ∈ S
  · rw [if_pos h1] at e
    exact (ends_stp e).mpr h
  · rw [if_neg h1] at e
    by_cases h3 : wdB T n (skp T n i) wOR = true
    · rw [if_pos h3] at e
      exact (ends_stp e).mpr h
    · rw [if_neg h3] at e
      by_cases h4 : 91 ∈ S
      · rw [if_pos h4] at e
        have e2 : stp T n (1, i, m, S, (fun w => oneS 13 (a w) (b w)) :: F) = .inr (m, .inl (1 + 8 * skp T n i + 0)) := by
          show (if S.head? = some 11 then _ else _) = _
          rw [if_neg hS, if_neg h1, if_neg hA, if_neg h3, if_pos h4]
        exact (ends_fin e).mpr ((ends_fin e2).mp h)
      · rw [if_neg h4] at e
        exact (ends_stp e).mpr h
/-- it makes no odds how many spaces are skipped -/
theorem ends_skp {T : Int → Int} {n i m : Int} {S : List Int} {F : List FN} {r : PRS} (hi : i ≤ n) : ENDS T n (1, skp T n i, m, S, F) r → ENDS T n (1, i, m, S, F) r := by
  have id := skp_idem (T := T) hi
  have key : ∀ (k : Nat) (S : List Int) (F : List FN), itr T n k (1, skp T n i, m, S, F) = some r → itr T n k (1, i, m, S, F) = some r := by
    intro k
    induction k with
    | zero => intro S F h; exact h
    | succ k ih =>
      intro S F h
      unfold itr at h ⊢
      unfold stp at h ⊢
      simp only [id] at h ⊢
      by_cases h1 : S.head? = some 11
      · simp only [if_pos h1] at h ⊢
        exact ih _ _ h
      · simp only [if_neg h1] at h ⊢
        by_cases h2 : byF T n (skp T n i) = 93 ∧ 91 ∈ S
        · simp only [if_pos h2] at h ⊢
          by_cases h3 : S.head? = some 91
          · simp only [if_pos h3] at h ⊢
            exact h
          · simp only [if_neg h3] at h ⊢
            exact ih _ _ h
        · simp only [if_neg h2] at h ⊢
          by_cases h3 : wdB T n (skp T n i) wAND = true
          · simp only [if_pos h3] at h ⊢
            by_cases h4 : S.head? = some 12
            · simp only [if_pos h4] at h ⊢
              exact ih _ _ h
            · simp only [if_neg h4] at h ⊢
              exact h
          · simp only [if_neg h3] at h ⊢
            by_cases h4 : wdB T n (skp T n i) wOR = true
            · simp only [if_pos h4] at h ⊢
              by_cases h5 : S.head? = some 12 ∨ S.head? = some 13
              · simp only [if_pos h5] at h ⊢
                exact ih _ _ h
              · simp only [if_neg h5] at h ⊢
                exact h
            · simp only [if_neg h4] at h ⊢
              by_cases h5 : 91 ∈ S
              · simp only [if_pos h5] at h ⊢
                exact h
              · simp only [if_neg h5] at h ⊢
                by_cases h6 : S = []
                · simp only [if_pos h6] at h ⊢
                  exact h
                · simp only [if_neg h6] at h ⊢
                  exact ih _ _ h
  rintro ⟨k, hk⟩
  exact ⟨k, key k S F hk⟩
