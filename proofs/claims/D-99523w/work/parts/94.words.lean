-- NEEDS: 93
/-! a word packed as a number is the word of its signs -/
theorem pkN_inj {A B : Int → Int} {a b : Int} : ∀ (c d : Nat), (∀ x : Nat, x < c → 97 ≤ A (a + x) ∧ A (a + x) ≤ 122) → (∀ x : Nat, x < d → 97 ≤ B (b + x) ∧ B (b + x) ≤ 122) → pkN A a c = pkN B b d → c = d ∧ ∀ x : Nat, x < c → A (a + x) = B (b + x) := by
  intro c
  induction c with
  | zero =>
    intro d hA hB e
    cases d with
    | zero => exact ⟨rfl, fun x hx => by omega⟩
    | succ d =>
      have hb := hB d (by omega)
      have e : 0 = pkN B b d * 256 + (B (b + d)).toNat := e
      omega
  | succ c ih =>
    intro d hA hB e
    have ha := hA c (by omega)
    cases d with
    | zero =>
      have e : pkN A a c * 256 + (A (a + c)).toNat = 0 := e
      omega
    | succ d =>
      have hb := hB d (by omega)
      have e : pkN A a c * 256 + (A (a + c)).toNat = pkN B b d * 256 + (B (b + d)).toNat := e
      obtain ⟨q1, q2⟩ := ih d (fun x hx => hA x (by omega)) (fun x hx => hB x (by omega)) (by omega)
      subst q1
      refine ⟨rfl, fun x hx => ?_⟩
      by_cases hz : x = c
      · rw [hz]; omega
      · exact q2 x (by omega)
theorem wd_ws {T : Int → Int} {n j L : Int} {W : Int → Int} (jn : j ≤ n) (l0 : 1 ≤ L) (l1 : L ≤ 7) (hW : ∀ x, 0 ≤ x → x < L → 97 ≤ W x ∧ W x ≤ 122) : wdP T n j (pkN W 0 L.toNat) ↔ wsP T n j L W := by
  have la := lep_all (T := T) (n := n) (n - j).toNat j (by omega)
  have hL : lep T n j = leF T n (n - j).toNat j := rfl
  rw [← hL] at la
  unfold wdP wsP
  generalize lep T n j = e at *
  have hw : ∀ x : Nat, x < L.toNat → 97 ≤ W (0 + x) ∧ W (0 + x) ≤ 122 := fun x hx => by
    rw [show (0 : Int) + x = x by omega]
    exact hW x (by omega) (by omega)
  have ht : ∀ x : Nat, x < (e - j).toNat → 97 ≤ T (j + x) ∧ T (j + x) ≤ 122 := fun x hx => (la.2 (j + x) (by omega) (by omega)).2
  constructor
  · rintro ⟨h1, h2, h3⟩
    obtain ⟨q1, q2⟩ := pkN_inj _ _ ht hw h3
    refine ⟨by omega, fun x x0 x1 => ?_⟩
    have := q2 x.toNat (by omega)
    rw [show ((x.toNat : Nat) : Int) = x by omega, show (0 : Int) + x = x by omega] at this
    exact this
  · rintro ⟨h1, h2⟩
    refine ⟨by omega, by omega, ?_⟩
    have key : ∀ c : Nat, c ≤ L.toNat → pkN T j c = pkN W 0 c := by
      intro c
      induction c with
      | zero => intro _; rfl
      | succ c ih =>
        intro hc
        have := h2 c (by omega) (by omega)
        show pkN T j c * 256 + (T (j + c)).toNat = pkN W 0 c * 256 + (W (0 + c)).toNat
        rw [ih (by omega), this, show (0 : Int) + c = c by omega]
    rw [show (e - j).toNat = L.toNat by omega]
    exact key _ (Nat.le_refl _)
