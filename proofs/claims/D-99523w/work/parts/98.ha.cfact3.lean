-- NEEDS: 98
/-! THE COMPONENT'S READER: facts: a comparison's sign -/
set_option maxHeartbeats 1000000 in
theorem fact_cnt {d mc ms sh pa : Nat} {T : Int → Int} {n m dp c w m1 j si ch : Int} {h p4 : AH} {Φ : OUT → AH → Prop} {V : PRS} {k : KT} {f : FN} {x cu su : Nat} (step : STP (d + 8) mc ms Φ C_X5_fact k) (tpa : tg pa = 22) (H4 : PY sh pa p4 T n j m1 dp c w) (N4 : NX [pa] [] h p4) (Vx4 : VAL (m1 - m) p4 x f) (s2 : m < m1) (dpb : 0 ≤ dp ∧ dp ≤ 10) (hC : byF T n j = ch) (hc : ch = 60 ∨ ch = 61 ∨ ch = 62) (hcu : cu + chg n j V ≤ mc) (hsu : su + 4 * chg n j V ≤ ms)
    (hV : (if m1 = 60 then (m1, .inl (1 + 8 * j + 3)) else bnd (smS T n (j + 1 + (if alsP T n j then 1 else 0)) (m1 + 1)) (fun j2 m2 g => (m2, .inr (j2, fun w => oneS (cmo T n j) (f w) (g w))))) = V)
    (K0 : ∀ m2 e, V = (m2, .inl e) → ∀ p, hI p xWR 0 = e → NX [pa, xWR] [] h p → Φ (.inr xWR) p)
    (K : ∀ m2 j f, V = (m2, .inr (j, f)) → ∀ p a, PY sh pa p T n j m2 dp c w → NX [pa] [] h p → CND (m2 - m + (10 - dp)) p a f → Φ (.inl (some (vo a))) p) : k cu su 172 [(0, vo pa), (1, vi si), (2, vo x), (3, vi ch)] [] p4 := by
  have tp : ((tg pa : Nat) : Int) = 22 := by omega
  have dpa := H4.1.2.2.2.2.1
  have up1 : ∀ {p q : AH}, NX [pa] [] p q → NX [pa, xWR] [] p q := fun N => N.up (by intro a ha; rw [List.mem_singleton.mp ha]; simp) (by decide)
  have jb := H4.1.2.2.2.2.2.2.2.2.1
  have n4 := H4.1.2.2.2.2.2.2.2.2.2.1
  have hB := H4.1.2.2.2.2.2.2.2.2.2.2
  have m60 := H4.2.1
  have q4 := H4.1.2.2.2.2.2.2.2.1
  have hjn : j < n := by rcases hc with z | z | z <;> exact byF_lt (hC.trans z) (by decide)
  refine step ?_
  refine step ?_
  refine step ?_
  refine And.intro tpa ?_
  refine Exists.intro _ (And.intro q4 ?_)
  refine step ?_
  refine And.intro tp ?_
  refine And.intro rfl ?_
  refine Or.inl (cp_counts (a := j) H4 (fun hm p5 e5 T5 => ?_) (fun hm p5 H5 T5 => ?_))
  · rw [if_pos hm] at hV
    exact K0 m1 _ hV.symm p5 e5 ((up1 N4).tr (NX.of T5))
  · rw [if_neg (by omega)] at hV
    have N5 := N4.tr (NX.of T5)
    have ni5 : hN p5 = hN p4 := congrArg (fun z => z.1) T5.1
    have Vx5 := Vx4.go (Int.le_refl _) (by omega) (OLD.of (NX.of T5) (pa_tag H4))
    have q5 := H5.1.2.2.2.2.2.2.2.1
    refine step ?_
    refine step ?_
    refine step ?_
    refine And.intro tpa ?_
    refine Exists.intro _ (And.intro q5 ?_)
    refine step ?_
    refine step ?_
    refine step ?_
    refine And.intro tpa ?_
    refine cp_step1 H5 (by omega) (by omega) (fun p6 H6 T6 => ?_)
    have N6 := N5.tr (NX.of T6)
    have ni6 : hN p6 = hN p5 := congrArg (fun z => z.1) T6.1
    have Vx6 := Vx5.go (Int.le_refl _) (by omega) (OLD.of (NX.of T6) (pa_tag H5))
    have q6 := H6.1.2.2.2.2.2.2.2.1
    have tail : ∀ b : Int, (b = 1 ∧ alsP T n j) ∨ (b = 0 ∧ ¬ alsP T n j) → k cu su 210 [(0, vo pa), (1, vi si), (2, vo x), (3, vi ch)] [vi b] p6 := by
      intro b hb
      have hq : j + 1 + (if alsP T n j then 1 else 0) = j + 1 + b := by
        rcases hb with ⟨y, z⟩ | ⟨y, z⟩
        · rw [if_pos z, y]
        · rw [if_neg z, y]
      rw [hq] at hV
      have hbn : j + 1 + b ≤ n := by
        rcases hb with ⟨y, z⟩ | ⟨y, z⟩
        · have := z.2.1; omega
        · omega
      have b01 : b = 0 ∨ b = 1 := by omega
      have tok := smS_ok (T := T) (n := n) (i := j + 1 + b) (m := m1 + 1) (by omega) hbn (by omega)
      have tok2 := tok
      have lastk : ∀ (j2 m2 : Int) (g : FN), j2 ≤ n → m2 ≤ 60 → OKR n j2 m2 ((m2, .inr (j2, fun w => oneS (cmo T n j) (f w) (g w))) : PRS) := fun j2 m2 g a2 a4 => ⟨Int.le_refl _, a4, Int.le_refl _, a2⟩
      have kok : ∀ j2 m3 g, smS T n (j + 1 + b) (m1 + 1) = (m3, .inr (j2, g)) → OKR n j2 m3 ((fun j2 m2 g => ((m2, .inr (j2, fun w => oneS (cmo T n j) (f w) (g w))) : PRS)) j2 m3 g) := fun j2 m3 g e => by
        rw [e] at tok
        exact lastk j2 m3 g tok.2.2.1.2 tok.2.1
      obtain ⟨cb1, cb2⟩ := chg_bnd (n := n) (i := j + 1 + b) (m := m1 + 1) hbn tok2.r kok
      have okW : OKR n (j + 1 + b) (m1 + 1) V := by
        rw [← hV]
        exact bnd_OKR tok2.r (fun j2 m3 g a1 a2 a3 a4 => lastk j2 m3 g a2 a4)
      have ca2 := chg_add (n := n) (i := j) (j := j + 1 + b) (by omega) hbn okW
      rw [hV] at cb1
      have put : ∀ (Ψ : AH → Prop), (∀ p7, PY sh pa p7 T n (j + 1 + b) (m1 + 1) dp c w → TX [pa] [] p6 p7 → Ψ p7) → Ψ (sI p6 pa 1 (j + 1 + b)) := fun Ψ hΨ => cp_step1 H6 (by omega) hbn hΨ
      have sg : (ch = 60 ∧ cmo T n j = (if b = 1 then 7 else 6)) ∨ (ch = 61 ∧ cmo T n j = 8) ∨ (ch = 62 ∧ cmo T n j = (if b = 1 then 9 else 10)) := by
        unfold cmo
        rcases hc with z | z | z
        · refine Or.inl ⟨z, ?_⟩
          rw [if_pos (hC.trans z)]
          rcases hb with ⟨y, u⟩ | ⟨y, u⟩
          · rw [if_pos u, if_pos y]
          · rw [if_neg u, if_neg (by omega)]
        · refine Or.inr (Or.inl ⟨z, ?_⟩)
          rw [if_neg (fun v => by rw [hC] at v; omega), if_pos (hC.trans z)]
        · refine Or.inr (Or.inr ⟨z, ?_⟩)
          rw [if_neg (fun v => by rw [hC] at v; omega), if_neg (fun v => by rw [hC] at v; omega)]
          rcases hb with ⟨y, u⟩ | ⟨y, u⟩
          · rw [if_pos u, if_pos y]
          · rw [if_neg u, if_neg (by omega)]
      have rest : ∀ p7, PY sh pa p7 T n (j + 1 + b) (m1 + 1) dp c w → TX [pa] [] p6 p7 → k cu su 231 [(0, vo pa), (1, vi si), (2, vo x), (3, vi ch), (4, vi b)] [] p7 := fun p7 H7 T7 =>
        fact_new step tpa H7 (N6.tr (NX.of T7)) (Vx6.go (Int.le_refl _) (Nat.le_of_eq (congrArg (fun z => z.1) T7.1).symm) (OLD.of (NX.of T7) (pa_tag H6))) s2 dpb b01 sg (by omega) (by omega) hV K0 K
      refine step ?_
      refine step ?_
      refine step ?_
      refine step ?_
      refine And.intro tpa ?_
      refine Exists.intro _ (And.intro q6 ?_)
      refine step ?_
      refine step ?_
      refine And.intro (by omega) ?_
      refine And.intro (fun z => ?_) (fun z => ?_)
      · refine step ?_
        refine step ?_
        refine step ?_
        refine And.intro tpa ?_
        rw [show j + 1 + 0 = j + 1 + b by omega]
        exact put _ (fun p7 H7 T7 => rest p7 H7 T7)
      · refine step ?_
        refine step ?_
        refine step ?_
        refine step ?_
        refine And.intro tpa ?_
        rw [show j + 1 + 1 = j + 1 + b by omega]
        exact put _ (fun p7 H7 T7 => rest p7 H7 T7)
    have al : ch ≠ 61 → (byF T n (j + 1) = 61 ↔ alsP T n j) := fun z => by
      constructor
      · intro y
        have l := byF_lt y (by decide)
        have v := byF_v hB (by omega) n4 l
        refine ⟨by rw [hC]; exact z, l, ?_⟩
        rw [v] at y
        have tb := hB (j + 1) (by omega) (by omega)
        split at y <;> omega
      · intro y
        have v := byF_v hB (by omega) n4 y.2.1
        rw [v, if_neg (by have := y.2.2; omega)]
        exact y.2.2
    have b1 := byF_b (i := j + 1) hB (by omega) n4
    refine step ?_
    refine step ?_
    refine step ?_
    refine And.intro (by omega) ?_
    refine And.intro (by omega) ?_
    refine And.intro (fun z => ?_) (fun z => ?_)
    · refine step ?_
      exact tail 0 (Or.inr ⟨rfl, fun y => y.1 (hC.trans z)⟩)
    · refine step ?_
      refine step ?_
      refine And.intro tp ?_
      refine And.intro rfl ?_
      refine Or.inl (c_sign H6.1 ?_)
      refine step ?_
      refine step ?_
      refine And.intro (by omega) ?_
      refine And.intro (by omega) ?_
      refine And.intro (fun y => ?_) (fun y => ?_)
      · refine step ?_
        exact tail 0 (Or.inr ⟨rfl, fun u => y ((al z).mpr u)⟩)
      · refine step ?_
        refine step ?_
        exact tail 1 (Or.inl ⟨rfl, (al z).mp y⟩)
