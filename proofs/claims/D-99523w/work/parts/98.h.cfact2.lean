-- NEEDS: 98
/-! THE COMPONENT'S READER: facts: a comparison made -/
/-- a comparison behind its first sum -/
def cmpK (T : Int → Int) (n j0 m1 : Int) (f : FN) : PRS := if byF T n (skp T n j0) = 60 ∨ byF T n (skp T n j0) = 61 ∨ byF T n (skp T n j0) = 62 then
    (if m1 = 60 then (m1, .inl (1 + 8 * skp T n j0 + 3)) else bnd (smS T n (skp T n j0 + 1 + (if alsP T n (skp T n j0) then 1 else 0)) (m1 + 1)) (fun j2 m2 g => (m2, .inr (j2, fun w => oneS (cmo T n (skp T n j0)) (f w) (g w)))))
  else (m1, .inl (1 + 8 * skp T n j0 + 0))
theorem cmpK_ok {T : Int → Int} {n j m2 : Int} {f : FN} (j0 : 0 ≤ j) (h2 : j ≤ n) (h4 : m2 ≤ 60) : OKR n j m2 (cmpK T n j m2 f) := by
  have sk := skp_ok (T := T) h2
  unfold cmpK
  split
  · rename_i hc
    have hj : skp T n j < n := by rcases hc with z | z | z <;> exact byF_lt z (by decide)
    split
    · exact ⟨Int.le_refl _, h4, by show 1 ≤ _; omega, by show _ ≤ (_ : Int); omega⟩
    · have hq : skp T n j + 1 + (if alsP T n (skp T n j) then 1 else 0) ≤ n := by
        split
        · rename_i ha; have := ha.2.1; omega
        · omega
      have h0 : skp T n j + 1 ≤ skp T n j + 1 + (if alsP T n (skp T n j) then 1 else 0) := by split <;> omega
      have s := smS_ok (T := T) (n := n) (i := skp T n j + 1 + (if alsP T n (skp T n j) then 1 else 0)) (m := m2 + 1) (by omega) hq (by omega)
      have s2 := bnd_OKM (K := fun j2 m2 g => (m2, .inr (j2, fun w => oneS (cmo T n (skp T n j)) (f w) (g w)))) s (fun j2 m3 g q1 q2 _ q4 => ⟨Int.le_refl _, q4, Int.le_refl _, q2⟩)
      exact s2.r.to (by omega) (by omega)
  · exact ⟨Int.le_refl _, h4, by show 1 ≤ _; omega, by show _ ≤ (_ : Int); omega⟩
set_option maxHeartbeats 1000000 in
theorem fact_new {d mc ms sh pa : Nat} {T : Int → Int} {n m dp c w m1 i3 si ch b mo : Int} {h p7 : AH} {Φ : OUT → AH → Prop} {V : PRS} {k : KT} {f : FN} {x cu su : Nat} (step : STP (d + 8) mc ms Φ C_X5_fact k) (tpa : tg pa = 22) (H7 : PY sh pa p7 T n i3 (m1 + 1) dp c w) (N7 : NX [pa] [] h p7) (Vx7 : VAL (m1 - m) p7 x f) (s2 : m < m1) (dpb : 0 ≤ dp ∧ dp ≤ 10) (b01 : b = 0 ∨ b = 1) (sg : (ch = 60 ∧ mo = (if b = 1 then 7 else 6)) ∨ (ch = 61 ∧ mo = 8) ∨ (ch = 62 ∧ mo = (if b = 1 then 9 else 10))) (hcu : cu + 1 + chg n i3 (smS T n i3 (m1 + 1)) ≤ mc) (hsu : su + 4 + 4 * chg n i3 (smS T n i3 (m1 + 1)) ≤ ms) (hV : bnd (smS T n i3 (m1 + 1)) (fun j2 m2 g => (m2, .inr (j2, fun w => oneS mo (f w) (g w)))) = V)
    (K0 : ∀ m2 e, V = (m2, .inl e) → ∀ p, hI p xWR 0 = e → NX [pa, xWR] [] h p → Φ (.inr xWR) p)
    (K : ∀ m2 j f, V = (m2, .inr (j, f)) → ∀ p a, PY sh pa p T n j m2 dp c w → NX [pa] [] h p → CND (m2 - m + (10 - dp)) p a f → Φ (.inl (some (vo a))) p) : k cu su 231 [(0, vo pa), (1, vi si), (2, vo x), (3, vi ch), (4, vi b)] [] p7 := by
  have tp : ((tg pa : Nat) : Int) = 22 := by omega
  have up1 : ∀ {p q : AH}, NX [pa] [] p q → NX [pa, xWR] [] p q := fun N => N.up (by intro a ha; rw [List.mem_singleton.mp ha]; simp) (by decide)
  have i31 := H7.1.2.2.2.2.2.2.2.2.1
  have m60 := H7.2.1
  have tok2 := smS_ok (T := T) (n := n) (i := i3) (m := m1 + 1) i31.1 i31.2 m60.2.2
  have n7 := H7.2.2.2.2.2.1
  refine step ?_
  refine And.intro rfl ?_
  refine And.intro (by omega) ?_
  refine And.intro (by omega) ?_
  generalize ea : nwA p7 30 0 = a
  generalize eq : nwH p7 30 0 = p8
  obtain ⟨o1, o2, o3, o4, o5, o6, o7⟩ := nw_ok ea eq (by decide) (by decide) n7.2
  have da := nw_dy o1 n7.2
  have apa : a ≠ pa := fun z => by rw [z] at o1; omega
  have H8 := H7.nx o7 (by simp) (by simp) (by simp) (by decide) (by simp)
  have N8 := N7.tr (o7.up (A' := [pa]) (B' := []) (by simp) (by simp))
  have O8 : OLD p7 p8 := OLD.of o7 (by simp)
  refine step ?_
  refine step ?_
  refine step ?_
  refine step ?_
  refine And.intro tp ?_
  refine And.intro rfl ?_
  refine Or.inr ⟨chg n (i3) (smS T n (i3) (m1 + 1)), 4 * chg n (i3) (smS T n (i3) (m1 + 1)), by omega, by omega, cp_sum H8 (Nat.le_refl _) (Nat.le_refl _) (fun m3 e he p9 e9 N9 => ?_) (fun m3 j3 g he p9 y H9 N9 Vy => ?_)⟩
  · rw [he] at hV
    exact K0 m3 e hV.symm p9 e9 ((up1 N8).tr N9)
  · rw [he] at hV tok2
    have hV : ((m3, .inr (j3, fun w => oneS (mo) (f w) (g w))) : PRS) = V := hV
    have vm : m1 + 1 < m3 := tok2.2.2.2
    have a4 : ix a < hN p8 := by omega
    have ua : hP p9 a 0 = none := by rw [N9.2.2.2.1 a a4 (fun z => apa (List.mem_singleton.mp z))]; exact o6 0
    have ni9 := N9.1
    refine step ?_
    refine step ?_
    refine step ?_
    refine And.intro (by omega) ?_
    refine And.intro rfl ?_
    refine Or.inl (c_X15init o2 b01 (fun p10 W10 e0 e1 e2 e3 => ?_))
    have N10 : NX [pa] [] h p10 := (N8.tr N9).w W10 (Or.inr (by have := N7.1; omega)) da.nX
    have a10 : NX [a] [] p9 p10 := NX.rf.w W10 (Or.inl List.mem_cons_self) da.nX
    have H10 := H9.nx a10 (fun z => apa (List.mem_singleton.mp z).symm) (fun z => da.nX (List.mem_singleton.mp z).symm) (fun z => by rw [← List.mem_singleton.mp z] at da; revert da; decide) (by decide) da.n64
    have O10 : OLD p9 p10 := OLD.mk W10 (by omega) ua
    have Vx10 : VAL (m3 - m + (10 - dp) - 1) p10 x f := ((Vx7.go (Int.le_refl _) (by omega) O8).go (Int.le_refl _) ni9 (OLD.of N9 (pa_tag H8))).go (by omega) (by rw [W10.1]; exact Nat.le_refl _) O10
    have Vy10 : VAL (m3 - m + (10 - dp) - 1) p10 y g := Vy.go (by omega) (by rw [W10.1]; exact Nat.le_refl _) O10
    have V10 : CND (m3 - m + (10 - dp)) p10 a (fun w => oneS (mo) (f w) (g w)) := CND_15 o2 (by rw [W10.1]; omega) da e0 e1 e2 e3 b01 sg Vx10 Vy10 (by omega)
    refine step ?_
    exact K m3 j3 _ hV.symm p10 a H10 N10 V10
