-- NEEDS: 98
/-! THE COMPONENT: sums and tests as things -/
/-- the things of sums and tests are as they were -/
def OLD (h p : AH) : Prop := ∀ b, DYS b → 25 ≤ tg b → tg b ≤ 31 → ix b < hN h → (tg b ≤ 26 ∨ hP h b 0 ≠ none) → hI p b = hI h b ∧ hP p b = hP h b
theorem OLD.rf {h : AH} : OLD h h := fun _ _ _ _ _ _ => ⟨rfl, rfl⟩
theorem OLD.of {A : List Nat} {B : List Int} {h p : AH} (N : NX A B h p) (hA : ∀ a ∈ A, ¬ (DYS a ∧ 25 ≤ tg a ∧ tg a ≤ 31)) : OLD h p := fun b d t1 t2 hb _ => by
  have nA : b ∉ A := fun z => hA b z ⟨d, t1, t2⟩
  exact ⟨N.2.1 b hb nA d.nX, N.2.2.2.1 b hb nA⟩
theorem OLD.tr {h p q : AH} (hn : hN h ≤ hN p) (x : OLD h p) (y : OLD p q) : OLD h q := fun b d t1 t2 hb i => by
  obtain ⟨x1, x2⟩ := x b d t1 t2 hb i
  obtain ⟨y1, y2⟩ := y b d t1 t2 (by omega) (by rw [x2]; exact i)
  exact ⟨y1.trans x1, y2.trans x2⟩
/-- a thing that was not made yet is made -/
theorem OLD.mk {h q : AH} {a : Nat} (W : WX a h q) (ta : 27 ≤ tg a) (ha : hP h a 0 = none) : OLD h q := fun b d t1 t2 hb i => by
  have ne : b ≠ a := fun z => by
    rw [z] at i
    exact i.elim (fun y => by omega) (fun y => y ha)
  exact ⟨W.2.1 b ne, W.2.2.1 b ne⟩
def jVal (t : Nat) : Nat := if t = 25 then J_X9_of else if t = 26 then J_X10_of else J_X11_of
def jCnd (t : Nat) : Nat := if t = 29 then J_X14_is else if t = 30 then J_X15_is else J_X16_is
theorem pick_val {K : Nat → Prop} {a : Nat} (t : 25 ≤ tg a ∧ tg a ≤ 27) (h : K (jVal (tg a))) : pick [(25, J_X9_of), (26, J_X10_of), (27, J_X11_of)] a K := by
  rcases (by omega : tg a = 25 ∨ tg a = 26 ∨ tg a = 27) with z | z | z
  · rw [z] at h; exact Or.inl ⟨by omega, h⟩
  · rw [z] at h; exact Or.inr (Or.inl ⟨by omega, h⟩)
  · rw [z] at h; exact Or.inr (Or.inr ⟨by omega, h⟩)
theorem pick_cnd {K : Nat → Prop} {a : Nat} (t : 29 ≤ tg a ∧ tg a ≤ 31) (h : K (jCnd (tg a))) : pick [(29, J_X14_is), (30, J_X15_is), (31, J_X16_is)] a K := by
  rcases (by omega : tg a = 29 ∨ tg a = 30 ∨ tg a = 31) with z | z | z
  · rw [z] at h; exact Or.inl ⟨by omega, h⟩
  · rw [z] at h; exact Or.inr (Or.inl ⟨by omega, h⟩)
  · rw [z] at h; exact Or.inr (Or.inr ⟨by omega, h⟩)
abbrev WDS (p : AH) (w : Int → Int64) : Prop := ∀ x, 0 ≤ x → x ≤ 10 → hL p xWO x = w x
/-- the thing a reckons out f, at most D deep -/
def VAL (D : Int) (h : AH) (a : Nat) (f : FN) : Prop := (25 ≤ tg a ∧ tg a ≤ 27) ∧ (ix a < hN h ∧ DYS a) ∧ ∀ dd : Nat, D ≤ dd → ∀ p, OLD h p → ∀ (w : Int → Int64) (Ψ : OUT → AH → Prop), WDS p w → Ψ (.inl (some (vl (f w)))) p → CT dd 0 0 (jVal (tg a)) [vo a, vo xWO] p Ψ
theorem VAL.go {D D2 : Int} {h p : AH} {a : Nat} {f : FN} (H : VAL D h a f) (hD : D ≤ D2) (hn : hN h ≤ hN p) (O : OLD h p) : VAL D2 p a f := ⟨H.1, ⟨by have := H.2.1.1; omega, H.2.1.2⟩, fun dd hd q Oq => H.2.2 dd (by omega) q (O.tr hn Oq)⟩
def CND (D : Int) (h : AH) (a : Nat) (t : FN) : Prop := (29 ≤ tg a ∧ tg a ≤ 31) ∧ (ix a < hN h ∧ DYS a) ∧ (∀ w, t w = 0 ∨ t w = 1) ∧ ∀ dd : Nat, D ≤ dd → ∀ p, OLD h p → ∀ (w : Int → Int64) (Ψ : OUT → AH → Prop), WDS p w → Ψ (.inl (some (vi (if t w = 1 then 1 else 0)))) p → CT dd 0 0 (jCnd (tg a)) [vo a, vo xWO] p Ψ
theorem CND.go {D D2 : Int} {h p : AH} {a : Nat} {f : FN} (H : CND D h a f) (hD : D ≤ D2) (hn : hN h ≤ hN p) (O : OLD h p) : CND D2 p a f := ⟨H.1, ⟨by have := H.2.1.1; omega, H.2.1.2⟩, H.2.2.1, fun dd hd q Oq => H.2.2.2 dd (by omega) q (O.tr hn Oq)⟩
theorem VAL_9 {h : AH} {a : Nat} {v : Int} (ta : tg a = 25) (ia : ix a < hN h) (da : DYS a) (hv : hI h a 0 = v) (v0 : iR v) : VAL 1 h a (fun _ => Int64.ofInt v) := by
  refine ⟨by omega, ⟨ia, da⟩, fun dd hd p O w Ψ hw hΨ => ?_⟩
  obtain ⟨d, rfl⟩ : ∃ d, dd = d + 1 := ⟨dd - 1, by omega⟩
  have e : hI p a 0 = v := by rw [(O a da (by omega) (by omega) ia (Or.inl (by omega))).1]; exact hv
  rw [ta]
  show CT (d + 1) 0 0 J_X9_of [vo a, vo xWO] p Ψ
  refine e_X9_of ?_; intro k step keep
  refine step ?_
  refine step ?_
  refine And.intro ta ?_
  refine Exists.intro _ (And.intro e ?_)
  refine step ?_
  refine And.intro v0 ?_
  refine step ?_
  exact hΨ
theorem VAL_10 {h : AH} {a : Nat} {v : Int} (ta : tg a = 26) (ia : ix a < hN h) (da : DYS a) (hv : hI h a 0 = v) (v0 : 0 ≤ v) (v1 : v ≤ 10) : VAL 1 h a (fun w => w v) := by
  refine ⟨by omega, ⟨ia, da⟩, fun dd hd p O w Ψ hw hΨ => ?_⟩
  obtain ⟨d, rfl⟩ : ∃ d, dd = d + 1 := ⟨dd - 1, by omega⟩
  have e : hI p a 0 = v := by rw [(O a da (by omega) (by omega) ia (Or.inl (by omega))).1]; exact hv
  rw [ta]
  show CT (d + 1) 0 0 J_X10_of [vo a, vo xWO] p Ψ
  refine e_X10_of ?_; intro k step keep
  refine step ?_
  refine step ?_
  refine step ?_
  refine And.intro ta ?_
  refine Exists.intro _ (And.intro e ?_)
  refine step ?_
  refine And.intro rfl ?_
  refine And.intro (by omega) ?_
  refine And.intro (by simp only [lnX_xWO]; omega) ?_
  refine Exists.intro _ (And.intro (hw v v0 v1) ?_)
  refine step ?_
  exact hΨ
theorem VAL_11 {h : AH} {a x y : Nat} {s D : Int} {f g : FN} (ta : tg a = 27) (ia : ix a < hN h) (da : DYS a) (hx : hP h a 0 = some x) (hy : hP h a 1 = some y) (hs : hI h a 2 = s) (sg : isMul s ∨ isAdd s) (Vx : VAL (D - 1) h x f) (Vy : VAL (D - 1) h y g) (hD : 1 ≤ D) : VAL D h a (fun w => oneS (opc s) (f w) (g w)) := by
  refine ⟨by omega, ⟨ia, da⟩, fun dd hd p O w Ψ hw hΨ => ?_⟩
  obtain ⟨d, rfl⟩ : ∃ d, dd = d + 1 := ⟨dd - 1, by omega⟩
  obtain ⟨oI, oP⟩ := O a da (by omega) (by omega) ia (Or.inr (by rw [hx]; simp))
  have ex : hP p a 0 = some x := by rw [oP]; exact hx
  have ey : hP p a 1 = some y := by rw [oP]; exact hy
  have es : hI p a 2 = s := by rw [oI]; exact hs
  rw [ta]
  show CT (d + 1) 0 0 J_X11_of [vo a, vo xWO] p Ψ
  refine e_X11_of ?_; intro k step keep
  refine step ?_
  refine step ?_
  refine And.intro ta ?_
  refine Exists.intro _ (And.intro ex ?_)
  refine step ?_
  refine step ?_
  refine pick_val Vx.1 (And.intro rfl (Or.inl (Vx.2.2 d (by omega) p O w _ hw ?_)))
  refine step ?_
  refine step ?_
  refine step ?_
  refine And.intro ta ?_
  refine Exists.intro _ (And.intro ey ?_)
  refine step ?_
  refine step ?_
  refine pick_val Vy.1 (And.intro rfl (Or.inl (Vy.2.2 d (by omega) p O w _ hw ?_)))
  have hΨ : Ψ (.inl (some (vl (oneS (opc s) (f w) (g w))))) p := hΨ
  generalize f w = u at *
  generalize g w = v at *
  have tad : ((tg a : Nat) : Int) = 27 := by omega
  have c1 := lCmp_r v 0
  refine step ?_
  refine step ?_
  refine step ?_
  refine And.intro ta ?_
  refine Exists.intro _ (And.intro es ?_)
  refine step ?_
  refine step ?_
  refine And.intro (by omega) ?_
  refine And.intro (by omega) ?_
  refine And.intro (fun h1 => ?_) (fun h1 => ?_)
  · refine step ?_
    refine step ?_
    refine And.intro ta ?_
    refine Exists.intro _ (And.intro es ?_)
    refine step ?_
    refine step ?_
    refine And.intro (by omega) ?_
    refine And.intro (by omega) ?_
    refine And.intro (fun h2 => ?_) (fun h2 => ?_)
    · refine step ?_
      refine step ?_
      refine And.intro ta ?_
      refine Exists.intro _ (And.intro es ?_)
      refine step ?_
      refine step ?_
      refine And.intro (by omega) ?_
      refine And.intro (by omega) ?_
      refine And.intro (fun h3 => ?_) (fun h3 => ?_)
      · have ho : opc s = if s = 47 then 5 else 14 := by
          rcases (by omega : s = 47 ∨ s = 37) with z | z <;> rw [z] <;> rfl
        rw [ho] at hΨ
        unfold oneS at hΨ
        refine step ?_
        refine step ?_
        refine step ?_
        refine step ?_
        refine And.intro c1 ?_
        refine And.intro (fun h4 => ?_) (fun h4 => ?_)
        · have h4 : lCmp v 0 ≠ 0 := h4
          refine step ?_
          refine step ?_
          refine And.intro ta ?_
          refine Exists.intro _ (And.intro es ?_)
          refine step ?_
          refine step ?_
          refine And.intro (by omega) ?_
          refine And.intro (by omega) ?_
          refine And.intro (fun h5 => ?_) (fun h5 => ?_)
          · rw [if_neg h5, if_neg (by decide), if_neg (by decide), if_neg (by decide), if_neg (by decide), if_pos rfl, if_neg h4] at hΨ
            refine step ?_
            refine step ?_
            refine step ?_
            refine And.intro (lCmp_0 h4) ?_
            refine step ?_
            exact hΨ
          · rw [if_pos h5, if_neg (by decide), if_neg (by decide), if_neg (by decide), if_pos rfl, if_neg h4] at hΨ
            refine step ?_
            refine step ?_
            refine step ?_
            refine And.intro (lCmp_0 h4) ?_
            refine step ?_
            refine step ?_
            exact hΨ
        · have h4 : lCmp v 0 = 0 := h4
          have hz : Ψ (.inl (some (vl 0))) p := by
            by_cases h5 : s = 47
            · rw [if_pos h5, if_neg (by decide), if_neg (by decide), if_neg (by decide), if_pos rfl, if_pos h4] at hΨ
              exact hΨ
            · rw [if_neg h5, if_neg (by decide), if_neg (by decide), if_neg (by decide), if_neg (by decide), if_pos rfl, if_pos h4] at hΨ
              exact hΨ
          refine step ?_
          refine step ?_
          refine step ?_
          exact hz
      · rw [h3] at hΨ
        refine step ?_
        refine step ?_
        refine step ?_
        refine step ?_
        refine step ?_
        exact hΨ
    · rw [h2] at hΨ
      refine step ?_
      refine step ?_
      refine step ?_
      refine step ?_
      refine step ?_
      exact hΨ
  · rw [h1] at hΨ
    refine step ?_
    refine step ?_
    refine step ?_
    refine step ?_
    refine step ?_
    exact hΨ
theorem CND_14 {h : AH} {a x : Nat} {D : Int} {t : FN} (ta : tg a = 29) (ia : ix a < hN h) (da : DYS a) (hx : hP h a 0 = some x) (Cx : CND (D - 1) h x t) (hD : 1 ≤ D) : CND D h a (fun w => 1 - t w) := by
  refine ⟨by omega, ⟨ia, da⟩, fun w => ?_, fun dd hd p O w Ψ hw hΨ => ?_⟩
  · show 1 - t w = 0 ∨ 1 - t w = 1
    rcases Cx.2.2.1 w with z | z <;> rw [z] <;> decide
  obtain ⟨d, rfl⟩ : ∃ d, dd = d + 1 := ⟨dd - 1, by omega⟩
  obtain ⟨oI, oP⟩ := O a da (by omega) (by omega) ia (Or.inr (by rw [hx]; simp))
  have ex : hP p a 0 = some x := by rw [oP]; exact hx
  rw [ta]
  show CT (d + 1) 0 0 J_X14_is [vo a, vo xWO] p Ψ
  have hΨ : Ψ (.inl (some (vi (if 1 - t w = 1 then 1 else 0)))) p := hΨ
  refine e_X14_is ?_; intro k step keep
  refine step ?_
  refine step ?_
  refine And.intro ta ?_
  refine Exists.intro _ (And.intro ex ?_)
  refine step ?_
  refine step ?_
  refine pick_cnd Cx.1 (And.intro rfl (Or.inl (Cx.2.2.2 d (by omega) p O w _ hw ?_)))
  rcases Cx.2.2.1 w with z | z
  · rw [z] at hΨ ⊢
    rw [if_neg (by decide)]
    rw [if_pos (by decide)] at hΨ
    repeat (first | refine wxA (by decide) ?_ | refine wxA (by intro z; have z := congrArg ix z; omega) ?_ | refine wxM ?_ | refine wxL ?_ | refine step ?_ | refine Exists.intro _ (And.intro (congrFun ((congrFun hR _).trans fX) _) ?_) | refine Exists.intro _ (And.intro (congrFun ((congrFun hR _).trans fs) _) ?_) | refine Exists.intro _ (And.intro (congrFun ((congrFun hR _).trans fk) _) ?_) | refine Exists.intro _ (And.intro ((congrFun (congrFun hR _) _).trans fH0) ?_) | refine Exists.intro _ (And.intro ((congrFun (congrFun hR _) _).trans fH1) ?_) | refine Exists.intro _ (And.intro ((congrFun (congrFun hR _) _).trans fH2) ?_) | refine Exists.intro _ (And.intro rfl ?_) | refine And.intro rfl ?_ | refine And.intro trivial ?_ | refine And.intro (by assumption) ?_ | (refine And.intro (by intro hz; exfalso; omega) ?_; intro hz9) | refine And.intro (by omega) ?_ | refine And.intro (by simp only [lnX_sIS, lnX_sCE, lnX_sFA, lnX_sFO, lnX_sLE, lnX_sPL, lnX_sBE, lnX_sLD, lnX_kIS, lnX_kCE, lnX_kFA, lnX_kFO, lnX_kLE, lnX_kPL, lnX_kBE, lnX_kLD, lnX_xTA, lnX_xNW, lnX_xNO, lnX_xNE, lnX_xWO, lnX_xPA, lnX_xST, lnX_xFH, lnX_xSH, lnX_xLA, lnX_xSW, lnX_xIM]; omega) ?_ | (refine And.intro ?_ (by intro hz; exfalso; omega); intro hz9))
    exact hΨ
  · rw [z] at hΨ ⊢
    rw [if_pos (by decide)]
    rw [if_neg (by decide)] at hΨ
    repeat (first | refine wxA (by decide) ?_ | refine wxA (by intro z; have z := congrArg ix z; omega) ?_ | refine wxM ?_ | refine wxL ?_ | refine step ?_ | refine Exists.intro _ (And.intro (congrFun ((congrFun hR _).trans fX) _) ?_) | refine Exists.intro _ (And.intro (congrFun ((congrFun hR _).trans fs) _) ?_) | refine Exists.intro _ (And.intro (congrFun ((congrFun hR _).trans fk) _) ?_) | refine Exists.intro _ (And.intro ((congrFun (congrFun hR _) _).trans fH0) ?_) | refine Exists.intro _ (And.intro ((congrFun (congrFun hR _) _).trans fH1) ?_) | refine Exists.intro _ (And.intro ((congrFun (congrFun hR _) _).trans fH2) ?_) | refine Exists.intro _ (And.intro rfl ?_) | refine And.intro rfl ?_ | refine And.intro trivial ?_ | refine And.intro (by assumption) ?_ | (refine And.intro (by intro hz; exfalso; omega) ?_; intro hz9) | refine And.intro (by omega) ?_ | refine And.intro (by simp only [lnX_sIS, lnX_sCE, lnX_sFA, lnX_sFO, lnX_sLE, lnX_sPL, lnX_sBE, lnX_sLD, lnX_kIS, lnX_kCE, lnX_kFA, lnX_kFO, lnX_kLE, lnX_kPL, lnX_kBE, lnX_kLD, lnX_xTA, lnX_xNW, lnX_xNO, lnX_xNE, lnX_xWO, lnX_xPA, lnX_xST, lnX_xFH, lnX_xSH, lnX_xLA, lnX_xSW, lnX_xIM]; omega) ?_ | (refine And.intro ?_ (by intro hz; exfalso; omega); intro hz9))
    exact hΨ
theorem lCmp_s (x y : Int64) : (lCmp x y = 0 ↔ x = y) ∧ (lCmp x y < 0 ↔ x < y) ∧ (0 < lCmp x y ↔ y < x) := by
  unfold lCmp
  have a : ∀ u v : Int64, u < v ↔ u.toInt < v.toInt := fun u v => Int64.lt_iff_toInt_lt
  simp only [a, ← Int64.toInt_inj]
  refine ⟨⟨fun h => ?_, fun h => ?_⟩, ⟨fun h => ?_, fun h => ?_⟩, fun h => ?_, fun h => ?_⟩ <;> (revert h; (repeat' split) <;> intros <;> omega)
theorem cmp_tr {s m b c : Int} (b01 : b = 0 ∨ b = 1) (sg : (s = 60 ∧ m = (if b = 1 then 7 else 6)) ∨ (s = 61 ∧ m = 8) ∨ (s = 62 ∧ m = (if b = 1 then 9 else 10))) : ((m = 6 ∧ c < 0) ∨ (m = 7 ∧ c ≤ 0) ∨ (m = 8 ∧ c = 0) ∨ (m = 9 ∧ 0 ≤ c) ∨ (m = 10 ∧ 0 < c)) ↔ ((s = 60 ∧ (c < 0 ∨ (c = 0 ∧ b = 1))) ∨ (s = 61 ∧ c = 0) ∨ (s = 62 ∧ (0 < c ∨ (c = 0 ∧ b = 1)))) := by
  rcases b01 with z | z <;> subst z <;> rcases sg with ⟨e, q⟩ | ⟨e, q⟩ | ⟨e, q⟩ <;> subst e
  · rw [if_neg (by decide)] at q; omega
  · omega
  · rw [if_neg (by decide)] at q; omega
  · rw [if_pos rfl] at q; omega
  · omega
  · rw [if_pos rfl] at q; omega
theorem CND_15 {h : AH} {a x y : Nat} {s b m D : Int} {f g : FN} (ta : tg a = 30) (ia : ix a < hN h) (da : DYS a) (hx : hP h a 0 = some x) (hy : hP h a 1 = some y) (hs : hI h a 2 = s) (hb : hI h a 3 = b) (b01 : b = 0 ∨ b = 1) (sg : (s = 60 ∧ m = (if b = 1 then 7 else 6)) ∨ (s = 61 ∧ m = 8) ∨ (s = 62 ∧ m = (if b = 1 then 9 else 10))) (Vx : VAL (D - 1) h x f) (Vy : VAL (D - 1) h y g) (hD : 1 ≤ D) : CND D h a (fun w => oneS m (f w) (g w)) := by
  have m6 : 6 ≤ m ∧ m ≤ 10 := by
    rcases sg with ⟨-, z⟩ | ⟨-, z⟩ | ⟨-, z⟩
    · split at z <;> omega
    · omega
    · split at z <;> omega
  have val : ∀ u v : Int64, oneS m u v = if (m = 6 ∧ lCmp u v < 0) ∨ (m = 7 ∧ lCmp u v ≤ 0) ∨ (m = 8 ∧ lCmp u v = 0) ∨ (m = 9 ∧ 0 ≤ lCmp u v) ∨ (m = 10 ∧ 0 < lCmp u v) then 1 else 0 := by
    intro u v
    unfold oneS
    rcases (by omega : m = 6 ∨ m = 7 ∨ m = 8 ∨ m = 9 ∨ m = 10) with z | z | z | z | z <;> subst z <;> simp
  refine ⟨by omega, ⟨ia, da⟩, fun w => ?_, fun dd hd p O w Ψ hw hΨ => ?_⟩
  · show oneS m (f w) (g w) = 0 ∨ oneS m (f w) (g w) = 1
    rw [val]
    split
    · exact Or.inr rfl
    · exact Or.inl rfl
  obtain ⟨d, rfl⟩ : ∃ d, dd = d + 1 := ⟨dd - 1, by omega⟩
  obtain ⟨oI, oP⟩ := O a da (by omega) (by omega) ia (Or.inr (by rw [hx]; simp))
  have ex : hP p a 0 = some x := by rw [oP]; exact hx
  have ey : hP p a 1 = some y := by rw [oP]; exact hy
  have es : hI p a 2 = s := by rw [oI]; exact hs
  have eb : hI p a 3 = b := by rw [oI]; exact hb
  rw [ta]
  show CT (d + 1) 0 0 J_X15_is [vo a, vo xWO] p Ψ
  refine e_X15_is ?_; intro k step keep
  refine step ?_
  refine step ?_
  refine And.intro ta ?_
  refine Exists.intro _ (And.intro ex ?_)
  refine step ?_
  refine step ?_
  refine pick_val Vx.1 (And.intro rfl (Or.inl (Vx.2.2 d (by omega) p O w _ hw ?_)))
  refine step ?_
  refine step ?_
  refine step ?_
  refine And.intro ta ?_
  refine Exists.intro _ (And.intro ey ?_)
  refine step ?_
  refine step ?_
  refine pick_val Vy.1 (And.intro rfl (Or.inl (Vy.2.2 d (by omega) p O w _ hw ?_)))
  have hΨ : Ψ (.inl (some (vi (if oneS m (f w) (g w) = 1 then 1 else 0)))) p := hΨ
  generalize f w = u at *
  generalize g w = v at *
  rw [val] at hΨ
  have c1 := lCmp_r u v
  obtain ⟨c, hc⟩ : ∃ c, lCmp u v = c := ⟨_, rfl⟩
  rw [hc] at hΨ
  have key := cmp_tr (c := c) b01 sg
  have fin1 : ((s = 60 ∧ (c < 0 ∨ (c = 0 ∧ b = 1))) ∨ (s = 61 ∧ c = 0) ∨ (s = 62 ∧ (0 < c ∨ (c = 0 ∧ b = 1)))) → Ψ (.inl (some (vi 1))) p := fun z => by
    rw [if_pos (key.mpr z)] at hΨ
    exact hΨ
  have fin0 : ¬ ((s = 60 ∧ (c < 0 ∨ (c = 0 ∧ b = 1))) ∨ (s = 61 ∧ c = 0) ∨ (s = 62 ∧ (0 < c ∨ (c = 0 ∧ b = 1)))) → Ψ (.inl (some (vi 0))) p := fun z => by
    rw [if_neg (fun y => z (key.mp y))] at hΨ
    exact hΨ
  have a6 : s = 60 ∨ s = 61 ∨ s = 62 := by omega
  clear key sg m6 hΨ val
  refine step ?_
  refine step ?_
  refine step ?_
  refine step ?_
  refine step ?_
  refine And.intro c1 ?_
  refine And.intro (fun h0 => ?_) (fun h0 => ?_)
  · refine step ?_
    refine step ?_
    refine And.intro ta ?_
    refine Exists.intro _ (And.intro es ?_)
    refine step ?_
    refine step ?_
    refine And.intro (by omega) ?_
    refine And.intro (by omega) ?_
    have tail : (s = 60 → 0 < c) → k 0 0 66 [(0, vo a), (1, vo xWO), (2, vl u), (4, vl v)] [] p := by
      intro hs6
      refine step ?_
      refine step ?_
      refine And.intro ta ?_
      refine Exists.intro _ (And.intro es ?_)
      refine step ?_
      refine step ?_
      refine And.intro (by omega) ?_
      refine And.intro (by omega) ?_
      refine And.intro (fun h2 => ?_) (fun h2 => ?_)
      · repeat (first | refine wxA (by decide) ?_ | refine wxA (by intro z; have z := congrArg ix z; omega) ?_ | refine wxM ?_ | refine wxL ?_ | refine step ?_ | refine Exists.intro _ (And.intro (congrFun ((congrFun hR _).trans fX) _) ?_) | refine Exists.intro _ (And.intro (congrFun ((congrFun hR _).trans fs) _) ?_) | refine Exists.intro _ (And.intro (congrFun ((congrFun hR _).trans fk) _) ?_) | refine Exists.intro _ (And.intro ((congrFun (congrFun hR _) _).trans fH0) ?_) | refine Exists.intro _ (And.intro ((congrFun (congrFun hR _) _).trans fH1) ?_) | refine Exists.intro _ (And.intro ((congrFun (congrFun hR _) _).trans fH2) ?_) | refine Exists.intro _ (And.intro rfl ?_) | refine And.intro rfl ?_ | refine And.intro trivial ?_ | refine And.intro (by assumption) ?_ | (refine And.intro (by intro hz; exfalso; omega) ?_; intro hz9) | refine And.intro (by omega) ?_ | refine And.intro (by simp only [lnX_sIS, lnX_sCE, lnX_sFA, lnX_sFO, lnX_sLE, lnX_sPL, lnX_sBE, lnX_sLD, lnX_kIS, lnX_kCE, lnX_kFA, lnX_kFO, lnX_kLE, lnX_kPL, lnX_kBE, lnX_kLD, lnX_xTA, lnX_xNW, lnX_xNO, lnX_xNE, lnX_xWO, lnX_xPA, lnX_xST, lnX_xFH, lnX_xSH, lnX_xLA, lnX_xSW, lnX_xIM]; omega) ?_ | (refine And.intro ?_ (by intro hz; exfalso; omega); intro hz9))
        exact fin0 (by omega)
      · refine step ?_
        refine step ?_
        refine step ?_
        refine step ?_
        refine And.intro c1 ?_
        refine And.intro (fun h3 => ?_) (fun h3 => ?_)
        · repeat (first | refine wxA (by decide) ?_ | refine wxA (by intro z; have z := congrArg ix z; omega) ?_ | refine wxM ?_ | refine wxL ?_ | refine step ?_ | refine Exists.intro _ (And.intro (congrFun ((congrFun hR _).trans fX) _) ?_) | refine Exists.intro _ (And.intro (congrFun ((congrFun hR _).trans fs) _) ?_) | refine Exists.intro _ (And.intro (congrFun ((congrFun hR _).trans fk) _) ?_) | refine Exists.intro _ (And.intro ((congrFun (congrFun hR _) _).trans fH0) ?_) | refine Exists.intro _ (And.intro ((congrFun (congrFun hR _) _).trans fH1) ?_) | refine Exists.intro _ (And.intro ((congrFun (congrFun hR _) _).trans fH2) ?_) | refine Exists.intro _ (And.intro rfl ?_) | refine And.intro rfl ?_ | refine And.intro trivial ?_ | refine And.intro (by assumption) ?_ | (refine And.intro (by intro hz; exfalso; omega) ?_; intro hz9) | refine And.intro (by omega) ?_ | refine And.intro (by simp only [lnX_sIS, lnX_sCE, lnX_sFA, lnX_sFO, lnX_sLE, lnX_sPL, lnX_sBE, lnX_sLD, lnX_kIS, lnX_kCE, lnX_kFA, lnX_kFO, lnX_kLE, lnX_kPL, lnX_kBE, lnX_kLD, lnX_xTA, lnX_xNW, lnX_xNO, lnX_xNE, lnX_xWO, lnX_xPA, lnX_xST, lnX_xFH, lnX_xSH, lnX_xLA, lnX_xSW, lnX_xIM]; omega) ?_ | (refine And.intro ?_ (by intro hz; exfalso; omega); intro hz9))
          exact fin0 (by omega)
        · repeat (first | refine wxA (by decide) ?_ | refine wxA (by intro z; have z := congrArg ix z; omega) ?_ | refine wxM ?_ | refine wxL ?_ | refine step ?_ | refine Exists.intro _ (And.intro (congrFun ((congrFun hR _).trans fX) _) ?_) | refine Exists.intro _ (And.intro (congrFun ((congrFun hR _).trans fs) _) ?_) | refine Exists.intro _ (And.intro (congrFun ((congrFun hR _).trans fk) _) ?_) | refine Exists.intro _ (And.intro ((congrFun (congrFun hR _) _).trans fH0) ?_) | refine Exists.intro _ (And.intro ((congrFun (congrFun hR _) _).trans fH1) ?_) | refine Exists.intro _ (And.intro ((congrFun (congrFun hR _) _).trans fH2) ?_) | refine Exists.intro _ (And.intro rfl ?_) | refine And.intro rfl ?_ | refine And.intro trivial ?_ | refine And.intro (by assumption) ?_ | (refine And.intro (by intro hz; exfalso; omega) ?_; intro hz9) | refine And.intro (by omega) ?_ | refine And.intro (by simp only [lnX_sIS, lnX_sCE, lnX_sFA, lnX_sFO, lnX_sLE, lnX_sPL, lnX_sBE, lnX_sLD, lnX_kIS, lnX_kCE, lnX_kFA, lnX_kFO, lnX_kLE, lnX_kPL, lnX_kBE, lnX_kLD, lnX_xTA, lnX_xNW, lnX_xNO, lnX_xNE, lnX_xWO, lnX_xPA, lnX_xST, lnX_xFH, lnX_xSH, lnX_xLA, lnX_xSW, lnX_xIM]; omega) ?_ | (refine And.intro ?_ (by intro hz; exfalso; omega); intro hz9))
          exact fin1 (by omega)
    refine And.intro (fun h1 => ?_) (fun h1 => ?_)
    · exact tail (fun z => absurd z h1)
    · refine step ?_
      refine step ?_
      refine step ?_
      refine step ?_
      refine And.intro c1 ?_
      refine And.intro (fun h3 => ?_) (fun h3 => ?_)
      · repeat (first | refine wxA (by decide) ?_ | refine wxA (by intro z; have z := congrArg ix z; omega) ?_ | refine wxM ?_ | refine wxL ?_ | refine step ?_ | refine Exists.intro _ (And.intro (congrFun ((congrFun hR _).trans fX) _) ?_) | refine Exists.intro _ (And.intro (congrFun ((congrFun hR _).trans fs) _) ?_) | refine Exists.intro _ (And.intro (congrFun ((congrFun hR _).trans fk) _) ?_) | refine Exists.intro _ (And.intro ((congrFun (congrFun hR _) _).trans fH0) ?_) | refine Exists.intro _ (And.intro ((congrFun (congrFun hR _) _).trans fH1) ?_) | refine Exists.intro _ (And.intro ((congrFun (congrFun hR _) _).trans fH2) ?_) | refine Exists.intro _ (And.intro rfl ?_) | refine And.intro rfl ?_ | refine And.intro trivial ?_ | refine And.intro (by assumption) ?_ | (refine And.intro (by intro hz; exfalso; omega) ?_; intro hz9) | refine And.intro (by omega) ?_ | refine And.intro (by simp only [lnX_sIS, lnX_sCE, lnX_sFA, lnX_sFO, lnX_sLE, lnX_sPL, lnX_sBE, lnX_sLD, lnX_kIS, lnX_kCE, lnX_kFA, lnX_kFO, lnX_kLE, lnX_kPL, lnX_kBE, lnX_kLD, lnX_xTA, lnX_xNW, lnX_xNO, lnX_xNE, lnX_xWO, lnX_xPA, lnX_xST, lnX_xFH, lnX_xSH, lnX_xLA, lnX_xSW, lnX_xIM]; omega) ?_ | (refine And.intro ?_ (by intro hz; exfalso; omega); intro hz9))
        exact fin1 (by omega)
      · exact tail (fun _ => by omega)
  · refine step ?_
    refine step ?_
    refine And.intro ta ?_
    refine Exists.intro _ (And.intro es ?_)
    refine step ?_
    refine step ?_
    refine And.intro (by omega) ?_
    refine And.intro (by omega) ?_
    refine And.intro (fun h1 => ?_) (fun h1 => ?_)
    · repeat (first | refine wxA (by decide) ?_ | refine wxA (by intro z; have z := congrArg ix z; omega) ?_ | refine wxM ?_ | refine wxL ?_ | refine step ?_ | refine Exists.intro _ (And.intro (congrFun ((congrFun hR _).trans fX) _) ?_) | refine Exists.intro _ (And.intro (congrFun ((congrFun hR _).trans fs) _) ?_) | refine Exists.intro _ (And.intro (congrFun ((congrFun hR _).trans fk) _) ?_) | refine Exists.intro _ (And.intro ((congrFun (congrFun hR _) _).trans fH0) ?_) | refine Exists.intro _ (And.intro ((congrFun (congrFun hR _) _).trans fH1) ?_) | refine Exists.intro _ (And.intro ((congrFun (congrFun hR _) _).trans fH2) ?_) | refine Exists.intro _ (And.intro rfl ?_) | refine And.intro rfl ?_ | refine And.intro trivial ?_ | refine And.intro (by assumption) ?_ | (refine And.intro (by intro hz; exfalso; omega) ?_; intro hz9) | refine And.intro (by omega) ?_ | refine And.intro (by simp only [lnX_sIS, lnX_sCE, lnX_sFA, lnX_sFO, lnX_sLE, lnX_sPL, lnX_sBE, lnX_sLD, lnX_kIS, lnX_kCE, lnX_kFA, lnX_kFO, lnX_kLE, lnX_kPL, lnX_kBE, lnX_kLD, lnX_xTA, lnX_xNW, lnX_xNO, lnX_xNE, lnX_xWO, lnX_xPA, lnX_xST, lnX_xFH, lnX_xSH, lnX_xLA, lnX_xSW, lnX_xIM]; omega) ?_ | (refine And.intro ?_ (by intro hz; exfalso; omega); intro hz9))
      exact fin1 (by omega)
    · refine step ?_
      refine step ?_
      refine And.intro ta ?_
      refine Exists.intro _ (And.intro eb ?_)
      refine step ?_
      refine And.intro (by omega) ?_
      refine And.intro (fun h2 => ?_) (fun h2 => ?_)
      · repeat (first | refine wxA (by decide) ?_ | refine wxA (by intro z; have z := congrArg ix z; omega) ?_ | refine wxM ?_ | refine wxL ?_ | refine step ?_ | refine Exists.intro _ (And.intro (congrFun ((congrFun hR _).trans fX) _) ?_) | refine Exists.intro _ (And.intro (congrFun ((congrFun hR _).trans fs) _) ?_) | refine Exists.intro _ (And.intro (congrFun ((congrFun hR _).trans fk) _) ?_) | refine Exists.intro _ (And.intro ((congrFun (congrFun hR _) _).trans fH0) ?_) | refine Exists.intro _ (And.intro ((congrFun (congrFun hR _) _).trans fH1) ?_) | refine Exists.intro _ (And.intro ((congrFun (congrFun hR _) _).trans fH2) ?_) | refine Exists.intro _ (And.intro rfl ?_) | refine And.intro rfl ?_ | refine And.intro trivial ?_ | refine And.intro (by assumption) ?_ | (refine And.intro (by intro hz; exfalso; omega) ?_; intro hz9) | refine And.intro (by omega) ?_ | refine And.intro (by simp only [lnX_sIS, lnX_sCE, lnX_sFA, lnX_sFO, lnX_sLE, lnX_sPL, lnX_sBE, lnX_sLD, lnX_kIS, lnX_kCE, lnX_kFA, lnX_kFO, lnX_kLE, lnX_kPL, lnX_kBE, lnX_kLD, lnX_xTA, lnX_xNW, lnX_xNO, lnX_xNE, lnX_xWO, lnX_xPA, lnX_xST, lnX_xFH, lnX_xSH, lnX_xLA, lnX_xSW, lnX_xIM]; omega) ?_ | (refine And.intro ?_ (by intro hz; exfalso; omega); intro hz9))
        exact fin0 (by omega)
      · repeat (first | refine wxA (by decide) ?_ | refine wxA (by intro z; have z := congrArg ix z; omega) ?_ | refine wxM ?_ | refine wxL ?_ | refine step ?_ | refine Exists.intro _ (And.intro (congrFun ((congrFun hR _).trans fX) _) ?_) | refine Exists.intro _ (And.intro (congrFun ((congrFun hR _).trans fs) _) ?_) | refine Exists.intro _ (And.intro (congrFun ((congrFun hR _).trans fk) _) ?_) | refine Exists.intro _ (And.intro ((congrFun (congrFun hR _) _).trans fH0) ?_) | refine Exists.intro _ (And.intro ((congrFun (congrFun hR _) _).trans fH1) ?_) | refine Exists.intro _ (And.intro ((congrFun (congrFun hR _) _).trans fH2) ?_) | refine Exists.intro _ (And.intro rfl ?_) | refine And.intro rfl ?_ | refine And.intro trivial ?_ | refine And.intro (by assumption) ?_ | (refine And.intro (by intro hz; exfalso; omega) ?_; intro hz9) | refine And.intro (by omega) ?_ | refine And.intro (by simp only [lnX_sIS, lnX_sCE, lnX_sFA, lnX_sFO, lnX_sLE, lnX_sPL, lnX_sBE, lnX_sLD, lnX_kIS, lnX_kCE, lnX_kFA, lnX_kFO, lnX_kLE, lnX_kPL, lnX_kBE, lnX_kLD, lnX_xTA, lnX_xNW, lnX_xNO, lnX_xNE, lnX_xWO, lnX_xPA, lnX_xST, lnX_xFH, lnX_xSH, lnX_xLA, lnX_xSW, lnX_xIM]; omega) ?_ | (refine And.intro ?_ (by intro hz; exfalso; omega); intro hz9))
        exact fin1 (by omega)
theorem b12 {u v : Int64} (hu : u = 0 ∨ u = 1) (hv : v = 0 ∨ v = 1) : (oneS 12 u v = 1 ↔ u = 1 ∧ v = 1) ∧ (oneS 13 u v = 1 ↔ u = 1 ∨ v = 1) ∧ (oneS 12 u v = 0 ∨ oneS 12 u v = 1) ∧ (oneS 13 u v = 0 ∨ oneS 13 u v = 1) := by
  rcases hu with z | z <;> rcases hv with y | y <;> subst z <;> subst y <;> decide
theorem CND_16 {h : AH} {a x y : Nat} {o D : Int} {f g : FN} (ta : tg a = 31) (ia : ix a < hN h) (da : DYS a) (hx : hP h a 0 = some x) (hy : hP h a 1 = some y) (ho : hI h a 2 = o) (o01 : o = 0 ∨ o = 1) (Cx : CND (D - 1) h x f) (Cy : CND (D - 1) h y g) (hD : 1 ≤ D) : CND D h a (fun w => oneS (12 + o) (f w) (g w)) := by
  refine ⟨by omega, ⟨ia, da⟩, fun w => ?_, fun dd hd p O w Ψ hw hΨ => ?_⟩
  · have q := b12 (Cx.2.2.1 w) (Cy.2.2.1 w)
    rcases o01 with z | z <;> subst z
    · exact q.2.2.1
    · exact q.2.2.2
  obtain ⟨d, rfl⟩ : ∃ d, dd = d + 1 := ⟨dd - 1, by omega⟩
  obtain ⟨oI, oP⟩ := O a da (by omega) (by omega) ia (Or.inr (by rw [hx]; simp))
  have ex : hP p a 0 = some x := by rw [oP]; exact hx
  have ey : hP p a 1 = some y := by rw [oP]; exact hy
  have eo : hI p a 2 = o := by rw [oI]; exact ho
  rw [ta]
  show CT (d + 1) 0 0 J_X16_is [vo a, vo xWO] p Ψ
  have hΨ : Ψ (.inl (some (vi (if oneS (12 + o) (f w) (g w) = 1 then 1 else 0)))) p := hΨ
  have q := b12 (Cx.2.2.1 w) (Cy.2.2.1 w)
  refine e_X16_is ?_; intro k step keep
  refine step ?_
  refine step ?_
  refine And.intro ta ?_
  refine Exists.intro _ (And.intro eo ?_)
  refine step ?_
  refine And.intro (by omega) ?_
  refine And.intro (fun h1 => ?_) (fun h1 => ?_)
  · have z : o = 0 := h1
    subst z
    have hΨ : Ψ (.inl (some (vi (if oneS 12 (f w) (g w) = 1 then 1 else 0)))) p := hΨ
    have K1 : f w = 1 ∧ g w = 1 → Ψ (.inl (some (vi 1))) p := fun z => by rw [if_pos (q.1.mpr z)] at hΨ; exact hΨ
    have K0 : ¬ (f w = 1 ∧ g w = 1) → Ψ (.inl (some (vi 0))) p := fun z => by rw [if_neg (fun u => z (q.1.mp u))] at hΨ; exact hΨ
    refine step ?_
    refine step ?_
    refine And.intro ta ?_
    refine Exists.intro _ (And.intro ex ?_)
    refine step ?_
    refine step ?_
    refine pick_cnd Cx.1 (And.intro rfl (Or.inl (Cx.2.2.2 d (by omega) p O w _ hw ?_)))
    by_cases hf : f w = 1
    · rw [if_pos hf]
      refine step ?_
      refine And.intro (by omega) ?_
      refine And.intro (fun z => by omega) (fun _ => ?_)
      refine step ?_
      refine step ?_
      refine And.intro ta ?_
      refine Exists.intro _ (And.intro ey ?_)
      refine step ?_
      refine step ?_
      refine pick_cnd Cy.1 (And.intro rfl (Or.inl (Cy.2.2.2 d (by omega) p O w _ hw ?_)))
      by_cases hg : g w = 1
      · rw [if_pos hg]
        repeat (first | refine wxA (by decide) ?_ | refine wxA (by intro z; have z := congrArg ix z; omega) ?_ | refine wxM ?_ | refine wxL ?_ | refine step ?_ | refine Exists.intro _ (And.intro (congrFun ((congrFun hR _).trans fX) _) ?_) | refine Exists.intro _ (And.intro (congrFun ((congrFun hR _).trans fs) _) ?_) | refine Exists.intro _ (And.intro (congrFun ((congrFun hR _).trans fk) _) ?_) | refine Exists.intro _ (And.intro ((congrFun (congrFun hR _) _).trans fH0) ?_) | refine Exists.intro _ (And.intro ((congrFun (congrFun hR _) _).trans fH1) ?_) | refine Exists.intro _ (And.intro ((congrFun (congrFun hR _) _).trans fH2) ?_) | refine Exists.intro _ (And.intro rfl ?_) | refine And.intro rfl ?_ | refine And.intro trivial ?_ | refine And.intro (by assumption) ?_ | (refine And.intro (by intro hz; exfalso; omega) ?_; intro hz9) | refine And.intro (by omega) ?_ | refine And.intro (by simp only [lnX_sIS, lnX_sCE, lnX_sFA, lnX_sFO, lnX_sLE, lnX_sPL, lnX_sBE, lnX_sLD, lnX_kIS, lnX_kCE, lnX_kFA, lnX_kFO, lnX_kLE, lnX_kPL, lnX_kBE, lnX_kLD, lnX_xTA, lnX_xNW, lnX_xNO, lnX_xNE, lnX_xWO, lnX_xPA, lnX_xST, lnX_xFH, lnX_xSH, lnX_xLA, lnX_xSW, lnX_xIM]; omega) ?_ | (refine And.intro ?_ (by intro hz; exfalso; omega); intro hz9))
        exact K1 ⟨hf, hg⟩
      · rw [if_neg hg]
        repeat (first | refine wxA (by decide) ?_ | refine wxA (by intro z; have z := congrArg ix z; omega) ?_ | refine wxM ?_ | refine wxL ?_ | refine step ?_ | refine Exists.intro _ (And.intro (congrFun ((congrFun hR _).trans fX) _) ?_) | refine Exists.intro _ (And.intro (congrFun ((congrFun hR _).trans fs) _) ?_) | refine Exists.intro _ (And.intro (congrFun ((congrFun hR _).trans fk) _) ?_) | refine Exists.intro _ (And.intro ((congrFun (congrFun hR _) _).trans fH0) ?_) | refine Exists.intro _ (And.intro ((congrFun (congrFun hR _) _).trans fH1) ?_) | refine Exists.intro _ (And.intro ((congrFun (congrFun hR _) _).trans fH2) ?_) | refine Exists.intro _ (And.intro rfl ?_) | refine And.intro rfl ?_ | refine And.intro trivial ?_ | refine And.intro (by assumption) ?_ | (refine And.intro (by intro hz; exfalso; omega) ?_; intro hz9) | refine And.intro (by omega) ?_ | refine And.intro (by simp only [lnX_sIS, lnX_sCE, lnX_sFA, lnX_sFO, lnX_sLE, lnX_sPL, lnX_sBE, lnX_sLD, lnX_kIS, lnX_kCE, lnX_kFA, lnX_kFO, lnX_kLE, lnX_kPL, lnX_kBE, lnX_kLD, lnX_xTA, lnX_xNW, lnX_xNO, lnX_xNE, lnX_xWO, lnX_xPA, lnX_xST, lnX_xFH, lnX_xSH, lnX_xLA, lnX_xSW, lnX_xIM]; omega) ?_ | (refine And.intro ?_ (by intro hz; exfalso; omega); intro hz9))
        exact K0 (fun z => hg z.2)
    · rw [if_neg hf]
      repeat (first | refine wxA (by decide) ?_ | refine wxA (by intro z; have z := congrArg ix z; omega) ?_ | refine wxM ?_ | refine wxL ?_ | refine step ?_ | refine Exists.intro _ (And.intro (congrFun ((congrFun hR _).trans fX) _) ?_) | refine Exists.intro _ (And.intro (congrFun ((congrFun hR _).trans fs) _) ?_) | refine Exists.intro _ (And.intro (congrFun ((congrFun hR _).trans fk) _) ?_) | refine Exists.intro _ (And.intro ((congrFun (congrFun hR _) _).trans fH0) ?_) | refine Exists.intro _ (And.intro ((congrFun (congrFun hR _) _).trans fH1) ?_) | refine Exists.intro _ (And.intro ((congrFun (congrFun hR _) _).trans fH2) ?_) | refine Exists.intro _ (And.intro rfl ?_) | refine And.intro rfl ?_ | refine And.intro trivial ?_ | refine And.intro (by assumption) ?_ | (refine And.intro (by intro hz; exfalso; omega) ?_; intro hz9) | refine And.intro (by omega) ?_ | refine And.intro (by simp only [lnX_sIS, lnX_sCE, lnX_sFA, lnX_sFO, lnX_sLE, lnX_sPL, lnX_sBE, lnX_sLD, lnX_kIS, lnX_kCE, lnX_kFA, lnX_kFO, lnX_kLE, lnX_kPL, lnX_kBE, lnX_kLD, lnX_xTA, lnX_xNW, lnX_xNO, lnX_xNE, lnX_xWO, lnX_xPA, lnX_xST, lnX_xFH, lnX_xSH, lnX_xLA, lnX_xSW, lnX_xIM]; omega) ?_ | (refine And.intro ?_ (by intro hz; exfalso; omega); intro hz9))
      exact K0 (fun z => hf z.1)
  · have z : o = 1 := by omega
    subst z
    have hΨ : Ψ (.inl (some (vi (if oneS 13 (f w) (g w) = 1 then 1 else 0)))) p := hΨ
    have K1 : f w = 1 ∨ g w = 1 → Ψ (.inl (some (vi 1))) p := fun z => by rw [if_pos (q.2.1.mpr z)] at hΨ; exact hΨ
    have K0 : ¬ (f w = 1 ∨ g w = 1) → Ψ (.inl (some (vi 0))) p := fun z => by rw [if_neg (fun u => z (q.2.1.mp u))] at hΨ; exact hΨ
    refine step ?_
    refine step ?_
    refine And.intro ta ?_
    refine Exists.intro _ (And.intro ex ?_)
    refine step ?_
    refine step ?_
    refine pick_cnd Cx.1 (And.intro rfl (Or.inl (Cx.2.2.2 d (by omega) p O w _ hw ?_)))
    by_cases hf : f w = 1
    · rw [if_pos hf]
      repeat (first | refine wxA (by decide) ?_ | refine wxA (by intro z; have z := congrArg ix z; omega) ?_ | refine wxM ?_ | refine wxL ?_ | refine step ?_ | refine Exists.intro _ (And.intro (congrFun ((congrFun hR _).trans fX) _) ?_) | refine Exists.intro _ (And.intro (congrFun ((congrFun hR _).trans fs) _) ?_) | refine Exists.intro _ (And.intro (congrFun ((congrFun hR _).trans fk) _) ?_) | refine Exists.intro _ (And.intro ((congrFun (congrFun hR _) _).trans fH0) ?_) | refine Exists.intro _ (And.intro ((congrFun (congrFun hR _) _).trans fH1) ?_) | refine Exists.intro _ (And.intro ((congrFun (congrFun hR _) _).trans fH2) ?_) | refine Exists.intro _ (And.intro rfl ?_) | refine And.intro rfl ?_ | refine And.intro trivial ?_ | refine And.intro (by assumption) ?_ | (refine And.intro (by intro hz; exfalso; omega) ?_; intro hz9) | refine And.intro (by omega) ?_ | refine And.intro (by simp only [lnX_sIS, lnX_sCE, lnX_sFA, lnX_sFO, lnX_sLE, lnX_sPL, lnX_sBE, lnX_sLD, lnX_kIS, lnX_kCE, lnX_kFA, lnX_kFO, lnX_kLE, lnX_kPL, lnX_kBE, lnX_kLD, lnX_xTA, lnX_xNW, lnX_xNO, lnX_xNE, lnX_xWO, lnX_xPA, lnX_xST, lnX_xFH, lnX_xSH, lnX_xLA, lnX_xSW, lnX_xIM]; omega) ?_ | (refine And.intro ?_ (by intro hz; exfalso; omega); intro hz9))
      exact K1 (Or.inl hf)
    · rw [if_neg hf]
      refine step ?_
      refine And.intro (by omega) ?_
      refine And.intro (fun z => by omega) (fun _ => ?_)
      refine step ?_
      refine step ?_
      refine And.intro ta ?_
      refine Exists.intro _ (And.intro ey ?_)
      refine step ?_
      refine step ?_
      refine pick_cnd Cy.1 (And.intro rfl (Or.inl (Cy.2.2.2 d (by omega) p O w _ hw ?_)))
      by_cases hg : g w = 1
      · rw [if_pos hg]
        repeat (first | refine wxA (by decide) ?_ | refine wxA (by intro z; have z := congrArg ix z; omega) ?_ | refine wxM ?_ | refine wxL ?_ | refine step ?_ | refine Exists.intro _ (And.intro (congrFun ((congrFun hR _).trans fX) _) ?_) | refine Exists.intro _ (And.intro (congrFun ((congrFun hR _).trans fs) _) ?_) | refine Exists.intro _ (And.intro (congrFun ((congrFun hR _).trans fk) _) ?_) | refine Exists.intro _ (And.intro ((congrFun (congrFun hR _) _).trans fH0) ?_) | refine Exists.intro _ (And.intro ((congrFun (congrFun hR _) _).trans fH1) ?_) | refine Exists.intro _ (And.intro ((congrFun (congrFun hR _) _).trans fH2) ?_) | refine Exists.intro _ (And.intro rfl ?_) | refine And.intro rfl ?_ | refine And.intro trivial ?_ | refine And.intro (by assumption) ?_ | (refine And.intro (by intro hz; exfalso; omega) ?_; intro hz9) | refine And.intro (by omega) ?_ | refine And.intro (by simp only [lnX_sIS, lnX_sCE, lnX_sFA, lnX_sFO, lnX_sLE, lnX_sPL, lnX_sBE, lnX_sLD, lnX_kIS, lnX_kCE, lnX_kFA, lnX_kFO, lnX_kLE, lnX_kPL, lnX_kBE, lnX_kLD, lnX_xTA, lnX_xNW, lnX_xNO, lnX_xNE, lnX_xWO, lnX_xPA, lnX_xST, lnX_xFH, lnX_xSH, lnX_xLA, lnX_xSW, lnX_xIM]; omega) ?_ | (refine And.intro ?_ (by intro hz; exfalso; omega); intro hz9))
        exact K1 (Or.inr hg)
      · rw [if_neg hg]
        repeat (first | refine wxA (by decide) ?_ | refine wxA (by intro z; have z := congrArg ix z; omega) ?_ | refine wxM ?_ | refine wxL ?_ | refine step ?_ | refine Exists.intro _ (And.intro (congrFun ((congrFun hR _).trans fX) _) ?_) | refine Exists.intro _ (And.intro (congrFun ((congrFun hR _).trans fs) _) ?_) | refine Exists.intro _ (And.intro (congrFun ((congrFun hR _).trans fk) _) ?_) | refine Exists.intro _ (And.intro ((congrFun (congrFun hR _) _).trans fH0) ?_) | refine Exists.intro _ (And.intro ((congrFun (congrFun hR _) _).trans fH1) ?_) | refine Exists.intro _ (And.intro ((congrFun (congrFun hR _) _).trans fH2) ?_) | refine Exists.intro _ (And.intro rfl ?_) | refine And.intro rfl ?_ | refine And.intro trivial ?_ | refine And.intro (by assumption) ?_ | (refine And.intro (by intro hz; exfalso; omega) ?_; intro hz9) | refine And.intro (by omega) ?_ | refine And.intro (by simp only [lnX_sIS, lnX_sCE, lnX_sFA, lnX_sFO, lnX_sLE, lnX_sPL, lnX_sBE, lnX_sLD, lnX_kIS, lnX_kCE, lnX_kFA, lnX_kFO, lnX_kLE, lnX_kPL, lnX_kBE, lnX_kLD, lnX_xTA, lnX_xNW, lnX_xNO, lnX_xNE, lnX_xWO, lnX_xPA, lnX_xST, lnX_xFH, lnX_xSH, lnX_xLA, lnX_xSW, lnX_xIM]; omega) ?_ | (refine And.intro ?_ (by intro hz; exfalso; omega); intro hz9))
        exact K0 (fun z => z.elim hf hg)
