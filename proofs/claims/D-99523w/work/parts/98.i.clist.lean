-- NEEDS: 98
/-! THE COMPONENT: lists that grow -/
theorem fact_all {sh pa : Nat} {T : Int → Int} {n c w : Int} : ∀ Q : Nat, ∀ q, q ≤ Q → FACT sh pa T n c w q := by
  intro Q
  induction Q with
  | zero =>
    intro q hq dd mc ms h Φ i m dp H hk
    have := H.1.2.2.2.2.2.2.2.2.1
    omega
  | succ Q ih =>
    intro q hq
    rcases Nat.lt_or_ge q (Q + 1) with z | z
    · exact ih q (by omega)
    · have e : q = Q + 1 := by omega
      subst e
      exact fact_of (ih Q (Nat.le_refl _)) (test_of (fun q hq => part_of (fun q' hq' => ih q' (by omega))))
theorem test_all {sh pa : Nat} {T : Int → Int} {n c w : Int} (Q : Nat) : TEST sh pa T n c w Q := test_of (fun q _ => part_of (fun q' _ => fact_all q' q' (Nat.le_refl _)))
theorem c_max2 {d : Nat} {h : AH} {Φ : OUT → AH → Prop} {a b : Int} (ha : iR a) (hb : iR b) (K : ∀ r, r = max a b → Φ (.inl (some (vi r))) h) : CT (d + 1) 0 0 J_J11_max [vi a, vi b] h Φ := by
  refine e_J11_max ?_; intro k step keep
  repeat (first | refine wxA (by decide) ?_ | refine wxA (by intro z; have z := congrArg ix z; omega) ?_ | refine wxM ?_ | refine wxL ?_ | refine step ?_ | refine Exists.intro _ (And.intro (congrFun ((congrFun hR _).trans fX) _) ?_) | refine Exists.intro _ (And.intro (congrFun ((congrFun hR _).trans fs) _) ?_) | refine Exists.intro _ (And.intro (congrFun ((congrFun hR _).trans fk) _) ?_) | refine Exists.intro _ (And.intro ((congrFun (congrFun hR _) _).trans fH0) ?_) | refine Exists.intro _ (And.intro ((congrFun (congrFun hR _) _).trans fH1) ?_) | refine Exists.intro _ (And.intro ((congrFun (congrFun hR _) _).trans fH2) ?_) | refine Exists.intro _ (And.intro rfl ?_) | refine And.intro rfl ?_ | refine And.intro trivial ?_ | refine And.intro (by assumption) ?_ | (refine And.intro (by intro hz; exfalso; omega) ?_; intro hz9) | refine And.intro (by omega) ?_ | refine And.intro (by simp only [lnX_sIS, lnX_sCE, lnX_sFA, lnX_sFO, lnX_sLE, lnX_sPL, lnX_sBE, lnX_sLD, lnX_kIS, lnX_kCE, lnX_kFA, lnX_kFO, lnX_kLE, lnX_kPL, lnX_kBE, lnX_kLD, lnX_xTA, lnX_xNW, lnX_xNO, lnX_xNE, lnX_xWO, lnX_xPA, lnX_xST, lnX_xFH, lnX_xSH, lnX_xLA, lnX_xSW, lnX_xIM]; omega) ?_ | (refine And.intro ?_ (by intro hz; exfalso; omega); intro hz9))
  refine And.intro (fun hc => ?_) (fun hc => ?_)
  · repeat (first | refine wxA (by decide) ?_ | refine wxA (by intro z; have z := congrArg ix z; omega) ?_ | refine wxM ?_ | refine wxL ?_ | refine step ?_ | refine Exists.intro _ (And.intro (congrFun ((congrFun hR _).trans fX) _) ?_) | refine Exists.intro _ (And.intro (congrFun ((congrFun hR _).trans fs) _) ?_) | refine Exists.intro _ (And.intro (congrFun ((congrFun hR _).trans fk) _) ?_) | refine Exists.intro _ (And.intro ((congrFun (congrFun hR _) _).trans fH0) ?_) | refine Exists.intro _ (And.intro ((congrFun (congrFun hR _) _).trans fH1) ?_) | refine Exists.intro _ (And.intro ((congrFun (congrFun hR _) _).trans fH2) ?_) | refine Exists.intro _ (And.intro rfl ?_) | refine And.intro rfl ?_ | refine And.intro trivial ?_ | refine And.intro (by assumption) ?_ | (refine And.intro (by intro hz; exfalso; omega) ?_; intro hz9) | refine And.intro (by omega) ?_ | refine And.intro (by simp only [lnX_sIS, lnX_sCE, lnX_sFA, lnX_sFO, lnX_sLE, lnX_sPL, lnX_sBE, lnX_sLD, lnX_kIS, lnX_kCE, lnX_kFA, lnX_kFO, lnX_kLE, lnX_kPL, lnX_kBE, lnX_kLD, lnX_xTA, lnX_xNW, lnX_xNO, lnX_xNE, lnX_xWO, lnX_xPA, lnX_xST, lnX_xFH, lnX_xSH, lnX_xLA, lnX_xSW, lnX_xIM]; omega) ?_ | (refine And.intro ?_ (by intro hz; exfalso; omega); intro hz9))
    exact K _ (by omega)
  · repeat (first | refine wxA (by decide) ?_ | refine wxA (by intro z; have z := congrArg ix z; omega) ?_ | refine wxM ?_ | refine wxL ?_ | refine step ?_ | refine Exists.intro _ (And.intro (congrFun ((congrFun hR _).trans fX) _) ?_) | refine Exists.intro _ (And.intro (congrFun ((congrFun hR _).trans fs) _) ?_) | refine Exists.intro _ (And.intro (congrFun ((congrFun hR _).trans fk) _) ?_) | refine Exists.intro _ (And.intro ((congrFun (congrFun hR _) _).trans fH0) ?_) | refine Exists.intro _ (And.intro ((congrFun (congrFun hR _) _).trans fH1) ?_) | refine Exists.intro _ (And.intro ((congrFun (congrFun hR _) _).trans fH2) ?_) | refine Exists.intro _ (And.intro rfl ?_) | refine And.intro rfl ?_ | refine And.intro trivial ?_ | refine And.intro (by assumption) ?_ | (refine And.intro (by intro hz; exfalso; omega) ?_; intro hz9) | refine And.intro (by omega) ?_ | refine And.intro (by simp only [lnX_sIS, lnX_sCE, lnX_sFA, lnX_sFO, lnX_sLE, lnX_sPL, lnX_sBE, lnX_sLD, lnX_kIS, lnX_kCE, lnX_kFA, lnX_kFO, lnX_kLE, lnX_kPL, lnX_kBE, lnX_kLD, lnX_xTA, lnX_xNW, lnX_xNO, lnX_xNE, lnX_xWO, lnX_xPA, lnX_xST, lnX_xFH, lnX_xSH, lnX_xLA, lnX_xSW, lnX_xIM]; omega) ?_ | (refine And.intro ?_ (by intro hz; exfalso; omega); intro hz9))
    exact K _ (by omega)
theorem c_min2 {d : Nat} {h : AH} {Φ : OUT → AH → Prop} {a b : Int} (ha : iR a) (hb : iR b) (K : ∀ r, r = min a b → Φ (.inl (some (vi r))) h) : CT (d + 1) 0 0 J_J11_min [vi a, vi b] h Φ := by
  refine e_J11_min ?_; intro k step keep
  repeat (first | refine wxA (by decide) ?_ | refine wxA (by intro z; have z := congrArg ix z; omega) ?_ | refine wxM ?_ | refine wxL ?_ | refine step ?_ | refine Exists.intro _ (And.intro (congrFun ((congrFun hR _).trans fX) _) ?_) | refine Exists.intro _ (And.intro (congrFun ((congrFun hR _).trans fs) _) ?_) | refine Exists.intro _ (And.intro (congrFun ((congrFun hR _).trans fk) _) ?_) | refine Exists.intro _ (And.intro ((congrFun (congrFun hR _) _).trans fH0) ?_) | refine Exists.intro _ (And.intro ((congrFun (congrFun hR _) _).trans fH1) ?_) | refine Exists.intro _ (And.intro ((congrFun (congrFun hR _) _).trans fH2) ?_) | refine Exists.intro _ (And.intro rfl ?_) | refine And.intro rfl ?_ | refine And.intro trivial ?_ | refine And.intro (by assumption) ?_ | (refine And.intro (by intro hz; exfalso; omega) ?_; intro hz9) | refine And.intro (by omega) ?_ | refine And.intro (by simp only [lnX_sIS, lnX_sCE, lnX_sFA, lnX_sFO, lnX_sLE, lnX_sPL, lnX_sBE, lnX_sLD, lnX_kIS, lnX_kCE, lnX_kFA, lnX_kFO, lnX_kLE, lnX_kPL, lnX_kBE, lnX_kLD, lnX_xTA, lnX_xNW, lnX_xNO, lnX_xNE, lnX_xWO, lnX_xPA, lnX_xST, lnX_xFH, lnX_xSH, lnX_xLA, lnX_xSW, lnX_xIM]; omega) ?_ | (refine And.intro ?_ (by intro hz; exfalso; omega); intro hz9))
  refine And.intro (fun hc => ?_) (fun hc => ?_)
  · repeat (first | refine wxA (by decide) ?_ | refine wxA (by intro z; have z := congrArg ix z; omega) ?_ | refine wxM ?_ | refine wxL ?_ | refine step ?_ | refine Exists.intro _ (And.intro (congrFun ((congrFun hR _).trans fX) _) ?_) | refine Exists.intro _ (And.intro (congrFun ((congrFun hR _).trans fs) _) ?_) | refine Exists.intro _ (And.intro (congrFun ((congrFun hR _).trans fk) _) ?_) | refine Exists.intro _ (And.intro ((congrFun (congrFun hR _) _).trans fH0) ?_) | refine Exists.intro _ (And.intro ((congrFun (congrFun hR _) _).trans fH1) ?_) | refine Exists.intro _ (And.intro ((congrFun (congrFun hR _) _).trans fH2) ?_) | refine Exists.intro _ (And.intro rfl ?_) | refine And.intro rfl ?_ | refine And.intro trivial ?_ | refine And.intro (by assumption) ?_ | (refine And.intro (by intro hz; exfalso; omega) ?_; intro hz9) | refine And.intro (by omega) ?_ | refine And.intro (by simp only [lnX_sIS, lnX_sCE, lnX_sFA, lnX_sFO, lnX_sLE, lnX_sPL, lnX_sBE, lnX_sLD, lnX_kIS, lnX_kCE, lnX_kFA, lnX_kFO, lnX_kLE, lnX_kPL, lnX_kBE, lnX_kLD, lnX_xTA, lnX_xNW, lnX_xNO, lnX_xNE, lnX_xWO, lnX_xPA, lnX_xST, lnX_xFH, lnX_xSH, lnX_xLA, lnX_xSW, lnX_xIM]; omega) ?_ | (refine And.intro ?_ (by intro hz; exfalso; omega); intro hz9))
    exact K _ (by omega)
  · repeat (first | refine wxA (by decide) ?_ | refine wxA (by intro z; have z := congrArg ix z; omega) ?_ | refine wxM ?_ | refine wxL ?_ | refine step ?_ | refine Exists.intro _ (And.intro (congrFun ((congrFun hR _).trans fX) _) ?_) | refine Exists.intro _ (And.intro (congrFun ((congrFun hR _).trans fs) _) ?_) | refine Exists.intro _ (And.intro (congrFun ((congrFun hR _).trans fk) _) ?_) | refine Exists.intro _ (And.intro ((congrFun (congrFun hR _) _).trans fH0) ?_) | refine Exists.intro _ (And.intro ((congrFun (congrFun hR _) _).trans fH1) ?_) | refine Exists.intro _ (And.intro ((congrFun (congrFun hR _) _).trans fH2) ?_) | refine Exists.intro _ (And.intro rfl ?_) | refine And.intro rfl ?_ | refine And.intro trivial ?_ | refine And.intro (by assumption) ?_ | (refine And.intro (by intro hz; exfalso; omega) ?_; intro hz9) | refine And.intro (by omega) ?_ | refine And.intro (by simp only [lnX_sIS, lnX_sCE, lnX_sFA, lnX_sFO, lnX_sLE, lnX_sPL, lnX_sBE, lnX_sLD, lnX_kIS, lnX_kCE, lnX_kFA, lnX_kFO, lnX_kLE, lnX_kPL, lnX_kBE, lnX_kLD, lnX_xTA, lnX_xNW, lnX_xNO, lnX_xNE, lnX_xWO, lnX_xPA, lnX_xST, lnX_xFH, lnX_xSH, lnX_xLA, lnX_xSW, lnX_xIM]; omega) ?_ | (refine And.intro ?_ (by intro hz; exfalso; omega); intro hz9))
    exact K _ (by omega)
theorem c_newLength {d : Nat} {h : AH} {Φ : OUT → AH → Prop} {a b c : Int} (a0 : 1 ≤ a) (a1 : a ≤ 100) (b0 : 0 ≤ b) (b1 : b ≤ 100) (c0 : 0 ≤ c) (c1 : c ≤ 100) (K : ∀ r, r = a + max b c → Φ (.inl (some (vi r))) h) : CT (d + 2) 0 0 J_J10_newLength [vi a, vi b, vi c] h Φ := by
  refine e_J10_newLength ?_; intro k step keep
  repeat (first | refine wxA (by decide) ?_ | refine wxA (by intro z; have z := congrArg ix z; omega) ?_ | refine wxM ?_ | refine wxL ?_ | refine step ?_ | refine Exists.intro _ (And.intro (congrFun ((congrFun hR _).trans fX) _) ?_) | refine Exists.intro _ (And.intro (congrFun ((congrFun hR _).trans fs) _) ?_) | refine Exists.intro _ (And.intro (congrFun ((congrFun hR _).trans fk) _) ?_) | refine Exists.intro _ (And.intro ((congrFun (congrFun hR _) _).trans fH0) ?_) | refine Exists.intro _ (And.intro ((congrFun (congrFun hR _) _).trans fH1) ?_) | refine Exists.intro _ (And.intro ((congrFun (congrFun hR _) _).trans fH2) ?_) | refine Exists.intro _ (And.intro rfl ?_) | refine And.intro rfl ?_ | refine And.intro trivial ?_ | refine And.intro (by assumption) ?_ | (refine And.intro (by intro hz; exfalso; omega) ?_; intro hz9) | refine And.intro (by omega) ?_ | refine And.intro (by simp only [lnX_sIS, lnX_sCE, lnX_sFA, lnX_sFO, lnX_sLE, lnX_sPL, lnX_sBE, lnX_sLD, lnX_kIS, lnX_kCE, lnX_kFA, lnX_kFO, lnX_kLE, lnX_kPL, lnX_kBE, lnX_kLD, lnX_xTA, lnX_xNW, lnX_xNO, lnX_xNE, lnX_xWO, lnX_xPA, lnX_xST, lnX_xFH, lnX_xSH, lnX_xLA, lnX_xSW, lnX_xIM]; omega) ?_ | (refine And.intro ?_ (by intro hz; exfalso; omega); intro hz9))
  refine Or.inl (c_max2 (by omega) (by omega) (fun r hr => ?_))
  repeat (first | refine wxA (by decide) ?_ | refine wxA (by intro z; have z := congrArg ix z; omega) ?_ | refine wxM ?_ | refine wxL ?_ | refine step ?_ | refine Exists.intro _ (And.intro (congrFun ((congrFun hR _).trans fX) _) ?_) | refine Exists.intro _ (And.intro (congrFun ((congrFun hR _).trans fs) _) ?_) | refine Exists.intro _ (And.intro (congrFun ((congrFun hR _).trans fk) _) ?_) | refine Exists.intro _ (And.intro ((congrFun (congrFun hR _) _).trans fH0) ?_) | refine Exists.intro _ (And.intro ((congrFun (congrFun hR _) _).trans fH1) ?_) | refine Exists.intro _ (And.intro ((congrFun (congrFun hR _) _).trans fH2) ?_) | refine Exists.intro _ (And.intro rfl ?_) | refine And.intro rfl ?_ | refine And.intro trivial ?_ | refine And.intro (by assumption) ?_ | (refine And.intro (by intro hz; exfalso; omega) ?_; intro hz9) | refine And.intro (by omega) ?_ | refine And.intro (by simp only [lnX_sIS, lnX_sCE, lnX_sFA, lnX_sFO, lnX_sLE, lnX_sPL, lnX_sBE, lnX_sLD, lnX_kIS, lnX_kCE, lnX_kFA, lnX_kFO, lnX_kLE, lnX_kPL, lnX_kBE, lnX_kLD, lnX_xTA, lnX_xNW, lnX_xNO, lnX_xNE, lnX_xWO, lnX_xPA, lnX_xST, lnX_xFH, lnX_xSH, lnX_xLA, lnX_xSW, lnX_xIM]; omega) ?_ | (refine And.intro ?_ (by intro hz; exfalso; omega); intro hz9))
  exact K _ (by omega)
theorem wpC {P : AH → Prop} {h : AH} {a b : Nat} {n : Int} (H : ∀ q, WX b h q → (∀ m, hP q b m = if 0 ≤ m ∧ m < n then hP h a m else hP h b m) → P q) : P (h.1, h.2.1, h.2.2.1, cpP h.2.2.2 a b n) := by
  refine H _ ⟨rfl, fun _ _ => rfl, fun c n => ?_, fun _ => rfl⟩ (fun m => ?_)
  · funext m
    show (if c = b ∧ _ then _ else h.2.2.2 c m) = h.2.2.2 c m
    rw [if_neg (fun z => n z.1)]
  · show (if b = b ∧ 0 ≤ m ∧ m < n then h.2.2.2 a m else h.2.2.2 b m) = _
    simp only [true_and]
def CAP (n : Nat) : Prop := n = 2 ∨ n = 3 ∨ n = 4 ∨ n = 6 ∨ n = 9 ∨ n = 13
theorem CAP_b {n : Nat} (h : CAP n) : 2 ≤ n ∧ n ≤ 13 := by
  unfold CAP at h
  omega
theorem cap_next {l : Nat} {L : Nat} {r : Int} (hl : CAP l) (hL : L = l) (h12 : L ≤ 12) (hr : r = (l : Int) + max ((L : Int) + 1 - l) ((l : Int) / 2)) : ∃ l2 : Nat, r = l2 ∧ CAP l2 ∧ l < l2 ∧ l2 ≤ 13 := by
  subst hL
  unfold CAP at hl
  rcases hl with z | z | z | z | z | z
  · subst z; exact ⟨3, by omega, by unfold CAP; omega, by omega, by omega⟩
  · subst z; exact ⟨4, by omega, by unfold CAP; omega, by omega, by omega⟩
  · subst z; exact ⟨6, by omega, by unfold CAP; omega, by omega, by omega⟩
  · subst z; exact ⟨9, by omega, by unfold CAP; omega, by omega, by omega⟩
  · subst z; exact ⟨13, by omega, by unfold CAP; omega, by omega, by omega⟩
  · omega
/-- the list a: its elements L lie in el -/
def LST (h : AH) (a el : Nat) (L : List Nat) : Prop := tg a = 18 ∧ hI h a 2 = L.length ∧ hP h a 1 = some el ∧ tg el = 4 ∧ (L.length ≤ ln el ∧ CAP (ln el)) ∧ ∀ (k : Nat) v, L[k]? = some v → hP h el k = some v ∧ 16 ≤ tg v ∧ tg v ≤ 32
theorem LST.of {h p : AH} {a el : Nat} {L : List Nat} (H : LST h a el L) (e2 : hI p a 2 = hI h a 2) (ea : hP p a 1 = hP h a 1) (ee : hP p el = hP h el) : LST p a el L := ⟨H.1, e2.trans H.2.1, ea.trans H.2.2.1, H.2.2.2.1, H.2.2.2.2.1, fun k v hv => by rw [ee]; exact H.2.2.2.2.2 k v hv⟩
theorem shr1 : ∀ x : Fin 14, iShr (x.val : Int) 1 = (x.val : Int) / 2 := by decide +kernel
theorem c_copyOf {d : Nat} {h : AH} {Φ : OUT → AH → Prop} {mc ms a : Nat} {n : Int} (ta : tg a = 4) (l0 : (ln a : Int) ≤ n) (l1 : n ≤ 100) (hmc : 1 ≤ mc) (hms : n ≤ ms) (hn : 307 ≤ hN h) (ia : ix a < hN h) (he : ∀ (i : Int) y, 0 ≤ i → i < ln a → hP h a i = some y → 16 ≤ tg y ∧ tg y ≤ 32)
    (K : ∀ p b, ix b = hN h → tg b = 4 → ((ln b : Nat) : Int) = n → (∀ m : Int, 0 ≤ m → m < ln a → hP p b m = hP h a m) → NX [] [] h p → hN p = hN h + 1 → Φ (.inl (some (vo b))) p) : CT (d + 3) mc ms J_J12_copyOf [vo a, vi n] h Φ := by
  refine e_J12_copyOf ?_; intro k step keep
  have inner : ∀ (Ψ : OUT → AH → Prop), (∀ p b, ix b = hN h → tg b = 4 → ((ln b : Nat) : Int) = n → (∀ m : Int, 0 ≤ m → m < ln a → hP p b m = hP h a m) → NX [] [] h p → hN p = hN h + 1 → Ψ (.inl (some (vo b))) p) → CT (d + 2) mc ms J_J12_copyOf_2 [vo a, vi n, vo 827392] h Ψ := by
    intro Ψ hΨ
    refine e_J12_copyOf_2 ?_
    intro k step keep
    refine step ?_
    refine step ?_
    refine step ?_
    refine And.intro rfl ?_
    refine step ?_
    refine step ?_
    refine And.intro (by omega) ?_
    refine And.intro (by omega) ?_
    refine And.intro (by omega) ?_
    refine And.intro (by omega) ?_
    generalize eb : nwA h 4 n.toNat = b
    generalize eq : nwH h 4 n.toNat = q
    obtain ⟨o1, o2, o3, o4, o5, o6, o7⟩ := nw_ok eb eq (by decide) (by omega) hn
    have anb : a ≠ b := fun z => by rw [z] at ia; omega
    have eqa : hP q a = hP h a := o7.2.2.2.1 a ia (by simp)
    have any : arrAny a = true := by
      unfold arrAny
      rw [ta]
      rfl
    refine step ?_
    refine step ?_
    refine step ?_
    refine step ?_
    refine step ?_
    refine step ?_
    refine step ?_
    refine step ?_
    refine And.intro any ?_
    refine step ?_
    refine step ?_
    refine And.intro rfl ?_
    refine Or.inl (c_min2 (by omega) (by omega) (fun r hr => ?_))
    have hr : r = ln a := by omega
    subst hr
    refine step ?_
    refine And.intro ⟨ta, o2, rfl, rfl, by omega, by omega, by omega, anb, rfl, fun i y i0 i1 hy => ?_⟩ ?_
    · rw [eqa] at hy
      exact he i y i0 i1 hy
    refine wpC (fun p W e => ?_)
    refine step ?_
    refine step ?_
    refine hΨ p b o1 o2 (by omega) (fun m m0 m1 => ?_) (o7.w W (Or.inr (by omega)) (fun z => by rw [z] at o2; revert o2; decide)) (by rw [W.1]; exact o4)
    rw [e, if_pos ⟨m0, m1⟩, eqa]
  refine step ?_
  refine step ?_
  refine step ?_
  refine step ?_
  refine And.intro ta ?_
  refine And.intro rfl ?_
  refine step ?_
  refine And.intro rfl ?_
  refine Or.inr ⟨mc, ms, by omega, by omega, inner _ (fun p b b1 b2 b3 b4 b5 b6 => ?_)⟩
  refine step ?_
  exact K p b b1 b2 b3 b4 b5 b6
set_option maxHeartbeats 1000000 in
theorem c_add {d : Nat} {h : AH} {Φ : OUT → AH → Prop} {mc ms a el v : Nat} {L : List Nat} (H : LST h a el L) (hL : L.length ≤ 12) (tv : 16 ≤ tg v ∧ tg v ≤ 32) (hmc : 1 ≤ mc) (hms : 13 ≤ ms) (hn : 307 ≤ hN h) (ia : ix a < hN h) (ie : ix el < hN h)
    (K : ∀ p el2, LST p a el2 (L ++ [v]) → NX [a, el] [] h p → (el2 = el ∨ hN h ≤ ix el2) → ix el2 < hN p → Φ (.inl (some (vi 1))) p) : CT (d + 7) mc ms J_J2_add [vo a, vo v] h Φ := by
  obtain ⟨ta, e2, e1, te, ⟨l0, l1⟩, hv⟩ := id H
  have lb := CAP_b l1
  have aX : a ≠ X := fun z => by rw [z] at ta; revert ta; decide
  have elX : el ≠ X := fun z => by rw [z] at te; revert te; decide
  have ael : a ≠ el := fun z => by rw [z] at ta; omega
  have ta2 : ((tg a : Nat) : Int) = 18 := by omega
  have any : arrAny el = true := by
    unfold arrAny
    rw [te]
    rfl
  refine e_J2_add ?_; intro k step keep
  refine step ?_
  refine step ?_
  refine step ?_
  refine And.intro ta ?_
  refine Exists.intro _ (And.intro rfl ?_)
  refine step ?_
  refine step ?_
  refine step ?_
  refine And.intro ta ?_
  refine wpI (fun p1 W1 i1 g1 => ?_)
  have e2' : hI p1 a 2 = L.length := by rw [i1, if_neg (by decide)]; exact e2
  have e1' : hP p1 a 1 = some el := by rw [g1]; exact e1
  have hv1 : ∀ (k : Nat) v, L[k]? = some v → hP p1 el k = some v ∧ 16 ≤ tg v ∧ tg v ≤ 32 := fun k v hk => by rw [W1.2.2.1 el (fun z => ael z.symm)]; exact hv k v hk
  refine step ?_
  refine step ?_
  refine step ?_
  refine step ?_
  refine And.intro ta ?_
  refine Exists.intro _ (And.intro e1' ?_)
  refine step ?_
  refine step ?_
  refine And.intro ta ?_
  refine Exists.intro _ (And.intro e2' ?_)
  refine step ?_
  refine And.intro ta2 ?_
  refine And.intro rfl ?_
  refine Or.inr ⟨mc, ms, by omega, by omega, ?_⟩
  -- the inner add
  have inner : ∀ (Ψ : OUT → AH → Prop), (∀ p el2, LST p a el2 (L ++ [v]) → NX [a, el] [] p1 p → (el2 = el ∨ hN p1 ≤ ix el2) → ix el2 < hN p → Ψ (.inl none) p) → CT (d + 6) mc ms J_J2_add_2 [vo a, vo v, vo el, vi L.length] p1 Ψ := by
    intro Ψ hΨ
    refine e_J2_add_2 ?_
    intro k step keep
    -- the end: el2 the array, with room
    have fin : ∀ (p : AH) (el2 cu su : Nat), tg el2 = 4 → ((L.length : Int) < ln el2 ∧ CAP (ln el2)) → hI p a 2 = L.length → hP p a 1 = some el2 → (∀ (k : Nat) v, L[k]? = some v → hP p el2 k = some v ∧ 16 ≤ tg v ∧ tg v ≤ 32) → NX [a, el] [] p1 p → (el2 = el ∨ hN p1 ≤ ix el2) → ix el2 < hN p → k cu su 11 [(0, vo a), (1, vo v), (2, vo el2), (3, vi L.length)] [] p := by
      intro p el2 cu su t2 hl f2 f1 fv N hnew hix
      have a2 : a ≠ el2 := fun z => by rw [z] at ta; omega
      have e2X : el2 ≠ X := fun z => by rw [z] at t2; revert t2; decide
      refine step ?_
      refine step ?_
      refine step ?_
      refine step ?_
      refine And.intro (Or.inl ⟨t2, tv.1, tv.2⟩) ?_
      refine And.intro (by omega) ?_
      refine And.intro (by omega) ?_
      refine wpP (fun p2 W2 g2 i2 => ?_)
      have f2' : hI p2 a 2 = L.length := by rw [W2.2.1 a a2]; exact f2
      refine step ?_
      refine step ?_
      refine step ?_
      refine step ?_
      refine step ?_
      refine And.intro ta ?_
      refine wpI (fun p3 W3 i3 g3 => ?_)
      refine step ?_
      have NN : NX [a, el] [] p1 p3 := (N.w W2 (hnew.elim (fun z => Or.inl (by rw [z]; simp)) Or.inr) e2X).w W3 (Or.inl List.mem_cons_self) aX
      have gel : hP p3 el2 = hP p2 el2 := W3.2.2.1 el2 (fun z => a2 z.symm)
      refine hΨ p3 el2 ⟨ta, ?_, ?_, t2, ⟨?_, hl.2⟩, fun k u hk => ?_⟩ NN hnew (by rw [W3.1, W2.1]; exact hix)
      · rw [i3, if_pos rfl]
        simp
      · rw [g3, W2.2.2.1 a a2]
        exact f1
      · simp
        omega
      · rw [gel]
        rcases Nat.lt_or_ge k L.length with z | z
        · rw [List.getElem?_append_left z] at hk
          rw [g2, if_neg (by omega)]
          exact fv k u hk
        · rw [List.getElem?_append_right z] at hk
          have hk2 : k - L.length = 0 := by
            rcases Nat.lt_or_ge (k - L.length) 1 with y | y
            · omega
            · rw [List.getElem?_eq_none (by simpa using y)] at hk
              cases hk
          rw [hk2] at hk
          have hu : u = v := by simpa using hk.symm
          rw [hu, g2, if_pos (by omega)]
          exact ⟨rfl, tv⟩
    refine step ?_
    refine step ?_
    refine step ?_
    refine And.intro any ?_
    refine step ?_
    refine And.intro (by omega) ?_
    refine And.intro (by omega) ?_
    refine And.intro (fun z => ?_) (fun z => ?_)
    · exact fin p1 el 0 0 te ⟨by omega, l1⟩ e2' e1' hv1 NX.rf (Or.inl rfl) (by rw [W1.1]; exact ie)
    · have llen : L.length = ln el := by omega
      have sh := shr1 ⟨ln el, by omega⟩
      have sh : iShr ((ln el : Nat) : Int) 1 = ((ln el : Nat) : Int) / 2 := sh
      refine step ?_
      refine step ?_
      refine And.intro ta2 ?_
      refine And.intro rfl ?_
      refine Or.inr ⟨mc, ms, by omega, by omega, ?_⟩
      have grow : ∀ (Θ : OUT → AH → Prop), (∀ p el2, tg el2 = 4 → ((L.length : Int) < ln el2 ∧ CAP (ln el2)) → hI p a 2 = L.length → hP p a 1 = some el2 → (∀ (k : Nat) v, L[k]? = some v → hP p el2 k = some v ∧ 16 ≤ tg v ∧ tg v ≤ 32) → NX [a, el] [] p1 p → hN p1 ≤ ix el2 → ix el2 < hN p → Θ (.inl (some (vo el2))) p) → CT (d + 4) mc ms J_J2_grow_2 [vo a, vi (L.length + 1)] p1 Θ := by
        intro Θ hΘ
        refine e_J2_grow_2 ?_
        intro k3 step3 keep3
        refine step3 ?_
        refine step3 ?_
        refine And.intro ta ?_
        refine Exists.intro _ (And.intro e1' ?_)
        refine step3 ?_
        refine And.intro any ?_
        refine step3 ?_
        refine step3 ?_
        refine step3 ?_
        refine And.intro (by omega) ?_
        refine And.intro (fun _ => ?_) (fun z => by omega)
        refine step3 ?_
        refine step3 ?_
        refine step3 ?_
        refine step3 ?_
        refine step3 ?_
        refine step3 ?_
        refine step3 ?_
        refine step3 ?_
        rw [sh]
        refine And.intro rfl ?_
        refine Or.inl (c_newLength (by omega) (by omega) (by omega) (by omega) (by omega) (by omega) (fun r hr => ?_))
        refine step3 ?_
        refine step3 ?_
        refine step3 ?_
        refine step3 ?_
        refine And.intro ta ?_
        refine Exists.intro _ (And.intro e1' ?_)
        refine step3 ?_
        refine step3 ?_
        refine And.intro rfl ?_
        obtain ⟨l2, hl2, c2, lt2, le2⟩ := cap_next l1 llen hL hr
        clear hr
        subst hl2
        refine Or.inr ⟨mc, ms, by omega, by omega, c_copyOf te (by omega) (by omega) hmc (by omega) (by rw [W1.1]; exact hn) (by rw [W1.1]; exact ie) (fun x y x0 x1 hy => ?_) (fun p b b1 b2 b3 b4 b5 b6 => ?_)⟩
        · obtain ⟨u, hu⟩ : ∃ u, L[x.toNat]? = some u := by
            have : x.toNat < L.length := by omega
            exact ⟨_, List.getElem?_eq_getElem this⟩
          obtain ⟨w1, w2, w3⟩ := hv1 _ u hu
          rw [show ((x.toNat : Nat) : Int) = x by omega, hy] at w1
          cases w1
          exact ⟨w2, w3⟩
        have ab : a ≠ b := fun z => by rw [z] at ia; rw [W1.1] at b1; omega
        have b18 : a ≠ b := ab
        refine step3 ?_
        refine And.intro rfl ?_
        refine And.intro rfl ?_
        refine step3 ?_
        refine And.intro ta ?_
        refine wpP (fun p2 W2 g2 i2 => ?_)
        have ia1 : ix a < hN p1 := by rw [W1.1]; exact ia
        have eb : hP p2 b = hP p b := W2.2.2.1 b (fun z => ab z.symm)
        refine step3 ?_
        have b3' : ln b = l2 := by omega
        refine hΘ p2 b b2 ⟨by omega, by rw [b3']; exact c2⟩ ?_ (by rw [g2, if_pos rfl]) (fun k v hk => ?_) ((b5.up (by simp) (by simp)).w W2 (Or.inl List.mem_cons_self) aX) (by rw [b1]; exact Nat.le_refl _) (by rw [W2.1, b6, b1]; exact Nat.lt_succ_self _)
        · rw [i2, b5.2.1 a ia1 (by simp) aX]
          exact e2'
        · rw [eb, b4 k (by omega) (by
            have : k < L.length := by
              rcases Nat.lt_or_ge k L.length with z | z
              · exact z
              · rw [List.getElem?_eq_none z] at hk; cases hk
            omega)]
          exact hv1 k v hk
      refine e_J2_grow ?_
      intro k2 step2 keep2
      refine step2 ?_
      refine step2 ?_
      refine step2 ?_
      refine And.intro ta ?_
      refine Exists.intro _ (And.intro e2' ?_)
      refine step2 ?_
      refine step2 ?_
      refine step2 ?_
      refine And.intro ta2 ?_
      refine And.intro rfl ?_
      refine Or.inr ⟨mc, ms, by omega, by omega, grow _ (fun p el2 q1 q2 q3 q4 q5 q6 q7 q8 => ?_)⟩
      refine step2 ?_
      refine step ?_
      exact fin p el2 _ _ q1 q2 q3 q4 q5 q6 (Or.inr q7) q8
  refine inner _ (fun p el2 q1 q2 q3 q4 => ?_)
  refine step ?_
  refine step ?_
  refine And.intro ⟨by decide, by decide⟩ ?_
  have NN : NX [a, el] [] h p := (NX.rf.w W1 (Or.inl List.mem_cons_self) aX).tr q2
  exact K p el2 q1 NN (by rw [← W1.1]; exact q3) q4
