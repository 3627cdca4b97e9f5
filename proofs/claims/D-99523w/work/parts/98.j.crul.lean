-- NEEDS: 73 98
/-! THE COMPONENT: rules as things -/
theorem c_J0init {d : Nat} {h : AH} {Φ : OUT → AH → Prop} {a : Nat} (ta : tg a ≠ 10) (K : Φ (.inl none) h) : CT (d + 1) 0 0 J_J0_init [vo a] h Φ := by
  refine e_J0_init ?_; intro k step keep
  refine step ?_
  refine step ?_
  refine And.intro ta ?_
  refine And.intro rfl ?_
  refine step ?_
  exact K
theorem c_J9init {d : Nat} {h : AH} {Φ : OUT → AH → Prop} {a : Nat} (ta : tg a ≠ 10) (K : Φ (.inl none) h) : CT (d + 1) 0 0 J_J9_init [vo a] h Φ := by
  refine e_J9_init ?_; intro k step keep
  refine step ?_
  refine step ?_
  refine And.intro ta ?_
  refine And.intro rfl ?_
  refine step ?_
  exact K
theorem c_J1init {d : Nat} {h : AH} {Φ : OUT → AH → Prop} {a : Nat} (ta : tg a = 18) (K : ∀ p, WX a h p → hI p a 0 = 0 → (∀ m, m ≠ 0 → hI p a m = hI h a m) → (∀ m, hP p a m = hP h a m) → Φ (.inl none) p) : CT (d + 2) 0 0 J_J1_init [vo a] h Φ := by
  refine e_J1_init ?_; intro k step keep
  have tn : tg a ≠ 10 := by omega
  refine step ?_
  refine step ?_
  refine And.intro tn ?_
  refine And.intro rfl ?_
  refine Or.inl (c_J0init tn ?_)
  refine step ?_
  refine step ?_
  refine step ?_
  refine And.intro ta ?_
  refine wpI (fun q W e g => ?_)
  refine step ?_
  exact K q W (by rw [e]; exact if_pos rfl) (fun m hm => by rw [e]; exact if_neg hm) g
/-- a new list for two -/
theorem c_J2init {d : Nat} {h : AH} {Φ : OUT → AH → Prop} {mc ms a : Nat} (ta : tg a = 18) (ia : ix a < hN h) (hn : 307 ≤ hN h) (h2 : hI h a 2 = 0) (hmc : 1 ≤ mc) (hms : 2 ≤ ms) (K : ∀ p el, LST p a el [] → ix el = hN h → hN p = hN h + 1 → hI p a 0 = 0 → NX [a] [] h p → Φ (.inl none) p) : CT (d + 3) mc ms J_J2_init [vo a, vi 2] h Φ := by
  refine e_J2_init ?_; intro k step keep
  have tn : tg a ≠ 10 := by omega
  have aX : a ≠ X := fun z => by rw [z] at ta; revert ta; decide
  refine step ?_
  refine step ?_
  refine And.intro tn ?_
  refine And.intro rfl ?_
  refine Or.inl (c_J1init ta (fun p W z0 zi zp => ?_))
  refine step ?_
  refine step ?_
  refine And.intro (by omega) ?_
  refine And.intro (fun z => by omega) (fun _ => ?_)
  refine step ?_
  refine step ?_
  refine step ?_
  refine And.intro (by omega) ?_
  refine And.intro (by omega) ?_
  refine And.intro (by omega) ?_
  refine And.intro (by show 0 + (2 : Int).toNat ≤ ms; exact hms) ?_
  generalize eb : nwA p 4 (2 : Int).toNat = b
  generalize eq : nwH p 4 (2 : Int).toNat = q
  have wn : hN p = hN h := W.1
  obtain ⟨o1, o2, o3, o4, o5, o6, o7⟩ := nw_ok eb eq (by decide) (by decide) (by omega)
  have o3 : ln b = 2 := o3
  have ab : b ≠ a := fun z => by rw [z] at o1; omega
  refine step ?_
  refine And.intro ta ?_
  refine wpP (fun q2 W2 g2 i2 => ?_)
  refine step ?_
  refine step ?_
  have ia2 : ix a < hN p := by omega
  have N1 : NX [a] [] h p := NX.rf.w W (Or.inl List.mem_cons_self) aX
  refine K q2 b ⟨ta, ?_, by rw [g2, if_pos rfl], o2, ⟨by simp, by rw [o3]; unfold CAP; omega⟩, fun k v hv => by simp at hv⟩ (by omega) (by rw [W2.1]; omega) ?_ ((N1.tr (o7.up (by simp) (by simp))).w W2 (Or.inl List.mem_cons_self) aX)
  · rw [i2, o7.2.1 a ia2 (by simp) aX, zi 2 (by decide), h2]
    rfl
  · rw [i2, o7.2.1 a ia2 (by simp) aX, z0]
/-- a clause as a thing -/
def TLD (D : Int) (h : AH) (to : Nat) (q : FN × FN) : Prop := tg to = 28 ∧ (ix to < hN h ∧ DYS to) ∧ ∃ x, hP h to 0 = some x ∧ VAL D h x q.1 ∧ ((hP h to 1 = none ∧ ∀ w, q.2 w = 1) ∨ ∃ y, hP h to 1 = some y ∧ CND D h y q.2)
theorem TLD.go {D D2 : Int} {h p : AH} {to : Nat} {q : FN × FN} (H : TLD D h to q) (hD : D ≤ D2) (hn : hN h ≤ hN p) (O : OLD h p) : TLD D2 p to q := by
  obtain ⟨t, ⟨i, dy⟩, x, hx, V, C⟩ := H
  have eP : hP p to = hP h to := (O to dy (by omega) (by omega) i (Or.inr (by rw [hx]; simp))).2
  refine ⟨t, ⟨by omega, dy⟩, x, by rw [eP]; exact hx, V.go hD hn O, ?_⟩
  rcases C with ⟨c1, c2⟩ | ⟨y, c1, c2⟩
  · exact Or.inl ⟨by rw [eP]; exact c1, c2⟩
  · exact Or.inr ⟨y, by rw [eP]; exact c1, c2.go hD hn O⟩
theorem c_holds {dd : Nat} {D : Int} {h : AH} {Φ : OUT → AH → Prop} {to : Nat} {q : FN × FN} {w : Int → Int64} (H : TLD D h to q) (D0 : 0 ≤ D) (hd : D + 1 ≤ dd) (hw : WDS h w) (K : Φ (.inl (some (vi (if q.2 w = 1 then 1 else 0)))) h) : CT dd 0 0 J_X12_holds [vo to, vo xWO] h Φ := by
  obtain ⟨t, ⟨i, dy⟩, x, hx, V, C⟩ := H
  obtain ⟨d, rfl⟩ : ∃ d, dd = d + 1 := ⟨dd - 1, by omega⟩
  refine e_X12_holds ?_; intro k step keep
  refine step ?_
  refine step ?_
  refine And.intro t ?_
  rcases C with ⟨c1, c2⟩ | ⟨y, c1, c2⟩
  · rw [if_pos (c2 w)] at K
    refine Exists.intro _ (And.intro c1 ?_)
    refine step ?_
    repeat (first | refine wxA (by decide) ?_ | refine wxA (by intro z; have z := congrArg ix z; omega) ?_ | refine wxM ?_ | refine wxL ?_ | refine step ?_ | refine Exists.intro _ (And.intro (congrFun ((congrFun hR _).trans fX) _) ?_) | refine Exists.intro _ (And.intro (congrFun ((congrFun hR _).trans fs) _) ?_) | refine Exists.intro _ (And.intro (congrFun ((congrFun hR _).trans fk) _) ?_) | refine Exists.intro _ (And.intro ((congrFun (congrFun hR _) _).trans fH0) ?_) | refine Exists.intro _ (And.intro ((congrFun (congrFun hR _) _).trans fH1) ?_) | refine Exists.intro _ (And.intro ((congrFun (congrFun hR _) _).trans fH2) ?_) | refine Exists.intro _ (And.intro rfl ?_) | refine And.intro rfl ?_ | refine And.intro trivial ?_ | refine And.intro (by assumption) ?_ | (refine And.intro (by intro hz; exfalso; omega) ?_; intro hz9) | refine And.intro (by omega) ?_ | refine And.intro (by simp only [lnX_sIS, lnX_sCE, lnX_sFA, lnX_sFO, lnX_sLE, lnX_sPL, lnX_sBE, lnX_sLD, lnX_kIS, lnX_kCE, lnX_kFA, lnX_kFO, lnX_kLE, lnX_kPL, lnX_kBE, lnX_kLD, lnX_xTA, lnX_xNW, lnX_xNO, lnX_xNE, lnX_xWO, lnX_xPA, lnX_xST, lnX_xFH, lnX_xSH, lnX_xLA, lnX_xSW, lnX_xIM]; omega) ?_ | (refine And.intro ?_ (by intro hz; exfalso; omega); intro hz9))
    exact K
  · refine Exists.intro _ (And.intro c1 ?_)
    have ty : tg y ≠ 10 := by have := c2.1; omega
    refine step ?_
    refine And.intro ty ?_
    refine step ?_
    refine step ?_
    refine And.intro t ?_
    refine Exists.intro _ (And.intro c1 ?_)
    refine step ?_
    refine step ?_
    refine pick_cnd c2.1 (And.intro rfl (Or.inl (c2.2.2.2 d (by omega) h OLD.rf w _ hw ?_)))
    by_cases z : q.2 w = 1
    · rw [if_pos z] at K ⊢
      repeat (first | refine wxA (by decide) ?_ | refine wxA (by intro z; have z := congrArg ix z; omega) ?_ | refine wxM ?_ | refine wxL ?_ | refine step ?_ | refine Exists.intro _ (And.intro (congrFun ((congrFun hR _).trans fX) _) ?_) | refine Exists.intro _ (And.intro (congrFun ((congrFun hR _).trans fs) _) ?_) | refine Exists.intro _ (And.intro (congrFun ((congrFun hR _).trans fk) _) ?_) | refine Exists.intro _ (And.intro ((congrFun (congrFun hR _) _).trans fH0) ?_) | refine Exists.intro _ (And.intro ((congrFun (congrFun hR _) _).trans fH1) ?_) | refine Exists.intro _ (And.intro ((congrFun (congrFun hR _) _).trans fH2) ?_) | refine Exists.intro _ (And.intro rfl ?_) | refine And.intro rfl ?_ | refine And.intro trivial ?_ | refine And.intro (by assumption) ?_ | (refine And.intro (by intro hz; exfalso; omega) ?_; intro hz9) | refine And.intro (by omega) ?_ | refine And.intro (by simp only [lnX_sIS, lnX_sCE, lnX_sFA, lnX_sFO, lnX_sLE, lnX_sPL, lnX_sBE, lnX_sLD, lnX_kIS, lnX_kCE, lnX_kFA, lnX_kFO, lnX_kLE, lnX_kPL, lnX_kBE, lnX_kLD, lnX_xTA, lnX_xNW, lnX_xNO, lnX_xNE, lnX_xWO, lnX_xPA, lnX_xST, lnX_xFH, lnX_xSH, lnX_xLA, lnX_xSW, lnX_xIM]; omega) ?_ | (refine And.intro ?_ (by intro hz; exfalso; omega); intro hz9))
      exact K
    · rw [if_neg z] at K ⊢
      repeat (first | refine wxA (by decide) ?_ | refine wxA (by intro z; have z := congrArg ix z; omega) ?_ | refine wxM ?_ | refine wxL ?_ | refine step ?_ | refine Exists.intro _ (And.intro (congrFun ((congrFun hR _).trans fX) _) ?_) | refine Exists.intro _ (And.intro (congrFun ((congrFun hR _).trans fs) _) ?_) | refine Exists.intro _ (And.intro (congrFun ((congrFun hR _).trans fk) _) ?_) | refine Exists.intro _ (And.intro ((congrFun (congrFun hR _) _).trans fH0) ?_) | refine Exists.intro _ (And.intro ((congrFun (congrFun hR _) _).trans fH1) ?_) | refine Exists.intro _ (And.intro ((congrFun (congrFun hR _) _).trans fH2) ?_) | refine Exists.intro _ (And.intro rfl ?_) | refine And.intro rfl ?_ | refine And.intro trivial ?_ | refine And.intro (by assumption) ?_ | (refine And.intro (by intro hz; exfalso; omega) ?_; intro hz9) | refine And.intro (by omega) ?_ | refine And.intro (by simp only [lnX_sIS, lnX_sCE, lnX_sFA, lnX_sFO, lnX_sLE, lnX_sPL, lnX_sBE, lnX_sLD, lnX_kIS, lnX_kCE, lnX_kFA, lnX_kFO, lnX_kLE, lnX_kPL, lnX_kBE, lnX_kLD, lnX_xTA, lnX_xNW, lnX_xNO, lnX_xNE, lnX_xWO, lnX_xPA, lnX_xST, lnX_xFH, lnX_xSH, lnX_xLA, lnX_xSW, lnX_xIM]; omega) ?_ | (refine And.intro ?_ (by intro hz; exfalso; omega); intro hz9))
      exact K
/-- rule ru: its list li, array el, clauses L that compute acc -/
def RULE (h : AH) (ru li el : Nat) (L : List Nat) (acc : RLE) : Prop := (tg ru = 24 ∧ DYS ru ∧ ix ru < hN h) ∧ hP h ru 0 = some li ∧ (DYS li ∧ ix li < hN h) ∧ (DYS el ∧ ix el < hN h) ∧ LST h li el L ∧ L.length = acc.length ∧ ∀ (k : Nat) to q, L[k]? = some to → acc[k]? = some q → TLD 80 h to q
theorem RULE.go {h p : AH} {ru li el : Nat} {L : List Nat} {acc : RLE} (H : RULE h ru li el L acc) (hn : hN h ≤ hN p) (O : OLD h p) (er : hP p ru = hP h ru) (ei : hI p li = hI h li) (ep : hP p li = hP h li) (ee : hP p el = hP h el) : RULE p ru li el L acc := by
  obtain ⟨⟨a1, a2, a3⟩, a4, ⟨a5, a6⟩, ⟨a7, a8⟩, a9, b1, b2⟩ := H
  exact ⟨⟨a1, a2, by omega⟩, by rw [er]; exact a4, ⟨a5, by omega⟩, ⟨a7, by omega⟩, a9.of (by rw [ei]) (by rw [ep]) ee, b1, fun k to q h1 h2 => (b2 k to q h1 h2).go (Int.le_refl _) hn O⟩
theorem RULE.nx {A : List Nat} {B : List Int} {h p : AH} {ru li el : Nat} {L : List Nat} {acc : RLE} (H : RULE h ru li el L acc) (N : NX A B h p) (O : OLD h p) (n1 : ru ∉ A) (n2 : li ∉ A) (n3 : el ∉ A) : RULE p ru li el L acc :=
  H.go N.1 O (N.2.2.2.1 ru H.1.2.2 n1) (N.2.1 li H.2.2.1.2 n2 H.2.2.1.1.nX) (N.2.2.2.1 li H.2.2.1.2 n2) (N.2.2.2.1 el H.2.2.2.1.2 n3)
theorem OLD.fz {h p : AH} (F : FZ h p) : OLD h p := fun b d _ _ _ _ => ⟨F.2 b d, congrFun F.1 b⟩
set_option maxHeartbeats 1000000 in
theorem turns_of {d : Nat} {p : AH} {Ψ : OUT → AH → Prop} {ru li el : Nat} {L : List Nat} {acc : RLE} {w : Int → Int64} (H : RULE p ru li el L acc) (hL : acc.length ≤ 12) (hw : WDS p w) (K : Ψ (.inl (some (vi (l2I (ruF acc w &&& 3))))) p) : CT (d + 200) 0 0 J_X7_turns [vo ru, vo xWO] p Ψ := by
  obtain ⟨⟨a1, a2, a3⟩, a4, ⟨a5, a6⟩, ⟨a7, a8⟩, a9, b1, b2⟩ := H
  obtain ⟨tl, e2, e1, te, ⟨l0, l1⟩, hv⟩ := id a9
  have tp : ((tg li : Nat) : Int) = 18 := by omega
  have ap : arrP el = true := by unfold arrP; rw [te]; rfl
  have lb := CAP_b l1
  refine e_X7_turns ?_; intro k step keep
  have loop : ∀ (y x : Nat), x + y = acc.length → Ψ (.inl (some (vi (l2I (ruF (acc.drop x) w &&& 3))))) p → k 0 0 2 [(0, vo ru), (1, vo xWO), (2, vi x)] [] p := by
    intro y
    induction y with
    | zero =>
      intro x hx hΨ
      rw [List.drop_eq_nil_of_le (by omega), show l2I (ruF [] w &&& 3) = 0 from (by show l2I ((0 : Int64) &&& 3) = 0; decide)] at hΨ
      refine step ?_
      refine step ?_
      refine step ?_
      refine And.intro a1 ?_
      refine Exists.intro _ (And.intro a4 ?_)
      refine step ?_
      refine And.intro tp ?_
      refine And.intro rfl ?_
      refine Or.inl (c_size tl ?_)
      rw [e2]
      refine step ?_
      refine And.intro (by omega) ?_
      refine And.intro (by omega) ?_
      refine And.intro (fun _ => ?_) (fun z => by omega)
      refine step ?_
      refine step ?_
      refine And.intro trivial ?_
      exact hΨ
    | succ y ih =>
      intro x hx hΨ
      have hlt : x < acc.length := by omega
      have hltL : x < L.length := by omega
      have hq : acc[x]? = some acc[x] := List.getElem?_eq_getElem hlt
      have ht : L[x]? = some L[x] := List.getElem?_eq_getElem hltL
      have T := b2 x _ _ ht hq
      obtain ⟨v1, v2, v3⟩ := hv x _ ht
      rw [List.drop_eq_getElem_cons hlt] at hΨ
      generalize L[x] = to at *
      generalize acc[x] = q at *
      have tt := T.1
      have tt2 : ((tg to : Nat) : Int) = 28 := by omega
      have get : ∀ {d : Nat} {Θ : OUT → AH → Prop}, Θ (.inl (some (vo to))) p → CT (d + 3) 0 0 J_J2_get [vo li, vi x] p Θ := fun hΘ => c_get rfl tl e1 ap (by omega) (by omega) (by rw [e2]; omega) (by rw [e2]; omega) v1 hΘ
      refine step ?_
      refine step ?_
      refine step ?_
      refine And.intro a1 ?_
      refine Exists.intro _ (And.intro a4 ?_)
      refine step ?_
      refine And.intro tp ?_
      refine And.intro rfl ?_
      refine Or.inl (c_size tl ?_)
      rw [e2]
      refine step ?_
      refine And.intro (by omega) ?_
      refine And.intro (by omega) ?_
      refine And.intro (fun z => by omega) (fun _ => ?_)
      refine step ?_
      refine step ?_
      refine And.intro a1 ?_
      refine Exists.intro _ (And.intro a4 ?_)
      refine step ?_
      refine step ?_
      refine And.intro tp ?_
      refine And.intro rfl ?_
      refine Or.inl (get ?_)
      refine step ?_
      refine And.intro tt ?_
      refine step ?_
      refine step ?_
      refine And.intro tt2 ?_
      refine And.intro rfl ?_
      refine Or.inl (c_holds T (by omega) (by omega) hw ?_)
      by_cases hz : q.2 w = 1
      · rw [if_pos hz]
        rw [show ruF (q :: acc.drop (x + 1)) w = q.1 w from if_pos hz] at hΨ
        obtain ⟨t, ⟨i, dy⟩, u, hu, V, C⟩ := T
        refine step ?_
        refine And.intro (by omega) ?_
        refine And.intro (fun z => by omega) (fun _ => ?_)
        refine step ?_
        refine step ?_
        refine And.intro a1 ?_
        refine Exists.intro _ (And.intro a4 ?_)
        refine step ?_
        refine step ?_
        refine And.intro tp ?_
        refine And.intro rfl ?_
        refine Or.inl (get ?_)
        refine step ?_
        refine And.intro tt ?_
        refine step ?_
        refine And.intro tt ?_
        refine Exists.intro _ (And.intro hu ?_)
        refine step ?_
        refine step ?_
        refine pick_val V.1 (And.intro rfl (Or.inl (V.2.2 _ (by omega) p OLD.rf w _ hw ?_)))
        refine step ?_
        refine step ?_
        refine And.intro rfl ?_
        refine Or.inl (c_floorMod (fun z ez => ?_))
        refine step ?_
        refine step ?_
        refine And.intro trivial ?_
        rw [ez]
        exact hΨ
      · rw [if_neg hz]
        rw [show ruF (q :: acc.drop (x + 1)) w = ruF (acc.drop (x + 1)) w from if_neg hz] at hΨ
        refine step ?_
        refine And.intro (by omega) ?_
        refine And.intro (fun _ => ?_) (fun z => absurd rfl z)
        refine step ?_
        refine step ?_
        exact ih (x + 1) (by omega) hΨ
  refine step ?_
  refine step ?_
  exact loop acc.length 0 (by omega) K
