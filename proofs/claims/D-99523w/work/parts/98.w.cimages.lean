-- NEEDS: 71 75 82 87 88 98
/-! THE COMPONENT: image(), back() -/
theorem xIM_nX : xIM ≠ X := by decide
set_option maxHeartbeats 1000000 in
theorem x_image {d : Nat} {h : AH} {Φ : OUT → AH → Prop} {sh : Nat} {s : Int → Int} {k fo xx : Int} (h307 : 307 ≤ hN h) (fX : hP h X = XP sh) (fs : hP h sOB = SPs) (hS : RSs h s) (hIS : ∀ x, 0 ≤ x → x < 5 → iR (hI h sIS x)) (hX : NTX h s) (hNT : NT s) (hf : hI h X 4 = fo) (hx : hI h X 12 = xx) (kr : iR k) (hk : 0 ≤ k → k ≤ 3 → hP h xIM k = none ∨ ∃ I, hP h xIM k = some (imO I) ∧ IMS h I)
    (K0 : ¬ (0 ≤ k ∧ k ≤ 3) → Φ (.inl (some (vi (-1)))) h)
    (K1 : 0 ≤ k → k ≤ 3 → hP h xIM k = none → ∀ p, IMS p (hN h) → IMV p (hN h) sh s fo xx → (∀ m, hP p xIM m = if m = k then some (imO (hN h)) else hP h xIM m) → NX [xIM] [] h p → Φ (.inl (some (vi (s 10)))) p)
    (K2 : 0 ≤ k → k ≤ 3 → ∀ I, hP h xIM k = some (imO I) → ∀ p, IMS p I → IMV p I sh s fo xx → NX (IMA I) [] h p → Φ (.inl (some (vi (s 10)))) p) : CT (d + 4) 13 88 J_X0_image [vo X, vi k] h Φ := by
  have ka : ∀ {u : Int}, u = k → u = k := fun z => z
  refine e_X0_image ?_
  intro kk step keep
  have iX : ix X = 64 := rfl
  have iIM : ix xIM = 282 := by decide
  have lIM : ((ln xIM : Nat) : Int) = 4 := rfl
  have f24 : ∀ q, hP q X = XP sh → hP q X 24 = some xIM := fun q hq => by rw [hq]; rfl
  have f1 : ∀ q, hP q X = XP sh → hP q X 1 = some sOB := fun q hq => by rw [hq]; rfl
  repeat (first | refine wxA (by decide) ?_ | refine wxA (by intro z; have z := congrArg ix z; omega) ?_ | refine wxM ?_ | refine wxL ?_ | refine step ?_ | refine Exists.intro _ (And.intro (congrFun ((congrFun hR _).trans fX) _) ?_) | refine Exists.intro _ (And.intro (congrFun ((congrFun hR _).trans fs) _) ?_) | refine Exists.intro _ (And.intro (congrFun ((congrFun hR _).trans fk) _) ?_) | refine Exists.intro _ (And.intro ((congrFun (congrFun hR _) _).trans fH0) ?_) | refine Exists.intro _ (And.intro ((congrFun (congrFun hR _) _).trans fH1) ?_) | refine Exists.intro _ (And.intro ((congrFun (congrFun hR _) _).trans fH2) ?_) | refine Exists.intro _ (And.intro rfl ?_) | refine And.intro rfl ?_ | refine And.intro trivial ?_ | refine And.intro (by assumption) ?_ | (refine And.intro (by intro hz; exfalso; omega) ?_; intro hz9) | refine And.intro (by omega) ?_ | refine And.intro (by simp only [lnX_sIS, lnX_sCE, lnX_sFA, lnX_sFO, lnX_sLE, lnX_sPL, lnX_sBE, lnX_sLD, lnX_kIS, lnX_kCE, lnX_kFA, lnX_kFO, lnX_kLE, lnX_kPL, lnX_kBE, lnX_kLD, lnX_xTA, lnX_xNW, lnX_xNO, lnX_xNE, lnX_xWO, lnX_xPA, lnX_xST, lnX_xFH, lnX_xSH, lnX_xLA, lnX_xSW, lnX_xIM]; omega) ?_ | (refine And.intro ?_ (by intro hz; exfalso; omega); intro hz9))
  refine Or.inl (c_in kr (by omega) (by omega) (fun r hr => ?_))
  refine step ?_
  refine And.intro (by omega) ?_
  refine And.intro (fun z => ?_) (fun z => ?_)
  · have hk03 : 0 ≤ k ∧ k ≤ 3 := by omega
    -- the end
    have fin : ∀ p, hP p X = XP sh → hI p sOB 8 = s 10 → Φ (.inl (some (vi (s 10)))) p → ∀ cu su, kk cu su 46 [(0, vo X), (1, vi k)] [] p := by
      intro p hpX hs10 hΦ cu su
      refine step ?_
      refine step ?_
      refine And.intro rfl ?_
      refine Exists.intro _ (And.intro (f1 p hpX) ?_)
      refine step ?_
      refine And.intro rfl ?_
      refine Exists.intro _ (And.intro hs10 ?_)
      refine step ?_
      refine And.intro trivial ?_
      exact hΦ
    have kp : ∀ (p : AH) (I : Nat), hP p xIM k = some (imO I) → IMS p I → hP p X = XP sh → hP p sOB = SPs → RSs p s → (∀ x, 0 ≤ x → x < 5 → iR (hI p sIS x)) → NTX p s → hI p X 4 = fo → hI p X 12 = xx → (∀ q, IMS q I → IMV q I sh s fo xx → NX (IMA I) [] p q → Φ (.inl (some (vi (s 10)))) q) → ∀ cu su, kk cu su 37 [(0, vo X), (1, vi k)] [] p := by
      intro p I e HS hpX hps hS hIS hX hf hx hΦ cu su
      have io := imO_ok I
      have tio : ((tg (imO I) : Nat) : Int) = 32 := by omega
      refine step ?_
      refine step ?_
      refine And.intro rfl ?_
      refine Exists.intro _ (And.intro (f24 p hpX) ?_)
      refine step ?_
      refine step ?_
      refine And.intro rfl ?_
      refine And.intro hk03.1 ?_
      refine And.intro (by rw [lIM]; omega) ?_
      refine Exists.intro _ (And.intro e ?_)
      refine step ?_
      refine And.intro tio ?_
      refine And.intro rfl ?_
      refine Or.inl (c_keepI HS hpX hps hS hIS hX hNT hf hx (fun q q1 q2 q3 => ?_))
      have inI := IMA_in I
      have i307 := HS.1.1
      have i13 := HS.1.2
      have hpX2 : hP q X = XP sh := by rw [q3.2.2.2.1 X (by omega) (fun z => by have := inI _ z; omega)]; exact hpX
      have isO : ix sOB = 70 := rfl
      exact fin q hpX2 (by rw [q3.2.1 sOB (by omega) (fun z => by have := inI _ z; omega) (by decide)]; exact hS.2.2.1) (hΦ q q1 q2 q3) _ _
    refine step ?_
    refine step ?_
    refine And.intro rfl ?_
    refine Exists.intro _ (And.intro (f24 h fX) ?_)
    refine step ?_
    refine step ?_
    refine And.intro rfl ?_
    refine And.intro hk03.1 ?_
    refine And.intro (by rw [lIM]; omega) ?_
    rcases hk hk03.1 hk03.2 with e | ⟨I, e, HS⟩
    · refine Exists.intro _ (And.intro e ?_)
      refine step ?_
      refine step ?_
      refine step ?_
      refine And.intro rfl ?_
      refine Exists.intro _ (And.intro (f24 h fX) ?_)
      refine step ?_
      refine step ?_
      refine And.intro rfl ?_
      refine And.intro (by omega) ?_
      refine And.intro (by omega) ?_
      generalize ea : nwA h 32 0 = a
      generalize eq : nwH h 32 0 = q
      obtain ⟨o1, o2, o3, o4, o5, o6⟩ := nw_65 ea eq (by decide) (by decide) (by omega)
      have ea2 : a = imO (hN h) := o1
      rw [ea2] at o3 o4 o5
      rw [ea2]
      have io := imO_ok (hN h)
      have tio : tg (imO (hN h)) ≠ 10 := by omega
      refine step ?_
      refine step ?_
      refine step ?_
      refine And.intro tio ?_
      refine And.intro rfl ?_
      refine Or.inr ⟨12, 79, by omega, by omega, c_X17init o2 h307 o4 (Nat.le_refl _) (Nat.le_refl _) (fun p q1 q2 q3 => ?_)⟩
      have N2 : NX [] [] h p := o6.new q3 (fun a ha => Or.inr (by rw [List.mem_singleton.mp ha]; omega)) (by simp)
      refine step ?_
      refine And.intro (Or.inr (Or.inr ⟨rfl, io.2⟩)) ?_
      refine And.intro hk03.1 ?_
      refine And.intro (by rw [lIM]; omega) ?_
      refine wpP (fun p3 W3 g3 i3 => ?_)
      have N3 : NX [xIM] [] h p3 := (N2.up (by simp) (by simp)).w W3 (Or.inl (by simp)) xIM_nX
      have n23 : NX [xIM] [] p p3 := NX.rf.w W3 (Or.inl (by simp)) xIM_nX
      have S3 : IMS p3 (hN h) := q1.nx n23 (fun a ha => Or.inl (by rw [List.mem_singleton.mp ha]; omega))
      have xn : xIM ∉ ([] : List Nat) := by simp
      refine kp p3 (hN h) (by rw [g3 k, if_pos rfl]) S3 (by rw [N3.2.2.2.1 X (by omega) (by decide)]; exact fX) (by rw [N3.2.2.2.1 sOB (by have : ix sOB = 70 := rfl; omega) (by decide)]; exact fs) (RSA_nx (s := s) hS OKA_s (by omega) (by omega) N3 (fun a ha => Or.inr (by rw [List.mem_singleton.mp ha]; omega))) (by rw [N3.2.1 sIS (by have : ix sIS = 71 := rfl; omega) (by decide) (by decide)]; exact hIS) ?_ (by rw [N3.2.2.1 4 (by simp)]; exact hf) (by rw [N3.2.2.1 12 (by simp)]; exact hx) (fun u u1 u2 u3 => ?_) _ _
      · have nx : ∀ b, ix b < 282 → b ≠ X → hI p3 b = hI h b := fun b hb bX => N3.2.1 b (by omega) (fun z => by rw [List.mem_singleton.mp z] at hb; omega) bX
        refine ⟨by rw [N3.2.2.1 11 (by simp)]; exact hX.1, fun i i0 i1 => ?_⟩
        rw [nx xNW (by decide) (by decide), nx xNO (by decide) (by decide), nx xNE (by decide) (by decide)]
        exact hX.2 i i0 i1
      · have inI := IMA_in (hN h)
        refine K1 hk03.1 hk03.2 e u u1 u2 (fun m => ?_) (N3.cut u3 (fun a ha => Or.inr (inI a ha).1))
        have hn3 := N3.1
        rw [u3.2.2.2.1 xIM (by omega) (fun z => by have := inI _ z; omega), g3 m, N2.2.2.2.1 xIM (by omega) xn]
    · have io := imO_ok I
      have tio : tg (imO I) ≠ 10 := by omega
      refine Exists.intro _ (And.intro e ?_)
      refine step ?_
      refine And.intro tio ?_
      exact kp h I e HS fX fs hS hIS hX hf hx (fun q q1 q2 q3 => K2 hk03.1 hk03.2 I e q q1 q2 q3) _ _
  · refine step ?_
    refine step ?_
    refine And.intro trivial ?_
    exact K0 (by omega)
set_option maxHeartbeats 1000000 in
theorem x_back {d : Nat} {h : AH} {Φ : OUT → AH → Prop} {sh : Nat} {k : Int} (fX : hP h X = XP sh) (fs : hP h sOB = SPs) (kr : iR k) (hk : 0 ≤ k → k ≤ 3 → hP h xIM k = none ∨ ∃ I sh2 t fo xx, hP h xIM k = some (imO I) ∧ IMS h I ∧ IMV h I sh2 t fo xx ∧ 0 ≤ t 175 ∧ t 175 ≤ 10)
    (K0 : ¬ (0 ≤ k ∧ k ≤ 3) ∨ hP h xIM k = none → Φ (.inl (some (vi (-1)))) h)
    (K : 0 ≤ k → k ≤ 3 → ∀ I sh2 t fo xx, hP h xIM k = some (imO I) → IMS h I → IMV h I sh2 t fo xx → ∀ p, hP p X = XP sh2 → RSs p t → NTX p t → hI p X 4 = fo → hI p X 12 = xx → hI p X 15 = 0 → (∀ x, 0 ≤ x → x < 5 → iR (hI p sIS x)) → NX BKA [4, 11, 12, 15] h p → Φ (.inl (some (vi (t 10)))) p) : CT (d + 4) 0 0 J_X0_back [vo X, vi k] h Φ := by
  refine e_X0_back ?_
  intro kk step keep
  have lIM : ((ln xIM : Nat) : Int) = 4 := rfl
  have f24 : hP h X 24 = some xIM := by rw [fX]; rfl
  repeat (first | refine wxA (by decide) ?_ | refine wxA (by intro z; have z := congrArg ix z; omega) ?_ | refine wxM ?_ | refine wxL ?_ | refine step ?_ | refine Exists.intro _ (And.intro (congrFun ((congrFun hR _).trans fX) _) ?_) | refine Exists.intro _ (And.intro (congrFun ((congrFun hR _).trans fs) _) ?_) | refine Exists.intro _ (And.intro (congrFun ((congrFun hR _).trans fk) _) ?_) | refine Exists.intro _ (And.intro ((congrFun (congrFun hR _) _).trans fH0) ?_) | refine Exists.intro _ (And.intro ((congrFun (congrFun hR _) _).trans fH1) ?_) | refine Exists.intro _ (And.intro ((congrFun (congrFun hR _) _).trans fH2) ?_) | refine Exists.intro _ (And.intro rfl ?_) | refine And.intro rfl ?_ | refine And.intro trivial ?_ | refine And.intro (by assumption) ?_ | (refine And.intro (by intro hz; exfalso; omega) ?_; intro hz9) | refine And.intro (by omega) ?_ | refine And.intro (by simp only [lnX_sIS, lnX_sCE, lnX_sFA, lnX_sFO, lnX_sLE, lnX_sPL, lnX_sBE, lnX_sLD, lnX_kIS, lnX_kCE, lnX_kFA, lnX_kFO, lnX_kLE, lnX_kPL, lnX_kBE, lnX_kLD, lnX_xTA, lnX_xNW, lnX_xNO, lnX_xNE, lnX_xWO, lnX_xPA, lnX_xST, lnX_xFH, lnX_xSH, lnX_xLA, lnX_xSW, lnX_xIM]; omega) ?_ | (refine And.intro ?_ (by intro hz; exfalso; omega); intro hz9))
  refine Or.inl (c_in kr (by omega) (by omega) (fun r hr => ?_))
  refine step ?_
  refine And.intro (by omega) ?_
  refine And.intro (fun z => ?_) (fun z => ?_)
  · refine step ?_
    refine step ?_
    refine And.intro trivial ?_
    exact K0 (Or.inl (by omega))
  · have hk03 : 0 ≤ k ∧ k ≤ 3 := by omega
    refine step ?_
    refine step ?_
    refine And.intro rfl ?_
    refine Exists.intro _ (And.intro f24 ?_)
    refine step ?_
    refine step ?_
    refine And.intro rfl ?_
    refine And.intro hk03.1 ?_
    refine And.intro (by rw [lIM]; omega) ?_
    rcases hk hk03.1 hk03.2 with e | ⟨I, sh2, t, fo, xx, e, HS, HV, ht⟩
    · refine Exists.intro _ (And.intro e ?_)
      refine step ?_
      refine step ?_
      refine step ?_
      refine And.intro trivial ?_
      exact K0 (Or.inr e)
    · have io := imO_ok I
      have tn : tg (imO I) ≠ 10 := by omega
      have tio : ((tg (imO I) : Nat) : Int) = 32 := by omega
      refine Exists.intro _ (And.intro e ?_)
      refine step ?_
      refine And.intro tn ?_
      refine step ?_
      refine step ?_
      refine And.intro rfl ?_
      refine Exists.intro _ (And.intro f24 ?_)
      refine step ?_
      refine step ?_
      refine And.intro rfl ?_
      refine And.intro hk03.1 ?_
      refine And.intro (by rw [lIM]; omega) ?_
      refine Exists.intro _ (And.intro e ?_)
      refine step ?_
      refine And.intro tio ?_
      refine And.intro rfl ?_
      refine Or.inl (c_backI HS HV fX fs ht (fun p p1 p2 p3 p4 p5 p6 p6b p7 => ?_))
      have x1 : hP p X 1 = some sOB := by rw [p1]; rfl
      refine step ?_
      refine step ?_
      refine And.intro rfl ?_
      refine Exists.intro _ (And.intro x1 ?_)
      refine step ?_
      refine And.intro rfl ?_
      refine Exists.intro _ (And.intro p2.2.2.1 ?_)
      refine step ?_
      refine And.intro trivial ?_
      exact K hk03.1 hk03.2 I sh2 t fo xx e HS HV p p1 p2 p3 p4 p5 p6 p6b p7
