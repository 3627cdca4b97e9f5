-- NEEDS: 98
/-! THE COMPONENT'S READER: counted, deeper, words, values -/
theorem wxF {P : AH → Prop} {h : AH} {pa : Nat} {k v : Int} (dpa : DYS pa) (H : ∀ p, hI p pa k = v → (∀ m, m ≠ k → hI p pa m = hI h pa m) → TX [pa] [] h p → P p) : P (sI h pa k v) := by
  refine wxA dpa.nX (fun p e T => ?_)
  exact H p (by rw [e]; exact if_pos rfl) (fun m hm => by rw [e]; exact if_neg hm) T
theorem DYS.n64 {a : Nat} (h : DYS a) : ∀ b ∈ [a], 64 ≤ ix b := fun b hb => by
  rw [List.mem_singleton.mp hb]
  omega
/-- only pa's numbers change: PY with the new ones -/
theorem PY.tx {sh pa : Nat} {h p : AH} {T : Int → Int} {n i m dp c w j m2 dp2 c2 : Int} (H : PY sh pa h T n i m dp c w) (X1 : TX [pa] [] h p) (e1 : hI p pa 1 = j) (j0 : 0 ≤ j) (j1 : j ≤ n) (e3 : hI p pa 3 = m2) (m0 : 0 ≤ m2) (m1 : m2 ≤ 60) (e2 : hI p pa 2 = dp2) (d0 : 0 ≤ dp2) (d1 : dp2 ≤ 10) (e4 : hI p pa 4 = c2) (c0 : 0 ≤ c2) (c1 : c2 ≤ 40) (e5 : hI p pa 5 = w) : PY sh pa p T n j m2 dp2 c2 w := by
  obtain ⟨-, nT, -⟩ := pa_facts H
  obtain ⟨⟨-, b2, b3, b4, b5, b6, b7, b8, b9, f1, f2⟩, a2, a3, ⟨-, -, -, -, w0, w1⟩, a5, ⟨a6, a7⟩, a8⟩ := H
  have eN : hN p = hN h := congrArg (fun z => z.1) X1.1
  have eP : hP p = hP h := X1.2.1
  exact ⟨⟨rfl, by rw [eP]; exact b2, b3, by rw [eP]; exact b4, b5, by rw [X1.i (fun z => nT (List.mem_singleton.mp z).symm) (by decide)]; exact b6, by rw [X1.f (by decide)]; exact b7, e1, ⟨j0, j1⟩, f1, f2⟩, ⟨e3, m0, m1⟩, ⟨e2, d0, d1⟩, ⟨e4, e5, c0, c1, w0, w1⟩, by rw [eP]; exact a5, ⟨by rw [eN]; exact a6, by rw [eN]; exact a7⟩, a8.nx (NX.of X1) (by omega) b5.n64⟩
theorem cp_counts {d : Nat} {h : AH} {Φ : OUT → AH → Prop} {sh pa : Nat} {T : Int → Int} {n i m dp c w a : Int} (H : PY sh pa h T n i m dp c w)
    (K0 : m = 60 → ∀ p, hI p xWR 0 = 1 + 8 * a + 3 → TX [pa, xWR] [] h p → Φ (.inr xWR) p)
    (K : m < 60 → ∀ p, PY sh pa p T n i (m + 1) dp c w → TX [pa] [] h p → Φ (.inl none) p) : CT (d + 2) 0 0 J_X5_counts [vo pa, vi a] h Φ := by
  refine e_X5_counts ?_; intro k step keep
  obtain ⟨⟨-, fX, tpa, fH0, dpa, -, -, q1, ⟨i0, i1⟩, -, -⟩, ⟨m0, m1, m2⟩, ⟨q2, d0, d1⟩, ⟨q4, q5, c0, c1, w0, w1⟩, -, -, -⟩ := id H
  have hR : hP h = hP h := rfl
  have tp : ((tg pa : Nat) : Int) = 22 := by omega
  repeat (first | refine wxA (by decide) ?_ | refine wxA (by intro z; have z := congrArg ix z; omega) ?_ | refine wxM ?_ | refine wxL ?_ | refine step ?_ | refine Exists.intro _ (And.intro (congrFun ((congrFun hR _).trans fX) _) ?_) | refine Exists.intro _ (And.intro (congrFun ((congrFun hR _).trans fs) _) ?_) | refine Exists.intro _ (And.intro (congrFun ((congrFun hR _).trans fk) _) ?_) | refine Exists.intro _ (And.intro ((congrFun (congrFun hR _) _).trans fH0) ?_) | refine Exists.intro _ (And.intro ((congrFun (congrFun hR _) _).trans fH1) ?_) | refine Exists.intro _ (And.intro ((congrFun (congrFun hR _) _).trans fH2) ?_) | refine Exists.intro _ (And.intro rfl ?_) | refine And.intro rfl ?_ | refine And.intro trivial ?_ | refine And.intro (by assumption) ?_ | (refine And.intro (by intro hz; exfalso; omega) ?_; intro hz9) | refine And.intro (by omega) ?_ | refine And.intro (by simp only [lnX_sIS, lnX_sCE, lnX_sFA, lnX_sFO, lnX_sLE, lnX_sPL, lnX_sBE, lnX_sLD, lnX_kIS, lnX_kCE, lnX_kFA, lnX_kFO, lnX_kLE, lnX_kPL, lnX_kBE, lnX_kLD, lnX_xTA, lnX_xNW, lnX_xNO, lnX_xNE, lnX_xWO, lnX_xPA, lnX_xST, lnX_xFH, lnX_xSH, lnX_xLA, lnX_xSW, lnX_xIM]; omega) ?_ | (refine And.intro ?_ (by intro hz; exfalso; omega); intro hz9))
  refine And.intro (fun hc => ?_) (fun hc => ?_)
  · refine step ?_
    refine step ?_
    refine step ?_
    refine And.intro tpa ?_
    refine Exists.intro _ (And.intro rfl ?_)
    refine step ?_
    refine step ?_
    refine step ?_
    refine And.intro tpa ?_
    refine wxF dpa (fun p e3 ne T1 => ?_)
    rw [m0] at e3
    refine step ?_
    exact K (by omega) p (H.tx T1 (by rw [ne 1 (by omega)]; exact q1) i0 i1 e3 (by omega) (by omega) (by rw [ne 2 (by omega)]; exact q2) d0 d1 (by rw [ne 4 (by omega)]; exact q4) c0 c1 (by rw [ne 5 (by omega)]; exact q5)) T1
  · repeat (first | refine wxA (by decide) ?_ | refine wxA (by intro z; have z := congrArg ix z; omega) ?_ | refine wxM ?_ | refine wxL ?_ | refine step ?_ | refine Exists.intro _ (And.intro (congrFun ((congrFun hR _).trans fX) _) ?_) | refine Exists.intro _ (And.intro (congrFun ((congrFun hR _).trans fs) _) ?_) | refine Exists.intro _ (And.intro (congrFun ((congrFun hR _).trans fk) _) ?_) | refine Exists.intro _ (And.intro ((congrFun (congrFun hR _) _).trans fH0) ?_) | refine Exists.intro _ (And.intro ((congrFun (congrFun hR _) _).trans fH1) ?_) | refine Exists.intro _ (And.intro ((congrFun (congrFun hR _) _).trans fH2) ?_) | refine Exists.intro _ (And.intro rfl ?_) | refine And.intro rfl ?_ | refine And.intro trivial ?_ | refine And.intro (by assumption) ?_ | (refine And.intro (by intro hz; exfalso; omega) ?_; intro hz9) | refine And.intro (by omega) ?_ | refine And.intro (by simp only [lnX_sIS, lnX_sCE, lnX_sFA, lnX_sFO, lnX_sLE, lnX_sPL, lnX_sBE, lnX_sLD, lnX_kIS, lnX_kCE, lnX_kFA, lnX_kFO, lnX_kLE, lnX_kPL, lnX_kBE, lnX_kLD, lnX_xTA, lnX_xNW, lnX_xNO, lnX_xNE, lnX_xWO, lnX_xPA, lnX_xST, lnX_xFH, lnX_xSH, lnX_xLA, lnX_xSW, lnX_xIM]; omega) ?_ | (refine And.intro ?_ (by intro hz; exfalso; omega); intro hz9))
    refine Or.inl (cp_fails rfl fX (fun p3 hR3 e3 T3 => ?_))
    refine step ?_
    exact ⟨rfl, K0 (by omega) p3 e3 (T3.up (by intro a ha; rw [List.mem_singleton.mp ha]; simp) (by decide))⟩
theorem cp_goesDeeper {d : Nat} {h : AH} {Φ : OUT → AH → Prop} {sh pa : Nat} {T : Int → Int} {n i m dp c w a : Int} (H : PY sh pa h T n i m dp c w)
    (K0 : dp = 10 → ∀ p, hI p xWR 0 = 1 + 8 * a + 2 → TX [pa, xWR] [] h p → Φ (.inr xWR) p)
    (K : dp < 10 → ∀ p, PY sh pa p T n i m (dp + 1) c w → TX [pa] [] h p → Φ (.inl none) p) : CT (d + 2) 0 0 J_X5_goesDeeper [vo pa, vi a] h Φ := by
  refine e_X5_goesDeeper ?_; intro k step keep
  obtain ⟨⟨-, fX, tpa, fH0, dpa, -, -, q1, ⟨i0, i1⟩, -, -⟩, ⟨m0, m1, m2⟩, ⟨q2, d0, d1⟩, ⟨q4, q5, c0, c1, w0, w1⟩, -, -, -⟩ := id H
  have hR : hP h = hP h := rfl
  have tp : ((tg pa : Nat) : Int) = 22 := by omega
  repeat (first | refine wxA (by decide) ?_ | refine wxA (by intro z; have z := congrArg ix z; omega) ?_ | refine wxM ?_ | refine wxL ?_ | refine step ?_ | refine Exists.intro _ (And.intro (congrFun ((congrFun hR _).trans fX) _) ?_) | refine Exists.intro _ (And.intro (congrFun ((congrFun hR _).trans fs) _) ?_) | refine Exists.intro _ (And.intro (congrFun ((congrFun hR _).trans fk) _) ?_) | refine Exists.intro _ (And.intro ((congrFun (congrFun hR _) _).trans fH0) ?_) | refine Exists.intro _ (And.intro ((congrFun (congrFun hR _) _).trans fH1) ?_) | refine Exists.intro _ (And.intro ((congrFun (congrFun hR _) _).trans fH2) ?_) | refine Exists.intro _ (And.intro rfl ?_) | refine And.intro rfl ?_ | refine And.intro trivial ?_ | refine And.intro (by assumption) ?_ | (refine And.intro (by intro hz; exfalso; omega) ?_; intro hz9) | refine And.intro (by omega) ?_ | refine And.intro (by simp only [lnX_sIS, lnX_sCE, lnX_sFA, lnX_sFO, lnX_sLE, lnX_sPL, lnX_sBE, lnX_sLD, lnX_kIS, lnX_kCE, lnX_kFA, lnX_kFO, lnX_kLE, lnX_kPL, lnX_kBE, lnX_kLD, lnX_xTA, lnX_xNW, lnX_xNO, lnX_xNE, lnX_xWO, lnX_xPA, lnX_xST, lnX_xFH, lnX_xSH, lnX_xLA, lnX_xSW, lnX_xIM]; omega) ?_ | (refine And.intro ?_ (by intro hz; exfalso; omega); intro hz9))
  refine And.intro (fun hc => ?_) (fun hc => ?_)
  · refine step ?_
    refine step ?_
    refine step ?_
    refine And.intro tpa ?_
    refine Exists.intro _ (And.intro rfl ?_)
    refine step ?_
    refine step ?_
    refine step ?_
    refine And.intro tpa ?_
    refine wxF dpa (fun p e3 ne T1 => ?_)
    rw [q2] at e3
    refine step ?_
    exact K (by omega) p (H.tx T1 (by rw [ne 1 (by omega)]; exact q1) i0 i1 (by rw [ne 3 (by omega)]; exact m0) m1 m2 e3 (by omega) (by omega) (by rw [ne 4 (by omega)]; exact q4) c0 c1 (by rw [ne 5 (by omega)]; exact q5)) T1
  · repeat (first | refine wxA (by decide) ?_ | refine wxA (by intro z; have z := congrArg ix z; omega) ?_ | refine wxM ?_ | refine wxL ?_ | refine step ?_ | refine Exists.intro _ (And.intro (congrFun ((congrFun hR _).trans fX) _) ?_) | refine Exists.intro _ (And.intro (congrFun ((congrFun hR _).trans fs) _) ?_) | refine Exists.intro _ (And.intro (congrFun ((congrFun hR _).trans fk) _) ?_) | refine Exists.intro _ (And.intro ((congrFun (congrFun hR _) _).trans fH0) ?_) | refine Exists.intro _ (And.intro ((congrFun (congrFun hR _) _).trans fH1) ?_) | refine Exists.intro _ (And.intro ((congrFun (congrFun hR _) _).trans fH2) ?_) | refine Exists.intro _ (And.intro rfl ?_) | refine And.intro rfl ?_ | refine And.intro trivial ?_ | refine And.intro (by assumption) ?_ | (refine And.intro (by intro hz; exfalso; omega) ?_; intro hz9) | refine And.intro (by omega) ?_ | refine And.intro (by simp only [lnX_sIS, lnX_sCE, lnX_sFA, lnX_sFO, lnX_sLE, lnX_sPL, lnX_sBE, lnX_sLD, lnX_kIS, lnX_kCE, lnX_kFA, lnX_kFO, lnX_kLE, lnX_kPL, lnX_kBE, lnX_kLD, lnX_xTA, lnX_xNW, lnX_xNO, lnX_xNE, lnX_xWO, lnX_xPA, lnX_xST, lnX_xFH, lnX_xSH, lnX_xLA, lnX_xSW, lnX_xIM]; omega) ?_ | (refine And.intro ?_ (by intro hz; exfalso; omega); intro hz9))
    refine Or.inl (cp_fails rfl fX (fun p3 hR3 e3 T3 => ?_))
    refine step ?_
    exact ⟨rfl, K0 (by omega) p3 e3 (T3.up (by intro a ha; rw [List.mem_singleton.mp ha]; simp) (by decide))⟩
/-- whether text k stands here -/
theorem cp_isW {d : Nat} {h : AH} {Φ : OUT → AH → Prop} {sh pa k : Nat} {T : Int → Int} {n i m dp c w : Int} (H : PY sh pa h T n i m dp c w) (hk : k < 18)
    (K : ∀ p r, (r = 1 ∧ wdB T n (skp T n i) (txN k) = true ∧ lep T n (skp T n i) - skp T n i = txL k) ∨ (r = 0 ∧ ¬ wdB T n (skp T n i) (txN k) = true) → PY sh pa p T n (skp T n i) m dp c w → PF pa h p → Φ (.inl (some (vi r))) p) : CT (d + 5) 0 0 J_X5_isWord [vo pa, vo (extAd (4 + 2 * k))] h Φ := by
  have i1 := H.1.2.2.2.2.2.2.2.2.1
  have sk := skp_ok (T := T) i1.2
  have a := (tx_all ⟨k, hk⟩).2
  have a7 : 1 ≤ txL k ∧ txL k ≤ 7 := a.1
  have d64 : ∀ a ∈ [pa], 64 ≤ ix a := fun a ha => by
    rw [List.mem_singleton.mp ha]
    have := H.1.2.2.2.2.1
    omega
  have wd := wd_ws (T := T) (n := n) (j := skp T n i) (L := txL k) (W := txW k) sk.2 a7.1 a7.2 (fun x x0 x1 => by
    have := a.2 ⟨x.toNat, by omega⟩ (by show ((x.toNat : Nat) : Int) < txL k; omega)
    rw [show (((⟨x.toNat, by omega⟩ : Fin 7).val : Nat) : Int) = x by simp; omega] at this
    exact this)
  refine cp_isWord (W := txW k) (L := txL k) (bs := extAd (5 + 2 * k)) H.1 (fun p F => ?_) (fun p r hr Hp F => K p r ?_ (H.pf F Hp) F)
  · have s := STR_of (H.2.2.2.2.2.2.nx F.nx (by have := H.2.2.2.2.2.1.2; omega) d64) hk
    rw [F.1.2.1] at s
    exact s
  · rcases hr with ⟨z, y⟩ | ⟨z, y⟩
    · exact Or.inl ⟨z, wdB_iff.mpr (wd.mpr y), y.1⟩
    · exact Or.inr ⟨z, fun x => y (wd.mp (wdB_iff.mp x))⟩
theorem len_of {d : Nat} {h : AH} {Φ : OUT → AH → Prop} {k : Nat} (H : EXT h) (hk : k < 18) (K : Φ (.inl (some (vi (txL k)))) h) : CT (d + 2) 0 0 J_J5_length [vo (extAd (4 + 2 * k))] h Φ := c_length rfl (STR_of H hk) K
theorem tx_tg {k : Nat} (hk : k < 18) : tg (extAd (4 + 2 * k)) = 33 := (tx_all ⟨k, hk⟩).1.2.2.1
theorem cp_takes {d : Nat} {h : AH} {Φ : OUT → AH → Prop} {sh pa u : Nat} {T : Int → Int} {n i m dp c w : Int} (H : PY sh pa h T n i m dp c w) (hk : u < 18)
    (K0 : ¬ wdB T n (skp T n i) (txN u) = true → ∀ p, PY sh pa p T n (skp T n i) m dp c w → TX [pa] [] h p → Φ (.inl (some (vi 0))) p)
    (K : wdB T n (skp T n i) (txN u) = true → ∀ p, PY sh pa p T n (lep T n (skp T n i)) m dp c w → TX [pa] [] h p → Φ (.inl (some (vi 1))) p) : CT (d + 6) 0 0 J_X5_takes [vo pa, vo (extAd (4 + 2 * u))] h Φ := by
  refine e_X5_takes ?_; intro k step keep
  have tpa := H.1.2.2.1
  have tp : ((tg pa : Nat) : Int) = 22 := by omega
  have tk := tx_tg hk
  have tk2 : ((tg (extAd (4 + 2 * u)) : Nat) : Int) = 33 := by omega
  have i1 := H.1.2.2.2.2.2.2.2.2.1
  have sk := skp_ok (T := T) i1.2
  have lp := lep_ok (T := T) sk.2
  have dpa := H.1.2.2.2.2.1
  have hR : hP h = hP h := rfl
  repeat (first | refine wxA (by decide) ?_ | refine wxA (by intro z; have z := congrArg ix z; omega) ?_ | refine wxM ?_ | refine wxL ?_ | refine step ?_ | refine Exists.intro _ (And.intro (congrFun ((congrFun hR _).trans fX) _) ?_) | refine Exists.intro _ (And.intro (congrFun ((congrFun hR _).trans fs) _) ?_) | refine Exists.intro _ (And.intro (congrFun ((congrFun hR _).trans fk) _) ?_) | refine Exists.intro _ (And.intro ((congrFun (congrFun hR _) _).trans fH0) ?_) | refine Exists.intro _ (And.intro ((congrFun (congrFun hR _) _).trans fH1) ?_) | refine Exists.intro _ (And.intro ((congrFun (congrFun hR _) _).trans fH2) ?_) | refine Exists.intro _ (And.intro rfl ?_) | refine And.intro rfl ?_ | refine And.intro trivial ?_ | refine And.intro (by assumption) ?_ | (refine And.intro (by intro hz; exfalso; omega) ?_; intro hz9) | refine And.intro (by omega) ?_ | refine And.intro (by simp only [lnX_sIS, lnX_sCE, lnX_sFA, lnX_sFO, lnX_sLE, lnX_sPL, lnX_sBE, lnX_sLD, lnX_kIS, lnX_kCE, lnX_kFA, lnX_kFO, lnX_kLE, lnX_kPL, lnX_kBE, lnX_kLD, lnX_xTA, lnX_xNW, lnX_xNO, lnX_xNE, lnX_xWO, lnX_xPA, lnX_xST, lnX_xFH, lnX_xSH, lnX_xLA, lnX_xSW, lnX_xIM]; omega) ?_ | (refine And.intro ?_ (by intro hz; exfalso; omega); intro hz9))
  refine Or.inl (cp_isW H hk (fun p1 r hr H1 F1 => ?_))
  have q1 := H1.1.2.2.2.2.2.2.2.1
  obtain ⟨-, ⟨m0, m1, m2⟩, ⟨q2, d0, d1⟩, ⟨q4, q5, c0, c1, w0, w1⟩, -, -, -⟩ := id H1
  have hR : hP p1 = hP p1 := rfl
  have put : ∀ (v : Int) (Ψ : AH → Prop), 0 ≤ skp T n i + v → skp T n i + v ≤ n → (∀ p, PY sh pa p T n (skp T n i + v) m dp c w → TX [pa] [] h p → Ψ p) → Ψ (sI p1 pa 1 (skp T n i + v)) := by
    intro v Ψ v0 v1 hΨ
    refine wxF dpa (fun p e1 ne T1 => ?_)
    exact hΨ p (H1.tx T1 e1 v0 v1 (by rw [ne 3 (by omega)]; exact m0) m1 m2 (by rw [ne 2 (by omega)]; exact q2) d0 d1 (by rw [ne 4 (by omega)]; exact q4) c0 c1 (by rw [ne 5 (by omega)]; exact q5)) (F1.1.tr T1)
  refine step ?_
  refine step ?_
  refine step ?_
  refine step ?_
  refine And.intro tpa ?_
  refine Exists.intro _ (And.intro q1 ?_)
  refine step ?_
  refine step ?_
  refine And.intro (by omega) ?_
  refine And.intro (fun hc => ?_) (fun hc => ?_)
  · have hn := hr.resolve_left (fun z => by omega)
    refine step ?_
    refine step ?_
    refine step ?_
    refine And.intro tpa ?_
    refine put 0 _ (by omega) (by omega) (fun p2 H2 T2 => ?_)
    rw [Int.add_zero] at H2
    repeat (first | refine wxA (by decide) ?_ | refine wxA (by intro z; have z := congrArg ix z; omega) ?_ | refine wxM ?_ | refine wxL ?_ | refine step ?_ | refine Exists.intro _ (And.intro (congrFun ((congrFun hR _).trans fX) _) ?_) | refine Exists.intro _ (And.intro (congrFun ((congrFun hR _).trans fs) _) ?_) | refine Exists.intro _ (And.intro (congrFun ((congrFun hR _).trans fk) _) ?_) | refine Exists.intro _ (And.intro ((congrFun (congrFun hR _) _).trans fH0) ?_) | refine Exists.intro _ (And.intro ((congrFun (congrFun hR _) _).trans fH1) ?_) | refine Exists.intro _ (And.intro ((congrFun (congrFun hR _) _).trans fH2) ?_) | refine Exists.intro _ (And.intro rfl ?_) | refine And.intro rfl ?_ | refine And.intro trivial ?_ | refine And.intro (by assumption) ?_ | (refine And.intro (by intro hz; exfalso; omega) ?_; intro hz9) | refine And.intro (by omega) ?_ | refine And.intro (by simp only [lnX_sIS, lnX_sCE, lnX_sFA, lnX_sFO, lnX_sLE, lnX_sPL, lnX_sBE, lnX_sLD, lnX_kIS, lnX_kCE, lnX_kFA, lnX_kFO, lnX_kLE, lnX_kPL, lnX_kBE, lnX_kLD, lnX_xTA, lnX_xNW, lnX_xNO, lnX_xNE, lnX_xWO, lnX_xPA, lnX_xST, lnX_xFH, lnX_xSH, lnX_xLA, lnX_xSW, lnX_xIM]; omega) ?_ | (refine And.intro ?_ (by intro hz; exfalso; omega); intro hz9))
    rw [hn.1]
    exact K0 hn.2 p2 H2 T2
  · have hy := hr.resolve_right (fun z => by omega)
    have el : skp T n i + txL u = lep T n (skp T n i) := by omega
    refine step ?_
    refine step ?_
    refine And.intro tk2 ?_
    refine And.intro rfl ?_
    refine Or.inl (len_of H1.2.2.2.2.2.2 hk ?_)
    refine step ?_
    refine step ?_
    refine step ?_
    refine And.intro tpa ?_
    refine put (txL u) _ (by omega) (by omega) (fun p2 H2 T2 => ?_)
    rw [el] at H2
    refine step ?_
    refine step ?_
    rw [hy.1]
    refine And.intro ⟨by decide, by decide⟩ ?_
    exact K hy.2.1 p2 H2 T2
/-! values -/
def nmIx : List Nat := [1, 9, 10, 11, 12, 13, 14, 3, 15, 16, 17]
theorem nm_all : ∀ x : Fin 11, xP 1 (x.val : Int) = some (extAd (4 + 2 * nmIx.getD x.val 0)) ∧ txN (nmIx.getD x.val 0) = WL.getD x.val 0 ∧ nmIx.getD x.val 0 < 18 := by decide +kernel
theorem whL_drop {T : Int → Int} {n j : Int} {x : Nat} (hx : x < 11) : whL T n j (WL.drop x) x = if wdB T n j (WL.getD x 0) = true then (x : Int) else whL T n j (WL.drop (x + 1)) ((x : Int) + 1) := by
  have e : WL.drop x = WL.getD x 0 :: WL.drop (x + 1) := by
    have hl : x < WL.length := hx
    rw [List.drop_eq_getElem_cons hl, List.getD_eq_getElem?_getD, List.getElem?_eq_getElem hl]
    rfl
  rw [e]
  rfl
theorem c_J8init {d : Nat} {h : AH} {Φ : OUT → AH → Prop} {a : Nat} (ta : tg a ≠ 10) (K : Φ (.inl none) h) : CT (d + 1) 0 0 J_X8_init [vo a] h Φ := by
  refine e_X8_init ?_; intro k step keep
  refine step ?_
  refine step ?_
  refine And.intro ta ?_
  refine And.intro rfl ?_
  refine step ?_
  exact K
theorem c_X9init {d : Nat} {h : AH} {Φ : OUT → AH → Prop} {a : Nat} {v : Int} (ta : tg a = 25) (K : ∀ q, WX a h q → hI q a 0 = v → Φ (.inl none) q) : CT (d + 2) 0 0 J_X9_init [vo a, vi v] h Φ := by
  refine e_X9_init ?_; intro k step keep
  have tn : tg a ≠ 10 := by omega
  refine step ?_
  refine step ?_
  refine And.intro tn ?_
  refine And.intro rfl ?_
  refine Or.inl (c_J8init tn ?_)
  refine step ?_
  refine step ?_
  refine step ?_
  refine And.intro ta ?_
  refine wpI (fun q W e _ => ?_)
  refine step ?_
  exact K q W (by rw [e]; exact if_pos rfl)
theorem c_X10init {d : Nat} {h : AH} {Φ : OUT → AH → Prop} {a : Nat} {v : Int} (ta : tg a = 26) (K : ∀ q, WX a h q → hI q a 0 = v → Φ (.inl none) q) : CT (d + 2) 0 0 J_X10_init [vo a, vi v] h Φ := by
  refine e_X10_init ?_; intro k step keep
  have tn : tg a ≠ 10 := by omega
  refine step ?_
  refine step ?_
  refine And.intro tn ?_
  refine And.intro rfl ?_
  refine Or.inl (c_J8init tn ?_)
  refine step ?_
  refine step ?_
  refine step ?_
  refine And.intro ta ?_
  refine wpI (fun q W e _ => ?_)
  refine step ?_
  exact K q W (by rw [e]; exact if_pos rfl)
theorem c_X11init {d : Nat} {h : AH} {Φ : OUT → AH → Prop} {a x y : Nat} {s : Int} (ta : tg a = 27) (K : ∀ q, WX a h q → hP q a 0 = some x → hP q a 1 = some y → hI q a 2 = s → Φ (.inl none) q) : CT (d + 2) 0 0 J_X11_init [vo a, vo x, vo y, vi s] h Φ := by
  refine e_X11_init ?_; intro k step keep
  have tn : tg a ≠ 10 := by omega
  refine step ?_
  refine step ?_
  refine And.intro tn ?_
  refine And.intro rfl ?_
  refine Or.inl (c_J8init tn ?_)
  refine step ?_
  refine step ?_
  refine step ?_
  refine And.intro ta ?_
  refine wpP (fun q1 W1 e1 g1 => ?_)
  refine step ?_
  refine step ?_
  refine step ?_
  refine And.intro ta ?_
  refine wpP (fun q2 W2 e2 g2 => ?_)
  refine step ?_
  refine step ?_
  refine step ?_
  refine And.intro ta ?_
  refine wpI (fun q3 W3 e3 g3 => ?_)
  refine step ?_
  exact K q3 ((W1.tr W2).tr W3) (by rw [g3, e2, if_neg (by decide), e1, if_pos rfl]) (by rw [g3, e2, if_pos rfl]) (by rw [e3, if_pos rfl])
/-- how many things a reading makes, at most -/
def chg (n i : Int) (r : PRS) : Nat := match r with
  | (_, .inl _) => (n - i).toNat
  | (_, .inr (j, _)) => (j - i).toNat
theorem nw_dy {p : AH} {a : Nat} (ha : ix a = hN p) (hp : 307 ≤ hN p) : DYS a := Or.inr (by omega)
set_option maxHeartbeats 1000000 in
theorem cp_value {d : Nat} {h : AH} {Φ : OUT → AH → Prop} {mc ms sh pa : Nat} {T : Int → Int} {n i m dp c w : Int} (H : PY sh pa h T n i m dp c w) (hmc : chg n i (valS T n i m) ≤ mc) (hms : 4 * chg n i (valS T n i m) ≤ ms)
    (K0 : ∀ m2 e, valS T n i m = (m2, .inl e) → ∀ p, hI p xWR 0 = e → NX [pa, xWR] [] h p → Φ (.inr xWR) p)
    (K : ∀ m2 j f, valS T n i m = (m2, .inr (j, f)) → ∀ p a, PY sh pa p T n j m2 dp c w → NX [pa] [] h p → VAL (m2 - m) p a f → Φ (.inl (some (vo a))) p) : CT (d + 6) mc ms J_X5_value [vo pa] h Φ := by
  refine e_X5_value ?_; intro k step keep
  have tpa := H.1.2.2.1
  have tp : ((tg pa : Nat) : Int) = 22 := by omega
  have i1 := H.1.2.2.2.2.2.2.2.2.1
  have sk := skp_ok (T := T) i1.2
  have id2 := skp_idem (T := T) i1.2
  have dpa := H.1.2.2.2.2.1
  have mb := H.2.1
  have hR : hP h = hP h := rfl
  have ok := valS_ok (T := T) i1.1 i1.2 mb.2.2
  obtain ⟨V, hV⟩ : ∃ V, valS T n i m = V := ⟨_, rfl⟩
  rw [hV] at K0 K hmc hms ok
  unfold valS at hV
  have up1 : ∀ {p q : AH}, NX [pa] [] p q → NX [pa, xWR] [] p q := fun N => N.up (by intro a ha; rw [List.mem_singleton.mp ha]; simp) (by decide)
  repeat (first | refine wxA (by decide) ?_ | refine wxA (by intro z; have z := congrArg ix z; omega) ?_ | refine wxM ?_ | refine wxL ?_ | refine step ?_ | refine Exists.intro _ (And.intro (congrFun ((congrFun hR _).trans fX) _) ?_) | refine Exists.intro _ (And.intro (congrFun ((congrFun hR _).trans fs) _) ?_) | refine Exists.intro _ (And.intro (congrFun ((congrFun hR _).trans fk) _) ?_) | refine Exists.intro _ (And.intro ((congrFun (congrFun hR _) _).trans fH0) ?_) | refine Exists.intro _ (And.intro ((congrFun (congrFun hR _) _).trans fH1) ?_) | refine Exists.intro _ (And.intro ((congrFun (congrFun hR _) _).trans fH2) ?_) | refine Exists.intro _ (And.intro rfl ?_) | refine And.intro rfl ?_ | refine And.intro trivial ?_ | refine And.intro (by assumption) ?_ | (refine And.intro (by intro hz; exfalso; omega) ?_; intro hz9) | refine And.intro (by omega) ?_ | refine And.intro (by simp only [lnX_sIS, lnX_sCE, lnX_sFA, lnX_sFO, lnX_sLE, lnX_sPL, lnX_sBE, lnX_sLD, lnX_kIS, lnX_kCE, lnX_kFA, lnX_kFO, lnX_kLE, lnX_kPL, lnX_kBE, lnX_kLD, lnX_xTA, lnX_xNW, lnX_xNO, lnX_xNE, lnX_xWO, lnX_xPA, lnX_xST, lnX_xFH, lnX_xSH, lnX_xLA, lnX_xSW, lnX_xIM]; omega) ?_ | (refine And.intro ?_ (by intro hz; exfalso; omega); intro hz9))
  refine Or.inl (cp_next H.1 (fun p1 Hx1 F1 => ?_))
  have H1 := H.pf F1 Hx1
  have N1 := F1.nx
  have q1 := Hx1.2.2.2.2.2.2.2.1
  have r1 := Hx1.1
  have hR := r1
  repeat (first | refine wxA (by decide) ?_ | refine wxA (by intro z; have z := congrArg ix z; omega) ?_ | refine wxM ?_ | refine wxL ?_ | refine step ?_ | refine Exists.intro _ (And.intro (congrFun ((congrFun hR _).trans fX) _) ?_) | refine Exists.intro _ (And.intro (congrFun ((congrFun hR _).trans fs) _) ?_) | refine Exists.intro _ (And.intro (congrFun ((congrFun hR _).trans fk) _) ?_) | refine Exists.intro _ (And.intro ((congrFun (congrFun hR _) _).trans fH0) ?_) | refine Exists.intro _ (And.intro ((congrFun (congrFun hR _) _).trans fH1) ?_) | refine Exists.intro _ (And.intro ((congrFun (congrFun hR _) _).trans fH2) ?_) | refine Exists.intro _ (And.intro rfl ?_) | refine And.intro rfl ?_ | refine And.intro trivial ?_ | refine And.intro (by assumption) ?_ | (refine And.intro (by intro hz; exfalso; omega) ?_; intro hz9) | refine And.intro (by omega) ?_ | refine And.intro (by simp only [lnX_sIS, lnX_sCE, lnX_sFA, lnX_sFO, lnX_sLE, lnX_sPL, lnX_sBE, lnX_sLD, lnX_kIS, lnX_kCE, lnX_kFA, lnX_kFO, lnX_kLE, lnX_kPL, lnX_kBE, lnX_kLD, lnX_xTA, lnX_xNW, lnX_xNO, lnX_xNE, lnX_xWO, lnX_xPA, lnX_xST, lnX_xFH, lnX_xSH, lnX_xLA, lnX_xSW, lnX_xIM]; omega) ?_ | (refine And.intro ?_ (by intro hz; exfalso; omega); intro hz9))
  rw [q1]
  refine Or.inl (cp_isDigit Hx1 (fun r hr => ?_))
  refine step ?_
  refine And.intro (by omega) ?_
  refine And.intro (fun hc => ?_) (fun hc => ?_)
  · have hnd : ¬ dgP T n (skp T n i) := by omega
    rw [if_neg hnd] at hV
    have loop : ∀ (y x : Nat) (p : AH), x + y = 11 → PY sh pa p T n (skp T n i) m dp c w → NX [pa] [] h p → wrdF T n (skp T n i) = whL T n (skp T n i) (WL.drop x) x → k 0 0 41 [(0, vo pa), (1, vi (skp T n i)), (2, vi x)] [] p := by
      intro y
      induction y with
      | zero =>
        intro x p hx Hp N e
        obtain ⟨-, fX, -, fH0, -, -, -, -, -, -, -⟩ := Hp.1
        have fN := Hp.2.2.2.2.1
        have hR : hP p = hP p := rfl
        have hx11 : x = 11 := by omega
        subst hx11
        have e : wrdF T n (skp T n i) = -1 := e
        rw [if_pos (by omega)] at hV
        have nl : ((ln A_NAMES : Nat) : Int) = 11 := rfl
        refine step ?_
        refine step ?_
        refine step ?_
        refine And.intro tpa ?_
        refine Exists.intro _ (And.intro fN ?_)
        refine step ?_
        refine And.intro rfl ?_
        rw [nl]
        repeat (first | refine wxA (by decide) ?_ | refine wxA (by intro z; have z := congrArg ix z; omega) ?_ | refine wxM ?_ | refine wxL ?_ | refine step ?_ | refine Exists.intro _ (And.intro (congrFun ((congrFun hR _).trans fX) _) ?_) | refine Exists.intro _ (And.intro (congrFun ((congrFun hR _).trans fs) _) ?_) | refine Exists.intro _ (And.intro (congrFun ((congrFun hR _).trans fk) _) ?_) | refine Exists.intro _ (And.intro ((congrFun (congrFun hR _) _).trans fH0) ?_) | refine Exists.intro _ (And.intro ((congrFun (congrFun hR _) _).trans fH1) ?_) | refine Exists.intro _ (And.intro ((congrFun (congrFun hR _) _).trans fH2) ?_) | refine Exists.intro _ (And.intro rfl ?_) | refine And.intro rfl ?_ | refine And.intro trivial ?_ | refine And.intro (by assumption) ?_ | (refine And.intro (by intro hz; exfalso; omega) ?_; intro hz9) | refine And.intro (by omega) ?_ | refine And.intro (by simp only [lnX_sIS, lnX_sCE, lnX_sFA, lnX_sFO, lnX_sLE, lnX_sPL, lnX_sBE, lnX_sLD, lnX_kIS, lnX_kCE, lnX_kFA, lnX_kFO, lnX_kLE, lnX_kPL, lnX_kBE, lnX_kLD, lnX_xTA, lnX_xNW, lnX_xNO, lnX_xNE, lnX_xWO, lnX_xPA, lnX_xST, lnX_xFH, lnX_xSH, lnX_xLA, lnX_xSW, lnX_xIM]; omega) ?_ | (refine And.intro ?_ (by intro hz; exfalso; omega); intro hz9))
        refine Or.inl (cp_fails rfl fX (fun p3 hR3 e3 T3 => ?_))
        refine step ?_
        refine And.intro rfl ?_
        exact K0 m _ hV.symm p3 e3 ((up1 N).tr (NX.of (T3.up (by intro a ha; rw [List.mem_singleton.mp ha]; simp) (by decide))))
      | succ y ih =>
        intro x p hx Hp N e
        obtain ⟨nm1, nm2, nm3⟩ := nm_all ⟨x, by omega⟩
        have nm1 : xP 1 (x : Int) = some (extAd (4 + 2 * nmIx.getD x 0)) := nm1
        have nm2 : txN (nmIx.getD x 0) = WL.getD x 0 := nm2
        have nm3 : nmIx.getD x 0 < 18 := nm3
        generalize nmIx.getD x 0 = u at *
        have fN := Hp.2.2.2.2.1
        have fx : hP p A_NAMES x = some (extAd (4 + 2 * u)) := by rw [(Hp.2.2.2.2.2.2 A_NAMES (by decide) (by decide)).2]; exact nm1
        have hR : hP p = hP p := rfl
        have nl : ((ln A_NAMES : Nat) : Int) = 11 := rfl
        have xn : (0 : Int) ≤ x := by omega
        refine step ?_
        refine step ?_
        refine step ?_
        refine And.intro tpa ?_
        refine Exists.intro _ (And.intro fN ?_)
        refine step ?_
        refine And.intro rfl ?_
        rw [nl]
        refine step ?_
        refine And.intro (by omega) ?_
        refine And.intro (by omega) ?_
        refine And.intro (fun z => by omega) (fun _ => ?_)
        refine step ?_
        refine step ?_
        refine step ?_
        refine And.intro tpa ?_
        refine Exists.intro _ (And.intro fN ?_)
        refine step ?_
        refine step ?_
        refine And.intro rfl ?_
        refine And.intro xn ?_
        refine And.intro (by rw [nl]; omega) ?_
        refine Exists.intro _ (And.intro fx ?_)
        refine step ?_
        refine And.intro tp ?_
        refine And.intro rfl ?_
        refine Or.inl (cp_isW Hp nm3 (fun p2 r2 hr2 H2 F2 => ?_))
        rw [id2] at hr2 H2
        rw [nm2] at hr2
        have N2 := N.tr F2.nx
        have wd := whL_drop (T := T) (n := n) (j := skp T n i) (x := x) (by omega)
        rw [wd] at e
        refine step ?_
        refine And.intro (by omega) ?_
        refine And.intro (fun hd => ?_) (fun hd => ?_)
        · have hy := hr2.resolve_right (fun z => by omega)
          rw [if_pos hy.2.1] at e
          rw [if_neg (by omega)] at hV
          have tk := tx_tg nm3
          have tk2 : ((tg (extAd (4 + 2 * u)) : Nat) : Int) = 33 := by omega
          have lpp := (wdB_iff.mp hy.2.1).1
          have lp := lep_ok (T := T) sk.2
          refine step ?_
          refine step ?_
          refine step ?_
          refine And.intro tp ?_
          refine And.intro rfl ?_
          refine Or.inl (cp_counts (a := skp T n i) H2 (fun hm p3 e3 T3 => ?_) (fun hm p3 H3 T3 => ?_))
          · rw [if_pos hm] at hV
            exact K0 m _ hV.symm p3 e3 ((up1 N2).tr (NX.of T3))
          · rw [if_neg (by omega)] at hV
            have N3 := N2.tr (NX.of T3)
            have q3 := H3.1.2.2.2.2.2.2.2.1
            have fN3 := H3.2.2.2.2.1
            have fx3 : hP p3 A_NAMES x = some (extAd (4 + 2 * u)) := by rw [(H3.2.2.2.2.2.2 A_NAMES (by decide) (by decide)).2]; exact nm1
            have cg : 1 ≤ chg n i V := by rw [← hV]; show 1 ≤ (lep T n (skp T n i) - i).toNat; omega
            refine step ?_
            refine step ?_
            refine step ?_
            refine And.intro tpa ?_
            refine Exists.intro _ (And.intro q3 ?_)
            refine step ?_
            refine step ?_
            refine And.intro tpa ?_
            refine Exists.intro _ (And.intro fN3 ?_)
            refine step ?_
            refine step ?_
            refine And.intro rfl ?_
            refine And.intro xn ?_
            refine And.intro (by rw [nl]; omega) ?_
            refine Exists.intro _ (And.intro fx3 ?_)
            refine step ?_
            refine And.intro tk2 ?_
            refine And.intro rfl ?_
            refine Or.inl (len_of H3.2.2.2.2.2.2 nm3 ?_)
            refine step ?_
            refine step ?_
            refine And.intro tpa ?_
            obtain ⟨-, ⟨m0, m1, m2⟩, ⟨g2, d0, d1⟩, ⟨g4, g5, c0, c1, w0, w1⟩, -, -, -⟩ := id H3
            refine wxF dpa (fun p4 e4 ne T4 => ?_)
            rw [show skp T n i + txL u = lep T n (skp T n i) by omega] at e4
            have H4 := H3.tx T4 e4 (by omega) (by omega) (by rw [ne 3 (by omega)]; exact m0) m1 m2 (by rw [ne 2 (by omega)]; exact g2) d0 d1 (by rw [ne 4 (by omega)]; exact g4) c0 c1 (by rw [ne 5 (by omega)]; exact g5)
            have N4 := N3.tr (NX.of T4)
            have n4 := H4.2.2.2.2.2.1
            refine step ?_
            refine And.intro rfl ?_
            refine And.intro (by omega) ?_
            refine And.intro (by omega) ?_
            generalize ea : nwA p4 26 0 = a
            generalize eq : nwH p4 26 0 = q
            obtain ⟨o1, o2, o3, o4, o5, o6, o7⟩ := nw_ok ea eq (by decide) (by decide) n4.2
            have da := nw_dy o1 n4.2
            refine step ?_
            refine step ?_
            refine step ?_
            refine And.intro (by omega) ?_
            refine And.intro rfl ?_
            refine Or.inl (c_X10init o2 (fun q5 W5 e5 => ?_))
            have N5 : NX [] [] p4 q5 := o7.w W5 (Or.inr (by omega)) da.nX
            have H5 := H4.nx N5 (by simp) (by simp) (by simp) (by decide) (by simp)
            refine step ?_
            exact K (m + 1) _ _ hV.symm q5 a H5 (N4.tr (N5.up (by simp) (by decide))) (by
              have wb := wrdF_b T n (skp T n i)
              have v := VAL_10 (h := q5) (v := x) o2 (by rw [W5.1]; omega) da e5 (by omega) (by omega)
              rw [e]
              exact v.go (by omega) (Nat.le_refl _) OLD.rf)
        · have hno := hr2.resolve_left (fun z => by omega)
          rw [if_neg hno.2] at e
          refine step ?_
          refine step ?_
          refine step ?_
          exact ih (x + 1) p2 (by omega) H2 N2 e
    refine step ?_
    refine step ?_
    exact loop 11 0 p1 rfl H1 N1 rfl
  · have hdg : dgP T n (skp T n i) := by omega
    rw [if_pos hdg] at hV
    have g := num_gt sk.2 hdg
    have n1 := H1.2.2.2.2.2.1
    have cg : 1 ≤ chg n i V := by
      rcases V with ⟨m', e | ⟨j, f⟩⟩
      · show 1 ≤ (n - i).toNat
        have := hdg.1
        omega
      · show 1 ≤ (j - i).toNat
        have : i < j := ok.2.2.1.1
        omega
    refine step ?_
    refine And.intro rfl ?_
    refine And.intro (by omega) ?_
    refine And.intro (by omega) ?_
    generalize ea : nwA p1 25 0 = a
    generalize eq : nwH p1 25 0 = q
    obtain ⟨o1, o2, o3, o4, o5, o6, o7⟩ := nw_ok ea eq (by decide) (by decide) n1.2
    have da := nw_dy o1 n1.2
    have H2 := H1.nx o7 (by simp) (by simp) (by simp) (by decide) (by simp)
    have N2 := N1.tr (o7.up (A' := [pa]) (B' := []) (by simp) (by simp))
    have apa : a ≠ pa := fun z => by rw [z] at o1; omega
    refine step ?_
    refine step ?_
    refine step ?_
    refine step ?_
    refine step ?_
    refine And.intro tp ?_
    refine And.intro rfl ?_
    refine Or.inl (cp_number H2.1 (by omega) (by omega) (fun hz => ?_) (fun hz hq p3 hR3 e3 T3 => ?_) (fun hz hq p3 Hx3 F3 => ?_))
    · rw [id2] at hz
      exact absurd hdg hz
    · rw [id2] at hq e3
      rw [if_neg hq] at hV
      exact K0 m _ hV.symm p3 e3 ((up1 N2).tr (NX.of T3))
    · rw [id2] at hq Hx3 ⊢
      rw [if_pos hq] at hV
      have H3 := H2.pf F3 Hx3
      have N3 := N2.tr F3.nx
      have n3 := H3.2.2.2.2.2.1
      have ni3 : hN p3 = hN q := congrArg (fun z => z.1) F3.1.1
      refine step ?_
      refine And.intro (by omega) ?_
      refine And.intro rfl ?_
      refine Or.inl (c_X9init o2 (fun q4 W4 e4 => ?_))
      have N4 : NX [pa] [] h q4 := N3.w W4 (Or.inr (by have := N1.1; omega)) da.nX
      have a4 : NX [a] [] p3 q4 := NX.rf.w W4 (Or.inl List.mem_cons_self) da.nX
      have H4 := H3.nx a4 (fun z => apa (List.mem_singleton.mp z).symm) (fun z => da.nX (List.mem_singleton.mp z).symm) (fun z => by rw [← List.mem_singleton.mp z] at da; revert da; decide) (by decide) da.n64
      have tpa := tpa
      refine step ?_
      refine step ?_
      refine step ?_
      refine step ?_
      refine And.intro tp ?_
      refine And.intro rfl ?_
      refine Or.inl (cp_counts (a := skp T n i) H4 (fun hm p5 e5 T5 => ?_) (fun hm p5 H5 T5 => ?_))
      · rw [if_pos hm] at hV
        exact K0 m _ hV.symm p5 e5 ((up1 N4).tr (NX.of T5))
      · rw [if_neg (by omega)] at hV
        have N5 := N4.tr (NX.of T5)
        have e5 : hI p5 a 0 = (num T n (skp T n i)).1 := by rw [T5.i (fun z => apa (List.mem_singleton.mp z)) da.nX]; exact e4
        have ni5 : hN p5 = hN q4 := congrArg (fun z => z.1) T5.1
        refine step ?_
        refine step ?_
        exact K (m + 1) _ _ hV.symm p5 a H5 N5 (by
          have v := VAL_9 (h := p5) o2 (by rw [ni5, W4.1]; omega) da e5 (by omega)
          exact v.go (by omega) (Nat.le_refl _) OLD.rf)
