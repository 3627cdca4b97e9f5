/-! THE TWIN'S STEP -/
def comesF (s : Int → Int) (g : Int) : Int → Int := if s (50 + cellF (s 1) (s (46 + s (11 + 7 * g + 1))) (s (11 + 7 * g + 5))) = 1 then s else upF (upF (upF s (11 + 7 * g) (cellF (s 1) (s (46 + s (11 + 7 * g + 1))) (s (11 + 7 * g + 5)))) (11 + 7 * g + 1) ((s (46 + s (11 + 7 * g + 1)) + 2) % 4)) (11 + 7 * g + 3) 0
def outF (s : Int → Int) (g : Int) : Int → Int := if s (11 + 7 * g + 2) = 0 then upF s (11 + 7 * g + 3) 2 else if 0 < s (11 + 7 * g + 4) then upF (upF s (11 + 7 * g + 2) (s (11 + 7 * g + 2) - 1)) (11 + 7 * g + 4) (s (11 + 7 * g + 4) - 1) else comesF (upF s (11 + 7 * g + 2) (s (11 + 7 * g + 2) - 1)) g
/-- one who is on and has turned already goes on -/
def ongoF (s : Int → Int) (g : Int) : Int → Int := if nextF (s 1) (s (11 + 7 * g)) (s (11 + 7 * g + 1)) < 0 then upF (upF (upF (upF s (11 + 7 * g + 3) 1) (11 + 7 * g + 4) (s (86 + s (11 + 7 * g + 1)))) (11 + 7 * g + 5) (alonF (s 1) (s (11 + 7 * g)) (s (11 + 7 * g + 1)))) (11 + 7 * g + 6) (s (11 + 7 * g + 6) + 1) else if s (50 + nextF (s 1) (s (11 + 7 * g)) (s (11 + 7 * g + 1))) = 1 then s else upF s (11 + 7 * g) (nextF (s 1) (s (11 + 7 * g)) (s (11 + 7 * g + 1)))
def turnF (q : Int) (s : Int → Int) (g : Int) : Int → Int := upF s (11 + 7 * g + 1) ((s (11 + 7 * g + 1) + q) % 4)
/-- what holds of a goer's numbers -/
def GG (b : Int) (s : Int → Int) (g : Int) : Prop := (0 ≤ s (11 + 7 * g) ∧ s (11 + 7 * g) < s 1 * s 1) ∧ (0 ≤ s (11 + 7 * g + 1) ∧ s (11 + 7 * g + 1) ≤ 3) ∧ (0 ≤ s (11 + 7 * g + 2) ∧ s (11 + 7 * g + 2) ≤ 99) ∧ (0 ≤ s (11 + 7 * g + 3) ∧ s (11 + 7 * g + 3) ≤ 2) ∧ (0 ≤ s (11 + 7 * g + 4) ∧ s (11 + 7 * g + 4) ≤ 9) ∧ (0 ≤ s (11 + 7 * g + 5) ∧ s (11 + 7 * g + 5) < s 1) ∧ (0 ≤ s (11 + 7 * g + 6) ∧ s (11 + 7 * g + 6) ≤ b)
def GS (s : Int → Int) : Prop := (2 ≤ s 1 ∧ s 1 ≤ 6) ∧ (0 ≤ s 2 ∧ s 2 ≤ 5) ∧ (0 ≤ s 10 ∧ s 10 ≤ 100000) ∧ (∀ e, 0 ≤ e → e < 4 → 0 ≤ s (46 + e) ∧ s (46 + e) ≤ 3) ∧ (∀ c, 0 ≤ c → c < 36 → s (50 + c) = 0 ∨ s (50 + c) = 1) ∧ (∀ e, 0 ≤ e → e < 4 → 0 ≤ s (86 + e) ∧ s (86 + e) ≤ 9)
theorem sq_le {n : Int} (h1 : 2 ≤ n) (h2 : n ≤ 6) : 4 ≤ n * n ∧ n * n ≤ 36 := by
  rcases (by omega : n = 2 ∨ n = 3 ∨ n = 4 ∨ n = 5 ∨ n = 6) with z | z | z | z | z <;> subst z <;> omega
theorem cellF_ok {n e p : Int} (h1 : 2 ≤ n) (h2 : n ≤ 6) (h3 : 0 ≤ p) (h4 : p < n) : 0 ≤ cellF n e p ∧ cellF n e p < n * n := by
  unfold cellF
  rcases (by omega : n = 2 ∨ n = 3 ∨ n = 4 ∨ n = 5 ∨ n = 6) with z | z | z | z | z <;> subst z <;> (repeat' split) <;> omega
theorem margF_ok {n c f : Int} (h1 : 2 ≤ n) (h2 : n ≤ 6) (h3 : 0 ≤ c) (h4 : c < n * n) : 0 ≤ margF n c f ∧ margF n c f < n := by
  unfold margF
  rcases (by omega : n = 2 ∨ n = 3 ∨ n = 4 ∨ n = 5 ∨ n = 6) with z | z | z | z | z <;> subst z <;> (repeat' split) <;> omega
theorem nextF_ok {n c f : Int} (h1 : 2 ≤ n) (h2 : n ≤ 6) (h3 : 0 ≤ c) (h4 : c < n * n) (h5 : 0 ≤ f) (h6 : f ≤ 3) : nextF n c f = -1 ∨ (0 ≤ nextF n c f ∧ nextF n c f < n * n) := by
  unfold nextF stepF margF
  rcases (by omega : n = 2 ∨ n = 3 ∨ n = 4 ∨ n = 5 ∨ n = 6) with z | z | z | z | z <;> subst z <;> (repeat' split) <;> omega
theorem alonF_ok {n c f : Int} (h1 : 2 ≤ n) (h2 : n ≤ 6) (h3 : 0 ≤ c) (h4 : c < n * n) : 0 ≤ alonF n c f ∧ alonF n c f < n := by
  unfold alonF
  rcases (by omega : n = 2 ∨ n = 3 ∨ n = 4 ∨ n = 5 ∨ n = 6) with z | z | z | z | z <;> subst z <;> (repeat' split) <;> omega
theorem t_comesOn {d : Nat} {h : AH} {Φ : OUT → AH → Prop} {b g : Int} (hM : hP h M = MP) (h1 : 0 ≤ g) (h2 : g < 5) (hS : GS (hI h mSAID)) (hG : GG b (hI h mSAID) g) (K : ∀ h1, hI h1 mSAID = comesF (hI h mSAID) g → TA [mSAID] [] h h1 → Φ (.inl none) h1) : CT (d + 2) 0 0 J_X4_comesOn [vo M, vi g] h Φ := by
  refine e_X4_comesOn ?_
  intro k step keep
  obtain ⟨⟨a1, a2⟩, -, -, a4, a5, -⟩ := hS
  obtain ⟨-, ⟨g1, g2⟩, -, -, -, ⟨g5, g6⟩, -⟩ := hG
  have a6 := a4 _ g1 (by omega)
  have c1 := cellF_ok (e := hI h mSAID (46 + hI h mSAID (11 + 7 * g + 1))) a1 a2 g5 g6
  have c2 := sq_le a1 a2
  repeat (first | refine wtA (by decide) ?_ | refine wtM ?_ | refine wtL ?_ | refine step ?_ | refine Exists.intro _ (And.intro (congrFun hM _) ?_) | refine Exists.intro _ (And.intro rfl ?_) | refine And.intro rfl ?_ | refine And.intro trivial ?_ | (refine And.intro (by intro hz; exfalso; omega) ?_; intro hz9) | refine And.intro (by omega) ?_ | refine And.intro (by simp only [lnM_TAPE, lnM_SIGN, lnM_LENG, lnM_CLAU, lnM_CLSS, lnM_READ, lnM_OPEN, lnM_STCK, lnM_WORD, lnM_SAID, lnM_WASS, lnM_KEPT, lnM_FAR, lnM_WASI, lnM_OUTO, lnM_HASB, lnM_WHER, lnM_ISFI, lnM_CELT, lnM_IMGS, lnM_IMGF, lnM_IMGX, lnM_ISMA]; omega) ?_ | (refine And.intro ?_ (by intro hz; exfalso; omega); intro hz9))
  refine Or.inl (t_cellAt hM (by omega) (fun r hr => ?_))
  rw [← hr] at c1
  have b1 := a5 r (by omega) (by omega)
  repeat (first | refine wtA (by decide) ?_ | refine wtM ?_ | refine wtL ?_ | refine step ?_ | refine Exists.intro _ (And.intro (congrFun hM _) ?_) | refine Exists.intro _ (And.intro rfl ?_) | refine And.intro rfl ?_ | refine And.intro trivial ?_ | (refine And.intro (by intro hz; exfalso; omega) ?_; intro hz9) | refine And.intro (by omega) ?_ | refine And.intro (by simp only [lnM_TAPE, lnM_SIGN, lnM_LENG, lnM_CLAU, lnM_CLSS, lnM_READ, lnM_OPEN, lnM_STCK, lnM_WORD, lnM_SAID, lnM_WASS, lnM_KEPT, lnM_FAR, lnM_WASI, lnM_OUTO, lnM_HASB, lnM_WHER, lnM_ISFI, lnM_CELT, lnM_IMGS, lnM_IMGF, lnM_IMGX, lnM_ISMA]; omega) ?_ | (refine And.intro ?_ (by intro hz; exfalso; omega); intro hz9))
  refine Or.inl (t_isStone hM (by omega) (by omega) b1 ?_)
  repeat (first | refine wtA (by decide) ?_ | refine wtM ?_ | refine wtL ?_ | refine step ?_ | refine Exists.intro _ (And.intro (congrFun hM _) ?_) | refine Exists.intro _ (And.intro rfl ?_) | refine And.intro rfl ?_ | refine And.intro trivial ?_ | (refine And.intro (by intro hz; exfalso; omega) ?_; intro hz9) | refine And.intro (by omega) ?_ | refine And.intro (by simp only [lnM_TAPE, lnM_SIGN, lnM_LENG, lnM_CLAU, lnM_CLSS, lnM_READ, lnM_OPEN, lnM_STCK, lnM_WORD, lnM_SAID, lnM_WASS, lnM_KEPT, lnM_FAR, lnM_WASI, lnM_OUTO, lnM_HASB, lnM_WHER, lnM_ISFI, lnM_CELT, lnM_IMGS, lnM_IMGF, lnM_IMGX, lnM_ISMA]; omega) ?_ | (refine And.intro ?_ (by intro hz; exfalso; omega); intro hz9))
  refine And.intro (fun hc => ?_) (fun hc => ?_)
  · repeat (first | refine wtA (by decide) ?_ | refine wtM ?_ | refine wtL ?_ | refine step ?_ | refine Exists.intro _ (And.intro (congrFun hM _) ?_) | refine Exists.intro _ (And.intro rfl ?_) | refine And.intro rfl ?_ | refine And.intro trivial ?_ | (refine And.intro (by intro hz; exfalso; omega) ?_; intro hz9) | refine And.intro (by omega) ?_ | refine And.intro (by simp only [lnM_TAPE, lnM_SIGN, lnM_LENG, lnM_CLAU, lnM_CLSS, lnM_READ, lnM_OPEN, lnM_STCK, lnM_WORD, lnM_SAID, lnM_WASS, lnM_KEPT, lnM_FAR, lnM_WASI, lnM_OUTO, lnM_HASB, lnM_WHER, lnM_ISFI, lnM_CELT, lnM_IMGS, lnM_IMGF, lnM_IMGX, lnM_ISMA]; omega) ?_ | (refine And.intro ?_ (by intro hz; exfalso; omega); intro hz9))
    intro p1 e1 T1; have hM := T1.m hM
    repeat (first | refine wtA (by decide) ?_ | refine wtM ?_ | refine wtL ?_ | refine step ?_ | refine Exists.intro _ (And.intro (congrFun hM _) ?_) | refine Exists.intro _ (And.intro rfl ?_) | refine And.intro rfl ?_ | refine And.intro trivial ?_ | (refine And.intro (by intro hz; exfalso; omega) ?_; intro hz9) | refine And.intro (by omega) ?_ | refine And.intro (by simp only [lnM_TAPE, lnM_SIGN, lnM_LENG, lnM_CLAU, lnM_CLSS, lnM_READ, lnM_OPEN, lnM_STCK, lnM_WORD, lnM_SAID, lnM_WASS, lnM_KEPT, lnM_FAR, lnM_WASI, lnM_OUTO, lnM_HASB, lnM_WHER, lnM_ISFI, lnM_CELT, lnM_IMGS, lnM_IMGF, lnM_IMGX, lnM_ISMA]; omega) ?_ | (refine And.intro ?_ (by intro hz; exfalso; omega); intro hz9))
    intro p2 e2 T2; have hM := T2.m hM
    repeat (first | refine wtA (by decide) ?_ | refine wtM ?_ | refine wtL ?_ | refine step ?_ | refine Exists.intro _ (And.intro (congrFun hM _) ?_) | refine Exists.intro _ (And.intro rfl ?_) | refine And.intro rfl ?_ | refine And.intro trivial ?_ | (refine And.intro (by intro hz; exfalso; omega) ?_; intro hz9) | refine And.intro (by omega) ?_ | refine And.intro (by simp only [lnM_TAPE, lnM_SIGN, lnM_LENG, lnM_CLAU, lnM_CLSS, lnM_READ, lnM_OPEN, lnM_STCK, lnM_WORD, lnM_SAID, lnM_WASS, lnM_KEPT, lnM_FAR, lnM_WASI, lnM_OUTO, lnM_HASB, lnM_WHER, lnM_ISFI, lnM_CELT, lnM_IMGS, lnM_IMGF, lnM_IMGX, lnM_ISMA]; omega) ?_ | (refine And.intro ?_ (by intro hz; exfalso; omega); intro hz9))
    intro p3 e3 T3; have hM := T3.m hM
    repeat (first | refine wtA (by decide) ?_ | refine wtM ?_ | refine wtL ?_ | refine step ?_ | refine Exists.intro _ (And.intro (congrFun hM _) ?_) | refine Exists.intro _ (And.intro rfl ?_) | refine And.intro rfl ?_ | refine And.intro trivial ?_ | (refine And.intro (by intro hz; exfalso; omega) ?_; intro hz9) | refine And.intro (by omega) ?_ | refine And.intro (by simp only [lnM_TAPE, lnM_SIGN, lnM_LENG, lnM_CLAU, lnM_CLSS, lnM_READ, lnM_OPEN, lnM_STCK, lnM_WORD, lnM_SAID, lnM_WASS, lnM_KEPT, lnM_FAR, lnM_WASI, lnM_OUTO, lnM_HASB, lnM_WHER, lnM_ISFI, lnM_CELT, lnM_IMGS, lnM_IMGF, lnM_IMGX, lnM_ISMA]; omega) ?_ | (refine And.intro ?_ (by intro hz; exfalso; omega); intro hz9))
    refine K _ ?_ ((T1.tr T2).tr T3)
    rw [e3, e2, e1]
    unfold comesF
    rw [← hr, if_neg (by omega)]
  · repeat (first | refine wtA (by decide) ?_ | refine wtM ?_ | refine wtL ?_ | refine step ?_ | refine Exists.intro _ (And.intro (congrFun hM _) ?_) | refine Exists.intro _ (And.intro rfl ?_) | refine And.intro rfl ?_ | refine And.intro trivial ?_ | (refine And.intro (by intro hz; exfalso; omega) ?_; intro hz9) | refine And.intro (by omega) ?_ | refine And.intro (by simp only [lnM_TAPE, lnM_SIGN, lnM_LENG, lnM_CLAU, lnM_CLSS, lnM_READ, lnM_OPEN, lnM_STCK, lnM_WORD, lnM_SAID, lnM_WASS, lnM_KEPT, lnM_FAR, lnM_WASI, lnM_OUTO, lnM_HASB, lnM_WHER, lnM_ISFI, lnM_CELT, lnM_IMGS, lnM_IMGF, lnM_IMGX, lnM_ISMA]; omega) ?_ | (refine And.intro ?_ (by intro hz; exfalso; omega); intro hz9))
    refine K _ ?_ TA.rf
    unfold comesF
    rw [← hr, if_pos (by omega)]
theorem GS_of {s t : Int → Int} (he : ∀ m, m < 11 ∨ 46 ≤ m → t m = s m) (hS : GS s) : GS t := by
  obtain ⟨a1, a2, a3, a4, a5, a6⟩ := hS
  refine ⟨by rw [he 1 (by omega)]; exact a1, by rw [he 2 (by omega)]; exact a2, by rw [he 10 (by omega)]; exact a3, fun e h1 h2 => ?_, fun c h1 h2 => ?_, fun e h1 h2 => ?_⟩
  · rw [he (46 + e) (by omega)]; exact a4 e h1 h2
  · rw [he (50 + c) (by omega)]; exact a5 c h1 h2
  · rw [he (86 + e) (by omega)]; exact a6 e h1 h2
theorem GS_up {s : Int → Int} {k v : Int} (hS : GS s) (h1 : 11 ≤ k) (h2 : k < 46) : GS (upF s k v) := GS_of (fun m hm => if_neg (by omega)) hS
theorem GG_up {s : Int → Int} {b g k v : Int} (hG : GG b s g) (h1 : 11 ≤ k) (hv : (k = 11 + 7 * g → 0 ≤ v ∧ v < s 1 * s 1) ∧ (k = 11 + 7 * g + 1 → 0 ≤ v ∧ v ≤ 3) ∧ (k = 11 + 7 * g + 2 → 0 ≤ v ∧ v ≤ 99) ∧ (k = 11 + 7 * g + 3 → 0 ≤ v ∧ v ≤ 2) ∧ (k = 11 + 7 * g + 4 → 0 ≤ v ∧ v ≤ 9) ∧ (k = 11 + 7 * g + 5 → 0 ≤ v ∧ v < s 1) ∧ (k = 11 + 7 * g + 6 → 0 ≤ v ∧ v ≤ b)) : GG b (upF s k v) g := by
  have q1 : (upF s k v) 1 = s 1 := if_neg (by omega)
  obtain ⟨v0, v1, v2, v3, v4, v5, v6⟩ := hv
  obtain ⟨g0, g1, g2, g3, g4, g5, g6⟩ := hG
  have key : ∀ (m : Int) (P : Int → Prop), P (s m) → (k = m → P v) → P (upF s k v m) := fun m P hp hq => by
    show P (if m = k then v else s m)
    by_cases e : m = k
    · rw [if_pos e]; exact hq e.symm
    · rw [if_neg e]; exact hp
  unfold GG
  rw [q1]
  exact ⟨key _ (fun x => 0 ≤ x ∧ x < s 1 * s 1) g0 v0, key _ (fun x => 0 ≤ x ∧ x ≤ 3) g1 v1, key _ (fun x => 0 ≤ x ∧ x ≤ 99) g2 v2, key _ (fun x => 0 ≤ x ∧ x ≤ 2) g3 v3, key _ (fun x => 0 ≤ x ∧ x ≤ 9) g4 v4, key _ (fun x => 0 ≤ x ∧ x < s 1) g5 v5, key _ (fun x => 0 ≤ x ∧ x ≤ b) g6 v6⟩
/-- a goer's numbers are as they were -/
theorem GG_of {s t : Int → Int} {b g : Int} (e1 : t 1 = s 1) (he : ∀ m, 11 + 7 * g ≤ m → m < 11 + 7 * g + 7 → t m = s m) (hG : GG b s g) : GG b t g := by
  unfold GG
  rw [e1, he _ (by omega) (by omega), he _ (by omega) (by omega), he _ (by omega) (by omega), he _ (by omega) (by omega), he _ (by omega) (by omega), he _ (by omega) (by omega), he _ (by omega) (by omega)]
  exact hG
theorem GG_le {s : Int → Int} {b c g : Int} (h : b ≤ c) (hG : GG b s g) : GG c s g := ⟨hG.1, hG.2.1, hG.2.2.1, hG.2.2.2.1, hG.2.2.2.2.1, hG.2.2.2.2.2.1, hG.2.2.2.2.2.2.1, by have := hG.2.2.2.2.2.2.2; omega⟩
theorem t_goesOut {d : Nat} {h : AH} {Φ : OUT → AH → Prop} {b g : Int} (hM : hP h M = MP) (h1 : 0 ≤ g) (h2 : g < 5) (hS : GS (hI h mSAID)) (hG : GG b (hI h mSAID) g) (K : ∀ h1, hI h1 mSAID = outF (hI h mSAID) g → TA [mSAID] [] h h1 → Φ (.inl none) h1) : CT (d + 3) 0 0 J_X4_goesOut [vo M, vi g] h Φ := by
  refine e_X4_goesOut ?_
  intro k step keep
  obtain ⟨-, -, ⟨g1, g2⟩, -, ⟨g3, g4⟩, -, -⟩ := id hG
  repeat (first | refine wtA (by decide) ?_ | refine wtM ?_ | refine wtL ?_ | refine step ?_ | refine Exists.intro _ (And.intro (congrFun hM _) ?_) | refine Exists.intro _ (And.intro rfl ?_) | refine And.intro rfl ?_ | refine And.intro trivial ?_ | (refine And.intro (by intro hz; exfalso; omega) ?_; intro hz9) | refine And.intro (by omega) ?_ | refine And.intro (by simp only [lnM_TAPE, lnM_SIGN, lnM_LENG, lnM_CLAU, lnM_CLSS, lnM_READ, lnM_OPEN, lnM_STCK, lnM_WORD, lnM_SAID, lnM_WASS, lnM_KEPT, lnM_FAR, lnM_WASI, lnM_OUTO, lnM_HASB, lnM_WHER, lnM_ISFI, lnM_CELT, lnM_IMGS, lnM_IMGF, lnM_IMGX, lnM_ISMA]; omega) ?_ | (refine And.intro ?_ (by intro hz; exfalso; omega); intro hz9))
  refine And.intro (fun hc => ?_) (fun hc => ?_)
  · repeat (first | refine wtA (by decide) ?_ | refine wtM ?_ | refine wtL ?_ | refine step ?_ | refine Exists.intro _ (And.intro (congrFun hM _) ?_) | refine Exists.intro _ (And.intro rfl ?_) | refine And.intro rfl ?_ | refine And.intro trivial ?_ | (refine And.intro (by intro hz; exfalso; omega) ?_; intro hz9) | refine And.intro (by omega) ?_ | refine And.intro (by simp only [lnM_TAPE, lnM_SIGN, lnM_LENG, lnM_CLAU, lnM_CLSS, lnM_READ, lnM_OPEN, lnM_STCK, lnM_WORD, lnM_SAID, lnM_WASS, lnM_KEPT, lnM_FAR, lnM_WASI, lnM_OUTO, lnM_HASB, lnM_WHER, lnM_ISFI, lnM_CELT, lnM_IMGS, lnM_IMGF, lnM_IMGX, lnM_ISMA]; omega) ?_ | (refine And.intro ?_ (by intro hz; exfalso; omega); intro hz9))
    intro p1 e1 T1; have hM := T1.m hM
    have r1 : hI p1 mSAID (11 + 7 * g + 4) = hI h mSAID (11 + 7 * g + 4) := by rw [e1]; exact if_neg (by omega)
    repeat (first | refine wtA (by decide) ?_ | refine wtM ?_ | refine wtL ?_ | refine step ?_ | refine Exists.intro _ (And.intro (congrFun hM _) ?_) | refine Exists.intro _ (And.intro rfl ?_) | refine And.intro rfl ?_ | refine And.intro trivial ?_ | (refine And.intro (by intro hz; exfalso; omega) ?_; intro hz9) | refine And.intro (by omega) ?_ | refine And.intro (by simp only [lnM_TAPE, lnM_SIGN, lnM_LENG, lnM_CLAU, lnM_CLSS, lnM_READ, lnM_OPEN, lnM_STCK, lnM_WORD, lnM_SAID, lnM_WASS, lnM_KEPT, lnM_FAR, lnM_WASI, lnM_OUTO, lnM_HASB, lnM_WHER, lnM_ISFI, lnM_CELT, lnM_IMGS, lnM_IMGF, lnM_IMGX, lnM_ISMA]; omega) ?_ | (refine And.intro ?_ (by intro hz; exfalso; omega); intro hz9))
    refine And.intro (fun hd => ?_) (fun hd => ?_)
    · repeat (first | refine wtA (by decide) ?_ | refine wtM ?_ | refine wtL ?_ | refine step ?_ | refine Exists.intro _ (And.intro (congrFun hM _) ?_) | refine Exists.intro _ (And.intro rfl ?_) | refine And.intro rfl ?_ | refine And.intro trivial ?_ | (refine And.intro (by intro hz; exfalso; omega) ?_; intro hz9) | refine And.intro (by omega) ?_ | refine And.intro (by simp only [lnM_TAPE, lnM_SIGN, lnM_LENG, lnM_CLAU, lnM_CLSS, lnM_READ, lnM_OPEN, lnM_STCK, lnM_WORD, lnM_SAID, lnM_WASS, lnM_KEPT, lnM_FAR, lnM_WASI, lnM_OUTO, lnM_HASB, lnM_WHER, lnM_ISFI, lnM_CELT, lnM_IMGS, lnM_IMGF, lnM_IMGX, lnM_ISMA]; omega) ?_ | (refine And.intro ?_ (by intro hz; exfalso; omega); intro hz9))
      refine Or.inl (t_comesOn (b := b) hM h1 h2 ?_ ?_ (fun p2 e2 T2 => ?_))
      · rw [e1]; exact GS_up hS (by omega) (by omega)
      · rw [e1]; exact GG_up hG (by omega) (by omega)
      · repeat (first | refine wtA (by decide) ?_ | refine wtM ?_ | refine wtL ?_ | refine step ?_ | refine Exists.intro _ (And.intro (congrFun hM _) ?_) | refine Exists.intro _ (And.intro rfl ?_) | refine And.intro rfl ?_ | refine And.intro trivial ?_ | (refine And.intro (by intro hz; exfalso; omega) ?_; intro hz9) | refine And.intro (by omega) ?_ | refine And.intro (by simp only [lnM_TAPE, lnM_SIGN, lnM_LENG, lnM_CLAU, lnM_CLSS, lnM_READ, lnM_OPEN, lnM_STCK, lnM_WORD, lnM_SAID, lnM_WASS, lnM_KEPT, lnM_FAR, lnM_WASI, lnM_OUTO, lnM_HASB, lnM_WHER, lnM_ISFI, lnM_CELT, lnM_IMGS, lnM_IMGF, lnM_IMGX, lnM_ISMA]; omega) ?_ | (refine And.intro ?_ (by intro hz; exfalso; omega); intro hz9))
        refine K _ ?_ (T1.tr T2)
        rw [e2, e1]
        unfold outF
        rw [if_neg hc, if_neg (by omega)]
    · repeat (first | refine wtA (by decide) ?_ | refine wtM ?_ | refine wtL ?_ | refine step ?_ | refine Exists.intro _ (And.intro (congrFun hM _) ?_) | refine Exists.intro _ (And.intro rfl ?_) | refine And.intro rfl ?_ | refine And.intro trivial ?_ | (refine And.intro (by intro hz; exfalso; omega) ?_; intro hz9) | refine And.intro (by omega) ?_ | refine And.intro (by simp only [lnM_TAPE, lnM_SIGN, lnM_LENG, lnM_CLAU, lnM_CLSS, lnM_READ, lnM_OPEN, lnM_STCK, lnM_WORD, lnM_SAID, lnM_WASS, lnM_KEPT, lnM_FAR, lnM_WASI, lnM_OUTO, lnM_HASB, lnM_WHER, lnM_ISFI, lnM_CELT, lnM_IMGS, lnM_IMGF, lnM_IMGX, lnM_ISMA]; omega) ?_ | (refine And.intro ?_ (by intro hz; exfalso; omega); intro hz9))
      intro p2 e2 T2; have hM := T2.m hM
      repeat (first | refine wtA (by decide) ?_ | refine wtM ?_ | refine wtL ?_ | refine step ?_ | refine Exists.intro _ (And.intro (congrFun hM _) ?_) | refine Exists.intro _ (And.intro rfl ?_) | refine And.intro rfl ?_ | refine And.intro trivial ?_ | (refine And.intro (by intro hz; exfalso; omega) ?_; intro hz9) | refine And.intro (by omega) ?_ | refine And.intro (by simp only [lnM_TAPE, lnM_SIGN, lnM_LENG, lnM_CLAU, lnM_CLSS, lnM_READ, lnM_OPEN, lnM_STCK, lnM_WORD, lnM_SAID, lnM_WASS, lnM_KEPT, lnM_FAR, lnM_WASI, lnM_OUTO, lnM_HASB, lnM_WHER, lnM_ISFI, lnM_CELT, lnM_IMGS, lnM_IMGF, lnM_IMGX, lnM_ISMA]; omega) ?_ | (refine And.intro ?_ (by intro hz; exfalso; omega); intro hz9))
      refine K _ ?_ (T1.tr T2)
      rw [e2, r1, e1]
      unfold outF
      rw [if_neg hc, if_pos (by omega)]
  · repeat (first | refine wtA (by decide) ?_ | refine wtM ?_ | refine wtL ?_ | refine step ?_ | refine Exists.intro _ (And.intro (congrFun hM _) ?_) | refine Exists.intro _ (And.intro rfl ?_) | refine And.intro rfl ?_ | refine And.intro trivial ?_ | (refine And.intro (by intro hz; exfalso; omega) ?_; intro hz9) | refine And.intro (by omega) ?_ | refine And.intro (by simp only [lnM_TAPE, lnM_SIGN, lnM_LENG, lnM_CLAU, lnM_CLSS, lnM_READ, lnM_OPEN, lnM_STCK, lnM_WORD, lnM_SAID, lnM_WASS, lnM_KEPT, lnM_FAR, lnM_WASI, lnM_OUTO, lnM_HASB, lnM_WHER, lnM_ISFI, lnM_CELT, lnM_IMGS, lnM_IMGF, lnM_IMGX, lnM_ISMA]; omega) ?_ | (refine And.intro ?_ (by intro hz; exfalso; omega); intro hz9))
    intro p1 e1 T1; have hM := T1.m hM
    repeat (first | refine wtA (by decide) ?_ | refine wtM ?_ | refine wtL ?_ | refine step ?_ | refine Exists.intro _ (And.intro (congrFun hM _) ?_) | refine Exists.intro _ (And.intro rfl ?_) | refine And.intro rfl ?_ | refine And.intro trivial ?_ | (refine And.intro (by intro hz; exfalso; omega) ?_; intro hz9) | refine And.intro (by omega) ?_ | refine And.intro (by simp only [lnM_TAPE, lnM_SIGN, lnM_LENG, lnM_CLAU, lnM_CLSS, lnM_READ, lnM_OPEN, lnM_STCK, lnM_WORD, lnM_SAID, lnM_WASS, lnM_KEPT, lnM_FAR, lnM_WASI, lnM_OUTO, lnM_HASB, lnM_WHER, lnM_ISFI, lnM_CELT, lnM_IMGS, lnM_IMGF, lnM_IMGX, lnM_ISMA]; omega) ?_ | (refine And.intro ?_ (by intro hz; exfalso; omega); intro hz9))
    refine K _ ?_ T1
    rw [e1]
    unfold outF
    rw [if_pos hc]
theorem t_walks {d : Nat} {h : AH} {Φ : OUT → AH → Prop} {b g q : Int} (hM : hP h M = MP) (h1 : 0 ≤ g) (h2 : g < 5) (hS : GS (hI h mSAID)) (hG : GG b (hI h mSAID) g) (q0 : 0 ≤ q) (q3 : q ≤ 3)
    (HQ : ∀ Ψ : OUT → AH → Prop, (∀ p, TA [mWORD, mSTCK] [18] h p → Ψ (.inl (some (vi q))) p) → CT (d + 2) 0 0 J_X4_quartersOf [vo M, vi g] h Ψ) (K : ∀ h1, hI h1 mSAID = ongoF (turnF q (hI h mSAID) g) g → TA [mSAID, mWORD, mSTCK] [18] h h1 → Φ (.inl none) h1) : CT (d + 3) 0 0 J_X4_walks [vo M, vi g] h Φ := by
  refine e_X4_walks ?_
  intro k step keep
  obtain ⟨-, ⟨g1, g2⟩, -⟩ := id hG
  repeat (first | refine wtA (by decide) ?_ | refine wtM ?_ | refine wtL ?_ | refine step ?_ | refine Exists.intro _ (And.intro (congrFun hM _) ?_) | refine Exists.intro _ (And.intro rfl ?_) | refine And.intro rfl ?_ | refine And.intro trivial ?_ | (refine And.intro (by intro hz; exfalso; omega) ?_; intro hz9) | refine And.intro (by omega) ?_ | refine And.intro (by simp only [lnM_TAPE, lnM_SIGN, lnM_LENG, lnM_CLAU, lnM_CLSS, lnM_READ, lnM_OPEN, lnM_STCK, lnM_WORD, lnM_SAID, lnM_WASS, lnM_KEPT, lnM_FAR, lnM_WASI, lnM_OUTO, lnM_HASB, lnM_WHER, lnM_ISFI, lnM_CELT, lnM_IMGS, lnM_IMGF, lnM_IMGX, lnM_ISMA]; omega) ?_ | (refine And.intro ?_ (by intro hz; exfalso; omega); intro hz9))
  refine Or.inl (HQ _ (fun p0 T0 => ?_))
  have hM := T0.m hM
  have e0 : hI p0 mSAID = hI h mSAID := T0.i (by decide) (by decide)
  repeat (first | refine wtA (by decide) ?_ | refine wtM ?_ | refine wtL ?_ | refine step ?_ | refine Exists.intro _ (And.intro (congrFun hM _) ?_) | refine Exists.intro _ (And.intro rfl ?_) | refine And.intro rfl ?_ | refine And.intro trivial ?_ | (refine And.intro (by intro hz; exfalso; omega) ?_; intro hz9) | refine And.intro (by omega) ?_ | refine And.intro (by simp only [lnM_TAPE, lnM_SIGN, lnM_LENG, lnM_CLAU, lnM_CLSS, lnM_READ, lnM_OPEN, lnM_STCK, lnM_WORD, lnM_SAID, lnM_WASS, lnM_KEPT, lnM_FAR, lnM_WASI, lnM_OUTO, lnM_HASB, lnM_WHER, lnM_ISFI, lnM_CELT, lnM_IMGS, lnM_IMGF, lnM_IMGX, lnM_ISMA]; omega) ?_ | (refine And.intro ?_ (by intro hz; exfalso; omega); intro hz9))
  intro p1 e1 T1; have hM := T1.m hM
  have s1 : hI p1 mSAID = turnF q (hI h mSAID) g := by rw [e1, e0]; rfl
  have hS1 : GS (hI p1 mSAID) := by rw [s1]; exact GS_up hS (by omega) (by omega)
  have hG1 : GG b (hI p1 mSAID) g := by rw [s1]; exact GG_up hG (by omega) (by omega)
  have T01 : TA [mSAID, mWORD, mSTCK] [18] h p1 := (T0.up (by decide) (by decide)).tr (T1.up (by decide) (by decide))
  obtain ⟨⟨a1, a2⟩, -, ⟨a3, a4⟩, -, a5, a6⟩ := id hS1
  obtain ⟨⟨b1, b2⟩, ⟨b3, b4⟩, -, -, -, -, ⟨b5, b6⟩⟩ := id hG1
  have c1 := sq_le a1 a2
  have c2 := margF_ok (f := hI p1 mSAID (11 + 7 * g + 1)) a1 a2 b1 b2
  have c3 := nextF_ok a1 a2 b1 b2 b3 b4
  rw [← s1] at K
  repeat (first | refine wtA (by decide) ?_ | refine wtM ?_ | refine wtL ?_ | refine step ?_ | refine Exists.intro _ (And.intro (congrFun hM _) ?_) | refine Exists.intro _ (And.intro rfl ?_) | refine And.intro rfl ?_ | refine And.intro trivial ?_ | (refine And.intro (by intro hz; exfalso; omega) ?_; intro hz9) | refine And.intro (by omega) ?_ | refine And.intro (by simp only [lnM_TAPE, lnM_SIGN, lnM_LENG, lnM_CLAU, lnM_CLSS, lnM_READ, lnM_OPEN, lnM_STCK, lnM_WORD, lnM_SAID, lnM_WASS, lnM_KEPT, lnM_FAR, lnM_WASI, lnM_OUTO, lnM_HASB, lnM_WHER, lnM_ISFI, lnM_CELT, lnM_IMGS, lnM_IMGF, lnM_IMGX, lnM_ISMA]; omega) ?_ | (refine And.intro ?_ (by intro hz; exfalso; omega); intro hz9))
  refine Or.inl (t_nextOf hM b1 (by omega) a1 a2 (by omega) (by omega) (fun r hr => ?_))
  rw [← hr] at c3
  repeat (first | refine wtA (by decide) ?_ | refine wtM ?_ | refine wtL ?_ | refine step ?_ | refine Exists.intro _ (And.intro (congrFun hM _) ?_) | refine Exists.intro _ (And.intro rfl ?_) | refine And.intro rfl ?_ | refine And.intro trivial ?_ | (refine And.intro (by intro hz; exfalso; omega) ?_; intro hz9) | refine And.intro (by omega) ?_ | refine And.intro (by simp only [lnM_TAPE, lnM_SIGN, lnM_LENG, lnM_CLAU, lnM_CLSS, lnM_READ, lnM_OPEN, lnM_STCK, lnM_WORD, lnM_SAID, lnM_WASS, lnM_KEPT, lnM_FAR, lnM_WASI, lnM_OUTO, lnM_HASB, lnM_WHER, lnM_ISFI, lnM_CELT, lnM_IMGS, lnM_IMGF, lnM_IMGX, lnM_ISMA]; omega) ?_ | (refine And.intro ?_ (by intro hz; exfalso; omega); intro hz9))
  refine And.intro (fun hc => ?_) (fun hc => ?_)
  · have c4 := a5 r (by omega) (by omega)
    repeat (first | refine wtA (by decide) ?_ | refine wtM ?_ | refine wtL ?_ | refine step ?_ | refine Exists.intro _ (And.intro (congrFun hM _) ?_) | refine Exists.intro _ (And.intro rfl ?_) | refine And.intro rfl ?_ | refine And.intro trivial ?_ | (refine And.intro (by intro hz; exfalso; omega) ?_; intro hz9) | refine And.intro (by omega) ?_ | refine And.intro (by simp only [lnM_TAPE, lnM_SIGN, lnM_LENG, lnM_CLAU, lnM_CLSS, lnM_READ, lnM_OPEN, lnM_STCK, lnM_WORD, lnM_SAID, lnM_WASS, lnM_KEPT, lnM_FAR, lnM_WASI, lnM_OUTO, lnM_HASB, lnM_WHER, lnM_ISFI, lnM_CELT, lnM_IMGS, lnM_IMGF, lnM_IMGX, lnM_ISMA]; omega) ?_ | (refine And.intro ?_ (by intro hz; exfalso; omega); intro hz9))
    refine Or.inl (t_isStone hM (by omega) (by omega) c4 ?_)
    repeat (first | refine wtA (by decide) ?_ | refine wtM ?_ | refine wtL ?_ | refine step ?_ | refine Exists.intro _ (And.intro (congrFun hM _) ?_) | refine Exists.intro _ (And.intro rfl ?_) | refine And.intro rfl ?_ | refine And.intro trivial ?_ | (refine And.intro (by intro hz; exfalso; omega) ?_; intro hz9) | refine And.intro (by omega) ?_ | refine And.intro (by simp only [lnM_TAPE, lnM_SIGN, lnM_LENG, lnM_CLAU, lnM_CLSS, lnM_READ, lnM_OPEN, lnM_STCK, lnM_WORD, lnM_SAID, lnM_WASS, lnM_KEPT, lnM_FAR, lnM_WASI, lnM_OUTO, lnM_HASB, lnM_WHER, lnM_ISFI, lnM_CELT, lnM_IMGS, lnM_IMGF, lnM_IMGX, lnM_ISMA]; omega) ?_ | (refine And.intro ?_ (by intro hz; exfalso; omega); intro hz9))
    refine And.intro (fun hd => ?_) (fun hd => ?_)
    · repeat (first | refine wtA (by decide) ?_ | refine wtM ?_ | refine wtL ?_ | refine step ?_ | refine Exists.intro _ (And.intro (congrFun hM _) ?_) | refine Exists.intro _ (And.intro rfl ?_) | refine And.intro rfl ?_ | refine And.intro trivial ?_ | (refine And.intro (by intro hz; exfalso; omega) ?_; intro hz9) | refine And.intro (by omega) ?_ | refine And.intro (by simp only [lnM_TAPE, lnM_SIGN, lnM_LENG, lnM_CLAU, lnM_CLSS, lnM_READ, lnM_OPEN, lnM_STCK, lnM_WORD, lnM_SAID, lnM_WASS, lnM_KEPT, lnM_FAR, lnM_WASI, lnM_OUTO, lnM_HASB, lnM_WHER, lnM_ISFI, lnM_CELT, lnM_IMGS, lnM_IMGF, lnM_IMGX, lnM_ISMA]; omega) ?_ | (refine And.intro ?_ (by intro hz; exfalso; omega); intro hz9))
      refine K _ ?_ T01
      unfold ongoF
      rw [← hr, if_neg (by omega), if_pos (by omega)]
    · repeat (first | refine wtA (by decide) ?_ | refine wtM ?_ | refine wtL ?_ | refine step ?_ | refine Exists.intro _ (And.intro (congrFun hM _) ?_) | refine Exists.intro _ (And.intro rfl ?_) | refine And.intro rfl ?_ | refine And.intro trivial ?_ | (refine And.intro (by intro hz; exfalso; omega) ?_; intro hz9) | refine And.intro (by omega) ?_ | refine And.intro (by simp only [lnM_TAPE, lnM_SIGN, lnM_LENG, lnM_CLAU, lnM_CLSS, lnM_READ, lnM_OPEN, lnM_STCK, lnM_WORD, lnM_SAID, lnM_WASS, lnM_KEPT, lnM_FAR, lnM_WASI, lnM_OUTO, lnM_HASB, lnM_WHER, lnM_ISFI, lnM_CELT, lnM_IMGS, lnM_IMGF, lnM_IMGX, lnM_ISMA]; omega) ?_ | (refine And.intro ?_ (by intro hz; exfalso; omega); intro hz9))
      intro p2 e2 T2; have hM := T2.m hM
      repeat (first | refine wtA (by decide) ?_ | refine wtM ?_ | refine wtL ?_ | refine step ?_ | refine Exists.intro _ (And.intro (congrFun hM _) ?_) | refine Exists.intro _ (And.intro rfl ?_) | refine And.intro rfl ?_ | refine And.intro trivial ?_ | (refine And.intro (by intro hz; exfalso; omega) ?_; intro hz9) | refine And.intro (by omega) ?_ | refine And.intro (by simp only [lnM_TAPE, lnM_SIGN, lnM_LENG, lnM_CLAU, lnM_CLSS, lnM_READ, lnM_OPEN, lnM_STCK, lnM_WORD, lnM_SAID, lnM_WASS, lnM_KEPT, lnM_FAR, lnM_WASI, lnM_OUTO, lnM_HASB, lnM_WHER, lnM_ISFI, lnM_CELT, lnM_IMGS, lnM_IMGF, lnM_IMGX, lnM_ISMA]; omega) ?_ | (refine And.intro ?_ (by intro hz; exfalso; omega); intro hz9))
      refine K _ ?_ (T01.tr (T2.up (by decide) (by decide)))
      rw [e2]
      unfold ongoF
      rw [← hr, if_neg (by omega), if_neg (by omega)]
  · repeat (first | refine wtA (by decide) ?_ | refine wtM ?_ | refine wtL ?_ | refine step ?_ | refine Exists.intro _ (And.intro (congrFun hM _) ?_) | refine Exists.intro _ (And.intro rfl ?_) | refine And.intro rfl ?_ | refine And.intro trivial ?_ | (refine And.intro (by intro hz; exfalso; omega) ?_; intro hz9) | refine And.intro (by omega) ?_ | refine And.intro (by simp only [lnM_TAPE, lnM_SIGN, lnM_LENG, lnM_CLAU, lnM_CLSS, lnM_READ, lnM_OPEN, lnM_STCK, lnM_WORD, lnM_SAID, lnM_WASS, lnM_KEPT, lnM_FAR, lnM_WASI, lnM_OUTO, lnM_HASB, lnM_WHER, lnM_ISFI, lnM_CELT, lnM_IMGS, lnM_IMGF, lnM_IMGX, lnM_ISMA]; omega) ?_ | (refine And.intro ?_ (by intro hz; exfalso; omega); intro hz9))
    intro p2 e2 T2; have hM := T2.m hM
    have f2 : ∀ m, m ≠ 11 + 7 * g + 3 → hI p2 mSAID m = hI p1 mSAID m := fun m hm => (congrFun e2 m).trans (if_neg hm)
    have x1 := f2 (11 + 7 * g + 1) (by omega)
    have x2 := f2 (86 + hI p1 mSAID (11 + 7 * g + 1)) (by omega)
    have x3 := f2 1 (by omega)
    have x4 := f2 (11 + 7 * g) (by omega)
    have x5 := f2 (11 + 7 * g + 6) (by omega)
    repeat (first | refine wtA (by decide) ?_ | refine wtM ?_ | refine wtL ?_ | refine step ?_ | refine Exists.intro _ (And.intro (congrFun hM _) ?_) | refine Exists.intro _ (And.intro rfl ?_) | refine And.intro rfl ?_ | refine And.intro trivial ?_ | (refine And.intro (by intro hz; exfalso; omega) ?_; intro hz9) | refine And.intro (by omega) ?_ | refine And.intro (by simp only [lnM_TAPE, lnM_SIGN, lnM_LENG, lnM_CLAU, lnM_CLSS, lnM_READ, lnM_OPEN, lnM_STCK, lnM_WORD, lnM_SAID, lnM_WASS, lnM_KEPT, lnM_FAR, lnM_WASI, lnM_OUTO, lnM_HASB, lnM_WHER, lnM_ISFI, lnM_CELT, lnM_IMGS, lnM_IMGF, lnM_IMGX, lnM_ISMA]; omega) ?_ | (refine And.intro ?_ (by intro hz; exfalso; omega); intro hz9))
    intro p3 e3 T3; have hM := T3.m hM
    have f3 : ∀ m, m ≠ 11 + 7 * g + 4 → hI p3 mSAID m = hI p2 mSAID m := fun m hm => (congrFun e3 m).trans (if_neg hm)
    have y1 := f3 (11 + 7 * g + 1) (by omega)
    have y3 := f3 1 (by omega)
    have y4 := f3 (11 + 7 * g) (by omega)
    have y5 := f3 (11 + 7 * g + 6) (by omega)
    repeat (first | refine wtA (by decide) ?_ | refine wtM ?_ | refine wtL ?_ | refine step ?_ | refine Exists.intro _ (And.intro (congrFun hM _) ?_) | refine Exists.intro _ (And.intro rfl ?_) | refine And.intro rfl ?_ | refine And.intro trivial ?_ | (refine And.intro (by intro hz; exfalso; omega) ?_; intro hz9) | refine And.intro (by omega) ?_ | refine And.intro (by simp only [lnM_TAPE, lnM_SIGN, lnM_LENG, lnM_CLAU, lnM_CLSS, lnM_READ, lnM_OPEN, lnM_STCK, lnM_WORD, lnM_SAID, lnM_WASS, lnM_KEPT, lnM_FAR, lnM_WASI, lnM_OUTO, lnM_HASB, lnM_WHER, lnM_ISFI, lnM_CELT, lnM_IMGS, lnM_IMGF, lnM_IMGX, lnM_ISMA]; omega) ?_ | (refine And.intro ?_ (by intro hz; exfalso; omega); intro hz9))
    refine Or.inl (t_placeAlong hM (by omega) (by omega) (by omega) (by omega) (by omega) (by omega) (fun r2 hr2 => ?_))
    repeat (first | refine wtA (by decide) ?_ | refine wtM ?_ | refine wtL ?_ | refine step ?_ | refine Exists.intro _ (And.intro (congrFun hM _) ?_) | refine Exists.intro _ (And.intro rfl ?_) | refine And.intro rfl ?_ | refine And.intro trivial ?_ | (refine And.intro (by intro hz; exfalso; omega) ?_; intro hz9) | refine And.intro (by omega) ?_ | refine And.intro (by simp only [lnM_TAPE, lnM_SIGN, lnM_LENG, lnM_CLAU, lnM_CLSS, lnM_READ, lnM_OPEN, lnM_STCK, lnM_WORD, lnM_SAID, lnM_WASS, lnM_KEPT, lnM_FAR, lnM_WASI, lnM_OUTO, lnM_HASB, lnM_WHER, lnM_ISFI, lnM_CELT, lnM_IMGS, lnM_IMGF, lnM_IMGX, lnM_ISMA]; omega) ?_ | (refine And.intro ?_ (by intro hz; exfalso; omega); intro hz9))
    intro p4 e4 T4; have hM := T4.m hM
    have z5 : hI p4 mSAID (11 + 7 * g + 6) = hI p3 mSAID (11 + 7 * g + 6) := (congrFun e4 _).trans (if_neg (by omega))
    repeat (first | refine wtA (by decide) ?_ | refine wtM ?_ | refine wtL ?_ | refine step ?_ | refine Exists.intro _ (And.intro (congrFun hM _) ?_) | refine Exists.intro _ (And.intro rfl ?_) | refine And.intro rfl ?_ | refine And.intro trivial ?_ | (refine And.intro (by intro hz; exfalso; omega) ?_; intro hz9) | refine And.intro (by omega) ?_ | refine And.intro (by simp only [lnM_TAPE, lnM_SIGN, lnM_LENG, lnM_CLAU, lnM_CLSS, lnM_READ, lnM_OPEN, lnM_STCK, lnM_WORD, lnM_SAID, lnM_WASS, lnM_KEPT, lnM_FAR, lnM_WASI, lnM_OUTO, lnM_HASB, lnM_WHER, lnM_ISFI, lnM_CELT, lnM_IMGS, lnM_IMGF, lnM_IMGX, lnM_ISMA]; omega) ?_ | (refine And.intro ?_ (by intro hz; exfalso; omega); intro hz9))
    intro p5 e5 T5; have hM := T5.m hM
    repeat (first | refine wtA (by decide) ?_ | refine wtM ?_ | refine wtL ?_ | refine step ?_ | refine Exists.intro _ (And.intro (congrFun hM _) ?_) | refine Exists.intro _ (And.intro rfl ?_) | refine And.intro rfl ?_ | refine And.intro trivial ?_ | (refine And.intro (by intro hz; exfalso; omega) ?_; intro hz9) | refine And.intro (by omega) ?_ | refine And.intro (by simp only [lnM_TAPE, lnM_SIGN, lnM_LENG, lnM_CLAU, lnM_CLSS, lnM_READ, lnM_OPEN, lnM_STCK, lnM_WORD, lnM_SAID, lnM_WASS, lnM_KEPT, lnM_FAR, lnM_WASI, lnM_OUTO, lnM_HASB, lnM_WHER, lnM_ISFI, lnM_CELT, lnM_IMGS, lnM_IMGF, lnM_IMGX, lnM_ISMA]; omega) ?_ | (refine And.intro ?_ (by intro hz; exfalso; omega); intro hz9))
    refine K _ ?_ ((((T01.tr (T2.up (by decide) (by decide))).tr (T3.up (by decide) (by decide))).tr (T4.up (by decide) (by decide))).tr (T5.up (by decide) (by decide)))
    rw [e5, z5, y5, x5, e4, hr2, y3, x3, y4, x4, y1, x1, e3, x1, x2, e2]
    unfold ongoF
    rw [← hr, if_pos (by omega)]
/-! what one goer's step keeps -/
theorem comesF_out {s : Int → Int} {g m : Int} (hm : m < 11 + 7 * g ∨ 11 + 7 * g + 7 ≤ m) : comesF s g m = s m := by
  unfold comesF
  split
  · rfl
  · simp only [upF]
    rw [if_neg (by omega), if_neg (by omega), if_neg (by omega)]
theorem outF_out {s : Int → Int} {g m : Int} (hm : m < 11 + 7 * g ∨ 11 + 7 * g + 7 ≤ m) : outF s g m = s m := by
  unfold outF
  split
  · simp only [upF]
    rw [if_neg (by omega)]
  · split
    · simp only [upF]
      rw [if_neg (by omega), if_neg (by omega)]
    · rw [comesF_out hm]
      simp only [upF]
      rw [if_neg (by omega)]
theorem ongoF_out {s : Int → Int} {g m : Int} (hm : m < 11 + 7 * g ∨ 11 + 7 * g + 7 ≤ m) : ongoF s g m = s m := by
  unfold ongoF
  split
  · simp only [upF]
    rw [if_neg (by omega), if_neg (by omega), if_neg (by omega), if_neg (by omega)]
  · split
    · rfl
    · simp only [upF]
      rw [if_neg (by omega)]
theorem comesF_ok {s : Int → Int} {b g : Int} (h1 : 0 ≤ g) (hS : GS s) (hG : GG b s g) : GG b (comesF s g) g := by
  obtain ⟨⟨a1, a2⟩, -, -, a4, a5, -⟩ := hS
  obtain ⟨-, ⟨g1, g2⟩, -, -, -, ⟨g5, g6⟩, -⟩ := id hG
  have a6 := a4 _ g1 (by omega)
  have c1 := cellF_ok (e := s (46 + s (11 + 7 * g + 1))) a1 a2 g5 g6
  unfold comesF
  split
  · exact hG
  · exact GG_up (GG_up (GG_up hG (by omega) (by omega)) (by omega) (by omega)) (by omega) (by omega)
theorem outF_ok {s : Int → Int} {b g : Int} (h1 : 0 ≤ g) (h2 : g < 5) (hS : GS s) (hG : GG b s g) : GG b (outF s g) g := by
  obtain ⟨-, -, ⟨g1, g2⟩, -, ⟨g3, g4⟩, -, -⟩ := id hG
  unfold outF
  split
  · exact GG_up hG (by omega) (by omega)
  · split
    · exact GG_up (GG_up hG (by omega) (by omega)) (by omega) (by omega)
    · exact comesF_ok h1 (GS_up hS (by omega) (by omega)) (GG_up hG (by omega) (by omega))
theorem ongoF_ok {s : Int → Int} {b g : Int} (h1 : 0 ≤ g) (hS : GS s) (hG : GG b s g) : GG (b + 1) (ongoF s g) g := by
  obtain ⟨⟨a1, a2⟩, -, -, -, -, a6⟩ := hS
  obtain ⟨⟨b1, b2⟩, ⟨b3, b4⟩, -, -, -, -, ⟨b5, b6⟩⟩ := id hG
  have c3 := nextF_ok a1 a2 b1 b2 b3 b4
  have c4 := alonF_ok (f := s (11 + 7 * g + 1)) a1 a2 b1 b2
  have c5 := a6 _ b3 (by omega)
  have hG := GG_le (show b ≤ b + 1 by omega) hG
  unfold ongoF
  split
  · refine GG_up (GG_up (GG_up (GG_up hG (by omega) (by omega)) (by omega) (by omega)) (by omega) ?_) (by omega) (by omega)
    have e1 : (upF (upF s (11 + 7 * g + 3) 1) (11 + 7 * g + 4) (s (86 + s (11 + 7 * g + 1)))) 1 = s 1 := by
      simp only [upF]
      rw [if_neg (by omega), if_neg (by omega)]
    rw [e1]
    omega
  · split
    · exact hG
    · exact GG_up hG (by omega) (by omega)
theorem turnF_ok {s : Int → Int} {b g q : Int} (h1 : 0 ≤ g) (q0 : 0 ≤ q) (hG : GG b s g) : GG b (turnF q s g) g := by
  obtain ⟨-, ⟨g1, g2⟩, -⟩ := id hG
  exact GG_up hG (by omega) (by omega)
/-! a step of all -/
def oneF (q : (Int → Int) → Int → Int) (s : Int → Int) (g : Int) : Int → Int := if s (11 + 7 * g + 3) = 0 then ongoF (turnF (q s g) s g) g else if s (11 + 7 * g + 3) = 1 then outF s g else s
def goF (q : (Int → Int) → Int → Int) : Nat → Int → (Int → Int) → Int → Int
  | 0, _, s => s
  | n + 1, g, s => goF q n (g + 1) (oneF q s g)
def passF (q : (Int → Int) → Int → Int) (s : Int → Int) : Int → Int := upF (goF q (s 2).toNat 0 s) 10 (goF q (s 2).toNat 0 s 10 + 1)
def passN (q : (Int → Int) → Int → Int) : Nat → (Int → Int) → Int → Int
  | 0, s => s
  | n + 1, s => passN q n (passF q s)
theorem oneF_out {q : (Int → Int) → Int → Int} {s : Int → Int} {g m : Int} (hm : m < 11 + 7 * g ∨ 11 + 7 * g + 7 ≤ m) : oneF q s g m = s m := by
  unfold oneF
  split
  · rw [ongoF_out hm]
    unfold turnF
    simp only [upF]
    rw [if_neg (by omega)]
  · split
    · exact outF_out hm
    · rfl
theorem oneF_GS {q : (Int → Int) → Int → Int} {s : Int → Int} {g : Int} (h1 : 0 ≤ g) (h2 : g < 5) (hS : GS s) : GS (oneF q s g) := GS_of (fun m hm => oneF_out (by omega)) hS
theorem oneF_ok {q : (Int → Int) → Int → Int} {s : Int → Int} {b g : Int} (h1 : 0 ≤ g) (h2 : g < 5) (q0 : 0 ≤ q s g) (hS : GS s) (hG : GG b s g) : GG (b + 1) (oneF q s g) g := by
  unfold oneF
  split
  · exact ongoF_ok h1 (GS_up hS (by omega) (by omega)) (turnF_ok h1 q0 hG)
  · split
    · exact GG_le (by omega) (outF_ok h1 h2 hS hG)
    · exact GG_le (by omega) hG
/-- the state between two goers' steps -/
def MID (b : Int) (s : Int → Int) (g : Int) : Prop := GS s ∧ (∀ x, 0 ≤ x → x < g → x < 5 → GG (b + 1) s x) ∧ ∀ x, g ≤ x → x < 5 → GG b s x
theorem MID_next {q : (Int → Int) → Int → Int} {s : Int → Int} {b g : Int} (h1 : 0 ≤ g) (h2 : g < 5) (q0 : 0 ≤ q s g) (hm : MID b s g) : MID b (oneF q s g) (g + 1) := by
  obtain ⟨hS, ha, hb⟩ := hm
  refine ⟨oneF_GS h1 h2 hS, fun x x0 x1 x2 => ?_, fun x x0 x1 => ?_⟩
  · by_cases e : x = g
    · subst e
      exact oneF_ok h1 h2 q0 hS (hb _ (by omega) h2)
    · exact GG_of (oneF_out (by omega)) (fun m m0 m1 => oneF_out (by omega)) (ha x x0 (by omega) x2)
  · exact GG_of (oneF_out (by omega)) (fun m m0 m1 => oneF_out (by omega)) (hb x (by omega) x1)
/-- what a state of a sheet keeps, its step at most b -/
def GA (b : Int) (s : Int → Int) : Prop := GS s ∧ s 10 ≤ b ∧ ∀ g, 0 ≤ g → g < 5 → GG b s g
abbrev QOK (q : (Int → Int) → Int → Int) : Prop := ∀ s g, 0 ≤ q s g ∧ q s g ≤ 3
/-- the contract of one goer's turns, all through a run from h -/
def HQt (q : (Int → Int) → Int → Int) (d : Nat) (h : AH) : Prop := ∀ (p : AH) (b g : Int), b ≤ 200000 → TA [mSAID, mWORD, mSTCK] [18] h p → GS (hI p mSAID) → (∀ x, 0 ≤ x → x < 5 → GG b (hI p mSAID) x) → 0 ≤ g → g < hI p mSAID 2 → hI p mSAID (11 + 7 * g + 3) = 0 → ∀ Ψ : OUT → AH → Prop, (∀ p2, TA [mWORD, mSTCK] [18] p p2 → Ψ (.inl (some (vi (q (hI p mSAID) g)))) p2) → CT d 0 0 J_X4_quartersOf [vo M, vi g] p Ψ
theorem t_passes {d : Nat} {h : AH} {Φ : OUT → AH → Prop} {q : (Int → Int) → Int → Int} {b : Int} (hM : hP h M = MP) (hq : QOK q) (hA : GA b (hI h mSAID)) (hbb : b ≤ 100000) (HQ : HQt q (d + 2) h)
    (K : ∀ p, hI p mSAID = passF q (hI h mSAID) → TA [mSAID, mWORD, mSTCK] [18] h p → Φ (.inl none) p) : CT (d + 4) 0 0 J_X4_passes [vo M] h Φ := by
  refine e_X4_passes ?_
  intro k step keep
  obtain ⟨hS, hb, hG⟩ := hA
  have loop : ∀ (n : Nat) (g : Int) (p : AH), hP p M = MP → 0 ≤ g → g + n = hI p mSAID 2 → TA [mSAID, mWORD, mSTCK] [18] h p → MID b (hI p mSAID) g → (∀ p2, hI p2 mSAID = upF (goF q n g (hI p mSAID)) 10 (goF q n g (hI p mSAID) 10 + 1) → TA [mSAID, mWORD, mSTCK] [18] h p2 → Φ (.inl none) p2) → k 0 0 2 [(0, vo M), (1, vi g)] [] p := by
    intro n
    induction n with
    | zero =>
      intro g p hM h0 hn T hm hΦ
      obtain ⟨⟨-, ⟨a1, a2⟩, -⟩, -⟩ := id hm
      repeat (first | refine wtA (by decide) ?_ | refine wtM ?_ | refine wtL ?_ | refine step ?_ | refine Exists.intro _ (And.intro (congrFun hM _) ?_) | refine Exists.intro _ (And.intro rfl ?_) | refine And.intro rfl ?_ | refine And.intro trivial ?_ | (refine And.intro (by intro hz; exfalso; omega) ?_; intro hz9) | refine And.intro (by omega) ?_ | refine And.intro (by simp only [lnM_TAPE, lnM_SIGN, lnM_LENG, lnM_CLAU, lnM_CLSS, lnM_READ, lnM_OPEN, lnM_STCK, lnM_WORD, lnM_SAID, lnM_WASS, lnM_KEPT, lnM_FAR, lnM_WASI, lnM_OUTO, lnM_HASB, lnM_WHER, lnM_ISFI, lnM_CELT, lnM_IMGS, lnM_IMGF, lnM_IMGX, lnM_ISMA]; omega) ?_ | (refine And.intro ?_ (by intro hz; exfalso; omega); intro hz9))
      intro p1 e1 T1; have hM := T1.m hM
      repeat (first | refine wtA (by decide) ?_ | refine wtM ?_ | refine wtL ?_ | refine step ?_ | refine Exists.intro _ (And.intro (congrFun hM _) ?_) | refine Exists.intro _ (And.intro rfl ?_) | refine And.intro rfl ?_ | refine And.intro trivial ?_ | (refine And.intro (by intro hz; exfalso; omega) ?_; intro hz9) | refine And.intro (by omega) ?_ | refine And.intro (by simp only [lnM_TAPE, lnM_SIGN, lnM_LENG, lnM_CLAU, lnM_CLSS, lnM_READ, lnM_OPEN, lnM_STCK, lnM_WORD, lnM_SAID, lnM_WASS, lnM_KEPT, lnM_FAR, lnM_WASI, lnM_OUTO, lnM_HASB, lnM_WHER, lnM_ISFI, lnM_CELT, lnM_IMGS, lnM_IMGF, lnM_IMGX, lnM_ISMA]; omega) ?_ | (refine And.intro ?_ (by intro hz; exfalso; omega); intro hz9))
      exact hΦ _ e1 (T.tr (T1.up (by decide) (by decide)))
    | succ n ih =>
      intro g p hM h0 hn T hm hΦ
      obtain ⟨hS, ha, hb⟩ := id hm
      obtain ⟨-, ⟨a1, a2⟩, -⟩ := id hS
      have hg := hb g (by omega) (by omega)
      obtain ⟨-, -, -, ⟨g1, g2⟩, -⟩ := id hg
      have hall : ∀ x, 0 ≤ x → x < 5 → GG (b + 1) (hI p mSAID) x := fun x x0 x1 => by
        by_cases hx : x < g
        · exact ha x x0 hx x1
        · exact GG_le (by omega) (hb x (by omega) x1)
      have hmn := MID_next (q := q) h0 (by omega) (hq _ g).1 hm
      unfold goF at hΦ
      have e2 : oneF q (hI p mSAID) g 2 = hI p mSAID 2 := oneF_out (by omega)
      have next : ∀ p2, hI p2 mSAID = oneF q (hI p mSAID) g → TA [mSAID, mWORD, mSTCK] [18] p p2 → k 0 0 2 [(0, vo M), (1, vi (g + 1))] [] p2 := by
        intro p2 e T2
        refine ih (g + 1) p2 (T2.m hM) (by omega) ?_ (T.tr T2) ?_ ?_
        · rw [e, e2]; omega
        · rw [e]; exact hmn
        · rw [e]; exact hΦ
      refine step ?_
      repeat (first | refine wtA (by decide) ?_ | refine wtM ?_ | refine wtL ?_ | refine step ?_ | refine Exists.intro _ (And.intro (congrFun hM _) ?_) | refine Exists.intro _ (And.intro rfl ?_) | refine And.intro rfl ?_ | refine And.intro trivial ?_ | (refine And.intro (by intro hz; exfalso; omega) ?_; intro hz9) | refine And.intro (by omega) ?_ | refine And.intro (by simp only [lnM_TAPE, lnM_SIGN, lnM_LENG, lnM_CLAU, lnM_CLSS, lnM_READ, lnM_OPEN, lnM_STCK, lnM_WORD, lnM_SAID, lnM_WASS, lnM_KEPT, lnM_FAR, lnM_WASI, lnM_OUTO, lnM_HASB, lnM_WHER, lnM_ISFI, lnM_CELT, lnM_IMGS, lnM_IMGF, lnM_IMGX, lnM_ISMA]; omega) ?_ | (refine And.intro ?_ (by intro hz; exfalso; omega); intro hz9))
      refine Or.inl (t_isOn hM h0 (by omega) (by omega) ?_)
      by_cases hc : hI p mSAID (11 + 7 * g + 3) = 0
      · rw [if_pos hc]
        repeat (first | refine wtA (by decide) ?_ | refine wtM ?_ | refine wtL ?_ | refine step ?_ | refine Exists.intro _ (And.intro (congrFun hM _) ?_) | refine Exists.intro _ (And.intro rfl ?_) | refine And.intro rfl ?_ | refine And.intro trivial ?_ | (refine And.intro (by intro hz; exfalso; omega) ?_; intro hz9) | refine And.intro (by omega) ?_ | refine And.intro (by simp only [lnM_TAPE, lnM_SIGN, lnM_LENG, lnM_CLAU, lnM_CLSS, lnM_READ, lnM_OPEN, lnM_STCK, lnM_WORD, lnM_SAID, lnM_WASS, lnM_KEPT, lnM_FAR, lnM_WASI, lnM_OUTO, lnM_HASB, lnM_WHER, lnM_ISFI, lnM_CELT, lnM_IMGS, lnM_IMGF, lnM_IMGX, lnM_ISMA]; omega) ?_ | (refine And.intro ?_ (by intro hz; exfalso; omega); intro hz9))
        refine Or.inl (t_walks hM h0 (by omega) hS hg (hq _ g).1 (hq _ g).2 (HQ p (b + 1) g (by omega) T hS hall h0 (by omega) hc) (fun p2 e T2 => ?_))
        repeat (first | (exact next p2 (by rw [e]; unfold oneF; rw [if_pos hc]) T2) | refine wtA (by decide) ?_ | refine wtM ?_ | refine wtL ?_ | refine step ?_ | refine Exists.intro _ (And.intro (congrFun hM _) ?_) | refine Exists.intro _ (And.intro rfl ?_) | refine And.intro rfl ?_ | refine And.intro trivial ?_ | (refine And.intro (by intro hz; exfalso; omega) ?_; intro hz9) | refine And.intro (by omega) ?_ | refine And.intro (by simp only [lnM_TAPE, lnM_SIGN, lnM_LENG, lnM_CLAU, lnM_CLSS, lnM_READ, lnM_OPEN, lnM_STCK, lnM_WORD, lnM_SAID, lnM_WASS, lnM_KEPT, lnM_FAR, lnM_WASI, lnM_OUTO, lnM_HASB, lnM_WHER, lnM_ISFI, lnM_CELT, lnM_IMGS, lnM_IMGF, lnM_IMGX, lnM_ISMA]; omega) ?_ | (refine And.intro ?_ (by intro hz; exfalso; omega); intro hz9))
      · rw [if_neg hc]
        repeat (first | refine wtA (by decide) ?_ | refine wtM ?_ | refine wtL ?_ | refine step ?_ | refine Exists.intro _ (And.intro (congrFun hM _) ?_) | refine Exists.intro _ (And.intro rfl ?_) | refine And.intro rfl ?_ | refine And.intro trivial ?_ | (refine And.intro (by intro hz; exfalso; omega) ?_; intro hz9) | refine And.intro (by omega) ?_ | refine And.intro (by simp only [lnM_TAPE, lnM_SIGN, lnM_LENG, lnM_CLAU, lnM_CLSS, lnM_READ, lnM_OPEN, lnM_STCK, lnM_WORD, lnM_SAID, lnM_WASS, lnM_KEPT, lnM_FAR, lnM_WASI, lnM_OUTO, lnM_HASB, lnM_WHER, lnM_ISFI, lnM_CELT, lnM_IMGS, lnM_IMGF, lnM_IMGX, lnM_ISMA]; omega) ?_ | (refine And.intro ?_ (by intro hz; exfalso; omega); intro hz9))
        refine Or.inl (t_statusOf hM h0 (by omega) ?_)
        repeat (first | refine wtA (by decide) ?_ | refine wtM ?_ | refine wtL ?_ | refine step ?_ | refine Exists.intro _ (And.intro (congrFun hM _) ?_) | refine Exists.intro _ (And.intro rfl ?_) | refine And.intro rfl ?_ | refine And.intro trivial ?_ | (refine And.intro (by intro hz; exfalso; omega) ?_; intro hz9) | refine And.intro (by omega) ?_ | refine And.intro (by simp only [lnM_TAPE, lnM_SIGN, lnM_LENG, lnM_CLAU, lnM_CLSS, lnM_READ, lnM_OPEN, lnM_STCK, lnM_WORD, lnM_SAID, lnM_WASS, lnM_KEPT, lnM_FAR, lnM_WASI, lnM_OUTO, lnM_HASB, lnM_WHER, lnM_ISFI, lnM_CELT, lnM_IMGS, lnM_IMGF, lnM_IMGX, lnM_ISMA]; omega) ?_ | (refine And.intro ?_ (by intro hz; exfalso; omega); intro hz9))
        refine And.intro (fun hd => ?_) (fun hd => ?_)
        · repeat (first | (exact next p (by unfold oneF; rw [if_neg hc, if_neg hd]) TA.rf) | refine wtA (by decide) ?_ | refine wtM ?_ | refine wtL ?_ | refine step ?_ | refine Exists.intro _ (And.intro (congrFun hM _) ?_) | refine Exists.intro _ (And.intro rfl ?_) | refine And.intro rfl ?_ | refine And.intro trivial ?_ | (refine And.intro (by intro hz; exfalso; omega) ?_; intro hz9) | refine And.intro (by omega) ?_ | refine And.intro (by simp only [lnM_TAPE, lnM_SIGN, lnM_LENG, lnM_CLAU, lnM_CLSS, lnM_READ, lnM_OPEN, lnM_STCK, lnM_WORD, lnM_SAID, lnM_WASS, lnM_KEPT, lnM_FAR, lnM_WASI, lnM_OUTO, lnM_HASB, lnM_WHER, lnM_ISFI, lnM_CELT, lnM_IMGS, lnM_IMGF, lnM_IMGX, lnM_ISMA]; omega) ?_ | (refine And.intro ?_ (by intro hz; exfalso; omega); intro hz9))
        · repeat (first | refine wtA (by decide) ?_ | refine wtM ?_ | refine wtL ?_ | refine step ?_ | refine Exists.intro _ (And.intro (congrFun hM _) ?_) | refine Exists.intro _ (And.intro rfl ?_) | refine And.intro rfl ?_ | refine And.intro trivial ?_ | (refine And.intro (by intro hz; exfalso; omega) ?_; intro hz9) | refine And.intro (by omega) ?_ | refine And.intro (by simp only [lnM_TAPE, lnM_SIGN, lnM_LENG, lnM_CLAU, lnM_CLSS, lnM_READ, lnM_OPEN, lnM_STCK, lnM_WORD, lnM_SAID, lnM_WASS, lnM_KEPT, lnM_FAR, lnM_WASI, lnM_OUTO, lnM_HASB, lnM_WHER, lnM_ISFI, lnM_CELT, lnM_IMGS, lnM_IMGF, lnM_IMGX, lnM_ISMA]; omega) ?_ | (refine And.intro ?_ (by intro hz; exfalso; omega); intro hz9))
          refine Or.inl (t_goesOut hM h0 (by omega) hS hg (fun p2 e T2 => ?_))
          repeat (first | (exact next p2 (by rw [e]; unfold oneF; rw [if_neg hc, if_pos hd]) (T2.up (by decide) (by decide))) | refine wtA (by decide) ?_ | refine wtM ?_ | refine wtL ?_ | refine step ?_ | refine Exists.intro _ (And.intro (congrFun hM _) ?_) | refine Exists.intro _ (And.intro rfl ?_) | refine And.intro rfl ?_ | refine And.intro trivial ?_ | (refine And.intro (by intro hz; exfalso; omega) ?_; intro hz9) | refine And.intro (by omega) ?_ | refine And.intro (by simp only [lnM_TAPE, lnM_SIGN, lnM_LENG, lnM_CLAU, lnM_CLSS, lnM_READ, lnM_OPEN, lnM_STCK, lnM_WORD, lnM_SAID, lnM_WASS, lnM_KEPT, lnM_FAR, lnM_WASI, lnM_OUTO, lnM_HASB, lnM_WHER, lnM_ISFI, lnM_CELT, lnM_IMGS, lnM_IMGF, lnM_IMGX, lnM_ISMA]; omega) ?_ | (refine And.intro ?_ (by intro hz; exfalso; omega); intro hz9))
  have h2 : 0 ≤ hI h mSAID 2 := hS.2.1.1
  repeat (first | (exact loop (hI h mSAID 2).toNat 0 h hM (by omega) (by omega) TA.rf ⟨hS, (fun x x0 x1 => by omega), (fun x x0 x1 => hG x x0 x1)⟩ K) | refine wtA (by decide) ?_ | refine wtM ?_ | refine wtL ?_ | refine step ?_ | refine Exists.intro _ (And.intro (congrFun hM _) ?_) | refine Exists.intro _ (And.intro rfl ?_) | refine And.intro rfl ?_ | refine And.intro trivial ?_ | (refine And.intro (by intro hz; exfalso; omega) ?_; intro hz9) | refine And.intro (by omega) ?_ | refine And.intro (by simp only [lnM_TAPE, lnM_SIGN, lnM_LENG, lnM_CLAU, lnM_CLSS, lnM_READ, lnM_OPEN, lnM_STCK, lnM_WORD, lnM_SAID, lnM_WASS, lnM_KEPT, lnM_FAR, lnM_WASI, lnM_OUTO, lnM_HASB, lnM_WHER, lnM_ISFI, lnM_CELT, lnM_IMGS, lnM_IMGF, lnM_IMGX, lnM_ISMA]; omega) ?_ | (refine And.intro ?_ (by intro hz; exfalso; omega); intro hz9))
theorem goF_out {q : (Int → Int) → Int → Int} : ∀ (n : Nat) (g : Int) (s : Int → Int) (m : Int), 0 ≤ g → g + n ≤ 5 → m < 11 ∨ 46 ≤ m → goF q n g s m = s m := by
  intro n
  induction n with
  | zero => exact fun g s m _ _ _ => rfl
  | succ n ih =>
    intro g s m h0 h1 hm
    unfold goF
    rw [ih (g + 1) _ m (by omega) (by omega) hm, oneF_out (by omega)]
theorem goF_MID {q : (Int → Int) → Int → Int} {b : Int} (hq : QOK q) : ∀ (n : Nat) (g : Int) (s : Int → Int), 0 ≤ g → g + n ≤ 5 → MID b s g → MID b (goF q n g s) (g + n) := by
  intro n
  induction n with
  | zero => exact fun g s _ _ hm => by simpa [goF] using hm
  | succ n ih =>
    intro g s h0 h1 hm
    unfold goF
    have h2 := ih (g + 1) _ (by omega) (by omega) (MID_next (q := q) h0 (by omega) (hq s g).1 hm)
    rw [show g + ((n + 1 : Nat) : Int) = g + 1 + n by omega]
    exact h2
theorem passF_out {q : (Int → Int) → Int → Int} {s : Int → Int} {m : Int} (hS : GS s) (hm : m < 10 ∨ 46 ≤ m) : passF q s m = s m := by
  obtain ⟨-, ⟨a1, a2⟩, -⟩ := hS
  unfold passF
  simp only [upF]
  rw [if_neg (by omega), goF_out _ _ _ _ (by omega) (by omega) (by omega)]
theorem passF_step {q : (Int → Int) → Int → Int} {s : Int → Int} (hS : GS s) : passF q s 10 = s 10 + 1 := by
  obtain ⟨-, ⟨a1, a2⟩, -⟩ := hS
  unfold passF
  simp only [upF]
  rw [if_pos trivial, goF_out _ _ _ _ (by omega) (by omega) (by omega)]
theorem passF_GA {q : (Int → Int) → Int → Int} {s : Int → Int} {b : Int} (hq : QOK q) (hb : b < 100000) (hA : GA b s) : GA (b + 1) (passF q s) := by
  obtain ⟨hS, h1, hG⟩ := hA
  have hS0 := hS
  obtain ⟨a1, ⟨a2, a3⟩, ⟨a4, a5⟩, a6, a7, a8⟩ := hS0
  have hm := goF_MID (b := b) hq (s 2).toNat 0 s (by omega) (by omega) ⟨hS, (fun x x0 x1 => by omega), (fun x x0 x1 => hG x x0 x1)⟩
  have e1 : ∀ m, m < 10 ∨ 46 ≤ m → passF q s m = s m := fun m hm => passF_out hS hm
  refine ⟨⟨by rw [e1 1 (by omega)]; exact a1, by rw [e1 2 (by omega)]; exact ⟨a2, a3⟩, by rw [passF_step hS]; omega, fun e x0 x1 => ?_, fun c x0 x1 => ?_, fun e x0 x1 => ?_⟩, by rw [passF_step hS]; omega, fun g g0 g1 => ?_⟩
  · rw [e1 _ (by omega)]; exact a6 e x0 x1
  · rw [e1 _ (by omega)]; exact a7 c x0 x1
  · rw [e1 _ (by omega)]; exact a8 e x0 x1
  · have hg : GG (b + 1) (goF q (s 2).toNat 0 s) g := by
      by_cases e : g < 0 + ((s 2).toNat : Int)
      · exact hm.2.1 g g0 e g1
      · exact GG_le (by omega) (hm.2.2 g (by omega) g1)
    have e2 : ∀ m, m ≠ 10 → passF q s m = goF q (s 2).toNat 0 s m := fun m hm => if_neg hm
    exact GG_of (e2 1 (by omega)) (fun m m0 m1 => e2 m (by omega)) hg
theorem HQt.go {q : (Int → Int) → Int → Int} {d : Nat} {h p : AH} (H : HQt q d h) (T : TA [mSAID, mWORD, mSTCK] [18] h p) : HQt q d p := fun p2 b g hb T2 => H p2 b g hb (T.tr T2)
theorem t_passesAll {d : Nat} {h : AH} {Φ : OUT → AH → Prop} {q : (Int → Int) → Int → Int} {b n : Int} (hM : hP h M = MP) (hq : QOK q) (h0 : 0 ≤ n) (hn : iR n) (hb : b + n ≤ 100000) (hA : GA b (hI h mSAID)) (HQ : HQt q (d + 2) h)
    (K : ∀ p, hI p mSAID = passN q n.toNat (hI h mSAID) → TA [mSAID, mWORD, mSTCK] [18] h p → Φ (.inl none) p) : CT (d + 5) 0 0 J_X4_passesAll [vo M, vi n] h Φ := by
  refine e_X4_passesAll ?_
  intro k step keep
  have loop : ∀ (m : Nat) (i b : Int) (p : AH), hP p M = MP → 0 ≤ i → i + m = n → b + m ≤ 100000 → GA b (hI p mSAID) → TA [mSAID, mWORD, mSTCK] [18] h p → (∀ p2, hI p2 mSAID = passN q m (hI p mSAID) → TA [mSAID, mWORD, mSTCK] [18] h p2 → Φ (.inl none) p2) → k 0 0 2 [(0, vo M), (1, vi n), (2, vi i)] [] p := by
    intro m
    induction m with
    | zero =>
      intro i b p hM i0 im ib hA T hΦ
      repeat (first | refine wtA (by decide) ?_ | refine wtM ?_ | refine wtL ?_ | refine step ?_ | refine Exists.intro _ (And.intro (congrFun hM _) ?_) | refine Exists.intro _ (And.intro rfl ?_) | refine And.intro rfl ?_ | refine And.intro trivial ?_ | (refine And.intro (by intro hz; exfalso; omega) ?_; intro hz9) | refine And.intro (by omega) ?_ | refine And.intro (by simp only [lnM_TAPE, lnM_SIGN, lnM_LENG, lnM_CLAU, lnM_CLSS, lnM_READ, lnM_OPEN, lnM_STCK, lnM_WORD, lnM_SAID, lnM_WASS, lnM_KEPT, lnM_FAR, lnM_WASI, lnM_OUTO, lnM_HASB, lnM_WHER, lnM_ISFI, lnM_CELT, lnM_IMGS, lnM_IMGF, lnM_IMGX, lnM_ISMA]; omega) ?_ | (refine And.intro ?_ (by intro hz; exfalso; omega); intro hz9))
      exact hΦ p rfl T
    | succ m ih =>
      intro i b p hM i0 im ib hA T hΦ
      refine step ?_
      repeat (first | refine wtA (by decide) ?_ | refine wtM ?_ | refine wtL ?_ | refine step ?_ | refine Exists.intro _ (And.intro (congrFun hM _) ?_) | refine Exists.intro _ (And.intro rfl ?_) | refine And.intro rfl ?_ | refine And.intro trivial ?_ | (refine And.intro (by intro hz; exfalso; omega) ?_; intro hz9) | refine And.intro (by omega) ?_ | refine And.intro (by simp only [lnM_TAPE, lnM_SIGN, lnM_LENG, lnM_CLAU, lnM_CLSS, lnM_READ, lnM_OPEN, lnM_STCK, lnM_WORD, lnM_SAID, lnM_WASS, lnM_KEPT, lnM_FAR, lnM_WASI, lnM_OUTO, lnM_HASB, lnM_WHER, lnM_ISFI, lnM_CELT, lnM_IMGS, lnM_IMGF, lnM_IMGX, lnM_ISMA]; omega) ?_ | (refine And.intro ?_ (by intro hz; exfalso; omega); intro hz9))
      refine Or.inl (t_passes hM hq hA (by omega) (HQ.go T) (fun p2 e T2 => ?_))
      repeat (first | (exact ih (i + 1) (b + 1) p2 (T2.m hM) (by omega) (by omega) (by omega) (by rw [e]; exact passF_GA hq (by omega) hA) (T.tr T2) (by rw [e]; exact hΦ)) | refine wtA (by decide) ?_ | refine wtM ?_ | refine wtL ?_ | refine step ?_ | refine Exists.intro _ (And.intro (congrFun hM _) ?_) | refine Exists.intro _ (And.intro rfl ?_) | refine And.intro rfl ?_ | refine And.intro trivial ?_ | (refine And.intro (by intro hz; exfalso; omega) ?_; intro hz9) | refine And.intro (by omega) ?_ | refine And.intro (by simp only [lnM_TAPE, lnM_SIGN, lnM_LENG, lnM_CLAU, lnM_CLSS, lnM_READ, lnM_OPEN, lnM_STCK, lnM_WORD, lnM_SAID, lnM_WASS, lnM_KEPT, lnM_FAR, lnM_WASI, lnM_OUTO, lnM_HASB, lnM_WHER, lnM_ISFI, lnM_CELT, lnM_IMGS, lnM_IMGF, lnM_IMGX, lnM_ISMA]; omega) ?_ | (refine And.intro ?_ (by intro hz; exfalso; omega); intro hz9))
  repeat (first | (exact loop n.toNat 0 b h hM (by omega) (by omega) (by omega) hA TA.rf K) | refine wtA (by decide) ?_ | refine wtM ?_ | refine wtL ?_ | refine step ?_ | refine Exists.intro _ (And.intro (congrFun hM _) ?_) | refine Exists.intro _ (And.intro rfl ?_) | refine And.intro rfl ?_ | refine And.intro trivial ?_ | (refine And.intro (by intro hz; exfalso; omega) ?_; intro hz9) | refine And.intro (by omega) ?_ | refine And.intro (by simp only [lnM_TAPE, lnM_SIGN, lnM_LENG, lnM_CLAU, lnM_CLSS, lnM_READ, lnM_OPEN, lnM_STCK, lnM_WORD, lnM_SAID, lnM_WASS, lnM_KEPT, lnM_FAR, lnM_WASI, lnM_OUTO, lnM_HASB, lnM_WHER, lnM_ISFI, lnM_CELT, lnM_IMGS, lnM_IMGF, lnM_IMGX, lnM_ISMA]; omega) ?_ | (refine And.intro ?_ (by intro hz; exfalso; omega); intro hz9))
