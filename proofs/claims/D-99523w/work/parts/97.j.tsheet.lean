-- NEEDS: 62 97
/-! THE TWIN'S READER: a sheet -/
def numS (T : Int → Int) (n i lo hi : Int) : Int ⊕ (Int × Int) := if dgP T n (skp T n i) then (if (num T n (skp T n i)).2 - skp T n i ≤ 5 ∧ lo ≤ (num T n (skp T n i)).1 ∧ (num T n (skp T n i)).1 ≤ hi then .inr (num T n (skp T n i)).swap else .inl (1 + 8 * skp T n i + 1)) else .inl (1 + 8 * skp T n i + 0)
def bN {α : Type} (r : Int ⊕ (Int × Int)) (K : Int → Int → Int ⊕ α) : Int ⊕ α := match r with
  | .inl e => .inl e
  | .inr (j, v) => K j v
theorem numS_ok {T : Int → Int} {n i lo hi : Int} (i0 : 0 ≤ i) (i1 : i ≤ n) : match numS T n i lo hi with
    | .inl e => 1 ≤ e ∧ e ≤ 1 + 8 * n + 1
    | .inr (j, v) => i < j ∧ j ≤ n ∧ lo ≤ v ∧ v ≤ hi := by
  have sk := skp_ok (T := T) i1
  unfold numS
  by_cases hd : dgP T n (skp T n i)
  · rw [if_pos hd]
    have g := num_gt sk.2 hd
    by_cases hq : (num T n (skp T n i)).2 - skp T n i ≤ 5 ∧ lo ≤ (num T n (skp T n i)).1 ∧ (num T n (skp T n i)).1 ≤ hi
    · rw [if_pos hq]
      exact ⟨by show i < (num T n (skp T n i)).2; omega, g.2.1, hq.2⟩
    · rw [if_neg hq]
      exact ⟨by omega, by omega⟩
  · rw [if_neg hd]
    exact ⟨by omega, by omega⟩
theorem t_numR {d : Nat} {h : AH} {Φ : OUT → AH → Prop} {T : Int → Int} {n i lo hi : Int} (H : RX h T n i) (hlo : iR lo) (hhi : iR hi)
    (K0 : ∀ e, numS T n i lo hi = .inl e → ∀ p, hP p M = MP → hI p M 9 = e → TA [] [8, 9, 10] h p → Φ (.inl (some (vi 0))) p)
    (K : ∀ j v, numS T n i lo hi = .inr (j, v) → ∀ p, RX p T n j → hI p M 10 = v → TA [] [8, 9, 10] h p → Φ (.inl (some (vi 1))) p) : CT (d + 2) 0 0 J_X4_numberHere [vo M, vi lo, vi hi] h Φ := by
  obtain ⟨hM, hT, hn, h8, ⟨i0, i1⟩, n1, hB, h9⟩ := id H
  have sk := skp_ok (T := T) i1
  unfold numS at K0 K
  refine t_numberHere hM hT hn h8 i0 i1 n1 hB h9 hlo hhi (fun hz p e9 T2 => ?_) (fun hz hq p e9 T2 => ?_) (fun hz hq p hM e8 e9 e10 T2 => ?_)
  · rw [if_neg hz] at K0
    exact K0 _ rfl p (T2.m hM) e9 T2
  · rw [if_pos hz, if_neg hq] at K0
    exact K0 _ rfl p (T2.m hM) e9 T2
  · rw [if_pos hz, if_pos hq] at K
    have g := num_gt sk.2 hz
    exact K _ _ rfl p ⟨hM, by rw [T2.i (by decide) (by decide)]; exact hT, by rw [T2.f (by decide)]; exact hn, e8, ⟨by omega, g.2.1⟩, n1, hB, e9⟩ e10 T2
theorem t_cellHere {d : Nat} {h : AH} {Φ : OUT → AH → Prop} {T : Int → Int} {n i lo hi c : Int} (H : RX h T n i) (hlo : iR lo) (hhi : iR hi) (c0 : 0 ≤ c) (c1 : c < 145)
    (K0 : ∀ e, numS T n i lo hi = .inl e → ∀ p, hP p M = MP → hI p M 9 = e → TA [] [8, 9, 10] h p → Φ (.inl (some (vi 0))) p)
    (K : ∀ j v, numS T n i lo hi = .inr (j, v) → ∀ p, RX p T n j → hI p mREAD = upF (hI h mREAD) c v → TA [mREAD] [8, 9, 10] h p → Φ (.inl (some (vi 1))) p) : CT (d + 3) 0 0 J_X4_cellHere [vo M, vi c, vi lo, vi hi] h Φ := by
  refine e_X4_cellHere ?_; intro k step keep
  have hM := H.1
  repeat (first | refine wtA (by decide) ?_ | refine wtM ?_ | refine wtL ?_ | refine step ?_ | refine Exists.intro _ (And.intro (congrFun hM _) ?_) | refine Exists.intro _ (And.intro rfl ?_) | refine And.intro rfl ?_ | refine And.intro trivial ?_ | (refine And.intro (by intro hz; exfalso; omega) ?_; intro hz9) | refine And.intro (by omega) ?_ | refine And.intro (by simp only [lnM_TAPE, lnM_SIGN, lnM_LENG, lnM_CLAU, lnM_CLSS, lnM_READ, lnM_OPEN, lnM_STCK, lnM_WORD, lnM_SAID, lnM_WASS, lnM_KEPT, lnM_FAR, lnM_WASI, lnM_OUTO, lnM_HASB, lnM_WHER, lnM_ISFI, lnM_CELT, lnM_IMGS, lnM_IMGF, lnM_IMGX, lnM_ISMA]; omega) ?_ | (refine And.intro ?_ (by intro hz; exfalso; omega); intro hz9))
  refine Or.inl (t_numR H hlo hhi (fun e he p hM e9 T1 => ?_) (fun j v hv p H1 e10 T1 => ?_))
  · repeat (first | refine wtA (by decide) ?_ | refine wtM ?_ | refine wtL ?_ | refine step ?_ | refine Exists.intro _ (And.intro (congrFun hM _) ?_) | refine Exists.intro _ (And.intro rfl ?_) | refine And.intro rfl ?_ | refine And.intro trivial ?_ | (refine And.intro (by intro hz; exfalso; omega) ?_; intro hz9) | refine And.intro (by omega) ?_ | refine And.intro (by simp only [lnM_TAPE, lnM_SIGN, lnM_LENG, lnM_CLAU, lnM_CLSS, lnM_READ, lnM_OPEN, lnM_STCK, lnM_WORD, lnM_SAID, lnM_WASS, lnM_KEPT, lnM_FAR, lnM_WASI, lnM_OUTO, lnM_HASB, lnM_WHER, lnM_ISFI, lnM_CELT, lnM_IMGS, lnM_IMGF, lnM_IMGX, lnM_ISMA]; omega) ?_ | (refine And.intro ?_ (by intro hz; exfalso; omega); intro hz9))
    exact K0 e he p hM e9 T1
  · have hM := H1.1
    repeat (first | refine wtA (by decide) ?_ | refine wtM ?_ | refine wtL ?_ | refine step ?_ | refine Exists.intro _ (And.intro (congrFun hM _) ?_) | refine Exists.intro _ (And.intro rfl ?_) | refine And.intro rfl ?_ | refine And.intro trivial ?_ | (refine And.intro (by intro hz; exfalso; omega) ?_; intro hz9) | refine And.intro (by omega) ?_ | refine And.intro (by simp only [lnM_TAPE, lnM_SIGN, lnM_LENG, lnM_CLAU, lnM_CLSS, lnM_READ, lnM_OPEN, lnM_STCK, lnM_WORD, lnM_SAID, lnM_WASS, lnM_KEPT, lnM_FAR, lnM_WASI, lnM_OUTO, lnM_HASB, lnM_WHER, lnM_ISFI, lnM_CELT, lnM_IMGS, lnM_IMGF, lnM_IMGX, lnM_ISMA]; omega) ?_ | (refine And.intro ?_ (by intro hz; exfalso; omega); intro hz9))
    intro p2 e2 T2; have hM := T2.m hM
    rw [e10, T1.i (by decide) (by decide)] at e2
    repeat (first | refine wtA (by decide) ?_ | refine wtM ?_ | refine wtL ?_ | refine step ?_ | refine Exists.intro _ (And.intro (congrFun hM _) ?_) | refine Exists.intro _ (And.intro rfl ?_) | refine And.intro rfl ?_ | refine And.intro trivial ?_ | (refine And.intro (by intro hz; exfalso; omega) ?_; intro hz9) | refine And.intro (by omega) ?_ | refine And.intro (by simp only [lnM_TAPE, lnM_SIGN, lnM_LENG, lnM_CLAU, lnM_CLSS, lnM_READ, lnM_OPEN, lnM_STCK, lnM_WORD, lnM_SAID, lnM_WASS, lnM_KEPT, lnM_FAR, lnM_WASI, lnM_OUTO, lnM_HASB, lnM_WHER, lnM_ISFI, lnM_CELT, lnM_IMGS, lnM_IMGF, lnM_IMGX, lnM_ISMA]; omega) ?_ | (refine And.intro ?_ (by intro hz; exfalso; omega); intro hz9))
    exact K j v hv p2 (H1.to T2 (by decide) (by decide) (by decide) (by rw [T2.f (by decide)]; exact H1.2.2.2.1) H1.2.2.2.2.1.1 H1.2.2.2.2.1.2) e2 ((T1.up (by decide) (by decide)).tr (T2.up (by decide) (by decide)))
theorem t_lastCell {d : Nat} {h : AH} {Φ : OUT → AH → Prop} (hM : hP h M = MP) (K : Φ (.inl (some (vi (hI h mREAD 1 * hI h mREAD 1 - 1)))) h) : CT (d + 1) 0 0 J_X4_lastCell [vo M] h Φ := by
  refine e_X4_lastCell ?_; intro k step keep
  repeat (first | refine wtA (by decide) ?_ | refine wtM ?_ | refine wtL ?_ | refine step ?_ | refine Exists.intro _ (And.intro (congrFun hM _) ?_) | refine Exists.intro _ (And.intro rfl ?_) | refine And.intro rfl ?_ | refine And.intro trivial ?_ | (refine And.intro (by intro hz; exfalso; omega) ?_; intro hz9) | refine And.intro (by omega) ?_ | refine And.intro (by simp only [lnM_TAPE, lnM_SIGN, lnM_LENG, lnM_CLAU, lnM_CLSS, lnM_READ, lnM_OPEN, lnM_STCK, lnM_WORD, lnM_SAID, lnM_WASS, lnM_KEPT, lnM_FAR, lnM_WASI, lnM_OUTO, lnM_HASB, lnM_WHER, lnM_ISFI, lnM_CELT, lnM_IMGS, lnM_IMGF, lnM_IMGX, lnM_ISMA]; omega) ?_ | (refine And.intro ?_ (by intro hz; exfalso; omega); intro hz9))
  exact K
abbrev wSHEET : Nat := 495672714612
abbrev wGOER : Nat := 1735353714
abbrev wJOIN : Nat := 1785686382
abbrev wSTONE : Nat := 495874698853
def goeF (r : Int → Int) (a b c : Int) : Int → Int := upF (upF (upF (upF r (90 + 3 * r 2) a) (90 + 3 * r 2 + 1) b) (90 + 3 * r 2 + 2) c) 2 (r 2 + 1)
/-- a clause of a sheet: s.1 clauses ahead of it, s.2 read so far -/
def sclS (T : Int → Int) (n i : Int) (s : Int × (Int → Int)) : Int ⊕ (Int × (Int × (Int → Int))) :=
  if wdB T n (skp T n i) wSHEET = true then (if s.1 = 40 ∨ 0 < s.2 0 then .inl (1 + 8 * skp T n i + 4) else bN (numS T n (lep T n (skp T n i)) 2 6) (fun j v => .inr (j, (s.1 + 1, upF (upF s.2 1 v) 0 1))))
  else if wdB T n (skp T n i) wGOER = true then (if s.1 = 40 ∨ s.2 0 = 0 ∨ s.2 2 = 5 then .inl (1 + 8 * skp T n i + 4) else bN (numS T n (lep T n (skp T n i)) 0 (s.2 1 * s.2 1 - 1)) (fun j1 v1 => bN (numS T n j1 0 3) (fun j2 v2 => bN (numS T n j2 0 60) (fun j3 v3 => .inr (j3, (s.1 + 1, goeF s.2 v1 v2 v3))))))
  else if wdB T n (skp T n i) wJOIN = true then (if s.1 = 40 ∨ s.2 0 = 0 then .inl (1 + 8 * skp T n i + 4) else bN (numS T n (lep T n (skp T n i)) 0 3) (fun j1 v1 => bN (numS T n j1 0 3) (fun j2 v2 => bN (numS T n j2 0 9) (fun j3 v3 => .inr (j3, (s.1 + 1, upF (upF s.2 (105 + v1) v2) (86 + v1) v3))))))
  else if wdB T n (skp T n i) wSTONE = true then (if s.1 = 40 ∨ s.2 0 = 0 then .inl (1 + 8 * skp T n i + 4) else bN (numS T n (lep T n (skp T n i)) 0 (s.2 1 * s.2 1 - 1)) (fun j v => .inr (j, (s.1 + 1, upF s.2 (109 + v) 1))))
  else .inl (1 + 8 * skp T n i + 0)
def rd0 : Int → Int := fun m => if 105 ≤ m ∧ m < 109 then m - 105 else 0
/-- what a text says as a sheet -/
def sheS (T : Int → Int) (n : Int) : Int ⊕ (Int × (Int → Int)) := rdL (sclS T n) T n (n + 1).toNat 0 (0, rd0)
/-- what is read is sound -/
def RDO (r : Int → Int) : Prop := (r 0 = 0 ∨ r 0 = 1) ∧ (r 0 = 0 → r 1 = 0 ∧ r 2 = 0) ∧ (r 0 = 1 → 2 ≤ r 1 ∧ r 1 ≤ 6) ∧ (0 ≤ r 2 ∧ r 2 ≤ 5) ∧ (∀ g, 0 ≤ g → g < 5 → (0 ≤ r (90 + 3 * g) ∧ (r (90 + 3 * g) = 0 ∨ r (90 + 3 * g) < r 1 * r 1)) ∧ (0 ≤ r (90 + 3 * g + 1) ∧ r (90 + 3 * g + 1) ≤ 3) ∧ 0 ≤ r (90 + 3 * g + 2) ∧ r (90 + 3 * g + 2) ≤ 60) ∧ (∀ e, 0 ≤ e → e < 4 → (0 ≤ r (105 + e) ∧ r (105 + e) ≤ 3) ∧ 0 ≤ r (86 + e) ∧ r (86 + e) ≤ 9) ∧ ∀ c, 0 ≤ c → c < 36 → r (109 + c) = 0 ∨ r (109 + c) = 1
theorem RDO_0 : RDO rd0 := by
  unfold RDO rd0
  refine ⟨Or.inl (if_neg (by omega)), fun _ => ⟨if_neg (by omega), if_neg (by omega)⟩, fun z => ?_, ?_, fun g g0 g1 => ?_, fun e e0 e1 => ?_, fun c c0 c1 => Or.inl (if_neg (by omega))⟩
  · rw [if_neg (by omega)] at z; omega
  · rw [if_neg (by omega)]; omega
  · rw [if_neg (by omega), if_neg (by omega), if_neg (by omega), if_neg (by omega)]
    refine ⟨⟨by omega, by omega⟩, by omega, by omega⟩
  · rw [if_pos (by omega), if_neg (by omega)]
    omega
theorem sq_lb {x : Int} (h0 : 2 ≤ x) (h1 : x ≤ 6) : 4 ≤ x * x ∧ x * x ≤ 36 := by
  rcases (by omega : x = 2 ∨ x = 3 ∨ x = 4 ∨ x = 5 ∨ x = 6) with z | z | z | z | z <;> subst z <;> decide
theorem RDO_sh {r : Int → Int} (H : RDO r) (h0 : ¬ 0 < r 0) {v : Int} (v0 : 2 ≤ v) (v1 : v ≤ 6) : RDO (upF (upF r 1 v) 0 1) := by
  obtain ⟨a, b, c, d, e, f, g⟩ := H
  have b := b (by omega)
  have o : ∀ m, 2 ≤ m → upF (upF r 1 v) 0 1 m = r m := fun m hm => by
    show (if m = 0 then _ else if m = 1 then _ else _) = _
    rw [if_neg (by omega), if_neg (by omega)]
  have o1 : upF (upF r 1 v) 0 1 1 = v := rfl
  have o0 : upF (upF r 1 v) 0 1 0 = 1 := rfl
  unfold RDO
  rw [o0, o1, o 2 (by omega)]
  refine ⟨Or.inr rfl, fun z => by omega, fun _ => ⟨v0, v1⟩, d, fun x x0 x1 => ?_, fun x x0 x1 => ?_, fun x x0 x1 => ?_⟩
  · rw [o _ (by omega), o _ (by omega), o _ (by omega)]
    obtain ⟨⟨q1, q2⟩, q3, q4⟩ := e x x0 x1
    rw [b.1] at q2
    exact ⟨⟨q1, by omega⟩, q3, q4⟩
  · rw [o _ (by omega), o _ (by omega)]; exact f x x0 x1
  · rw [o _ (by omega)]; exact g x x0 x1
theorem RDO_go {r : Int → Int} (H : RDO r) (h0 : r 0 ≠ 0) (h2 : r 2 ≠ 5) {v1 v2 v3 : Int} (a1 : 0 ≤ v1 ∧ v1 ≤ r 1 * r 1 - 1) (a2 : 0 ≤ v2 ∧ v2 ≤ 3) (a3 : 0 ≤ v3 ∧ v3 ≤ 60) : RDO (goeF r v1 v2 v3) := by
  obtain ⟨a, b, c, d, e, f, g⟩ := H
  have o : ∀ m, m ≠ 2 → (m < 90 + 3 * r 2 ∨ 90 + 3 * r 2 + 2 < m) → goeF r v1 v2 v3 m = r m := fun m m2 hm => by
    show (if m = 2 then _ else if m = 90 + 3 * r 2 + 2 then _ else if m = 90 + 3 * r 2 + 1 then _ else if m = 90 + 3 * r 2 then _ else _) = _
    rw [if_neg m2, if_neg (by omega), if_neg (by omega), if_neg (by omega)]
  have o2 : goeF r v1 v2 v3 2 = r 2 + 1 := rfl
  have p1 : goeF r v1 v2 v3 (90 + 3 * r 2) = v1 := by
    show (if 90 + 3 * r 2 = 2 then _ else if 90 + 3 * r 2 = 90 + 3 * r 2 + 2 then _ else if 90 + 3 * r 2 = 90 + 3 * r 2 + 1 then _ else if 90 + 3 * r 2 = 90 + 3 * r 2 then v1 else _) = _
    rw [if_neg (by omega), if_neg (by omega), if_neg (by omega), if_pos rfl]
  have p2 : goeF r v1 v2 v3 (90 + 3 * r 2 + 1) = v2 := by
    show (if 90 + 3 * r 2 + 1 = 2 then _ else if 90 + 3 * r 2 + 1 = 90 + 3 * r 2 + 2 then _ else if 90 + 3 * r 2 + 1 = 90 + 3 * r 2 + 1 then v2 else _) = _
    rw [if_neg (by omega), if_neg (by omega), if_pos rfl]
  have p3 : goeF r v1 v2 v3 (90 + 3 * r 2 + 2) = v3 := by
    show (if 90 + 3 * r 2 + 2 = 2 then _ else if 90 + 3 * r 2 + 2 = 90 + 3 * r 2 + 2 then v3 else _) = _
    rw [if_neg (by omega), if_pos rfl]
  unfold RDO
  rw [o 0 (by omega) (by omega), o 1 (by omega) (by omega), o2]
  refine ⟨a, fun z => absurd z h0, c, by omega, fun x x0 x1 => ?_, fun x x0 x1 => ?_, fun x x0 x1 => ?_⟩
  · by_cases hx : x = r 2
    · rw [hx, p1, p2, p3]
      exact ⟨⟨a1.1, Or.inr (by omega)⟩, a2, a3⟩
    · rw [o (90 + 3 * x) (by omega) (by omega), o (90 + 3 * x + 1) (by omega) (by omega), o (90 + 3 * x + 2) (by omega) (by omega)]
      exact e x x0 x1
  · rw [o (105 + x) (by omega) (by omega), o (86 + x) (by omega) (by omega)]; exact f x x0 x1
  · rw [o (109 + x) (by omega) (by omega)]; exact g x x0 x1
theorem RDO_jo {r : Int → Int} (H : RDO r) {v1 v2 v3 : Int} (a1 : 0 ≤ v1 ∧ v1 ≤ 3) (a2 : 0 ≤ v2 ∧ v2 ≤ 3) (a3 : 0 ≤ v3 ∧ v3 ≤ 9) : RDO (upF (upF r (105 + v1) v2) (86 + v1) v3) := by
  obtain ⟨a, b, c, d, e, f, g⟩ := H
  have o : ∀ m, m ≠ 105 + v1 → m ≠ 86 + v1 → upF (upF r (105 + v1) v2) (86 + v1) v3 m = r m := fun m m1 m2 => by
    show (if m = 86 + v1 then _ else if m = 105 + v1 then _ else _) = _
    rw [if_neg m2, if_neg m1]
  unfold RDO
  rw [o 0 (by omega) (by omega), o 1 (by omega) (by omega), o 2 (by omega) (by omega)]
  refine ⟨a, b, c, d, fun x x0 x1 => ?_, fun x x0 x1 => ?_, fun x x0 x1 => ?_⟩
  · rw [o (90 + 3 * x) (by omega) (by omega), o (90 + 3 * x + 1) (by omega) (by omega), o (90 + 3 * x + 2) (by omega) (by omega)]
    exact e x x0 x1
  · by_cases hx : x = v1
    · rw [hx]
      have p1 : upF (upF r (105 + v1) v2) (86 + v1) v3 (105 + v1) = v2 := by
        show (if 105 + v1 = 86 + v1 then _ else if 105 + v1 = 105 + v1 then v2 else _) = _
        rw [if_neg (by omega), if_pos rfl]
      have p2 : upF (upF r (105 + v1) v2) (86 + v1) v3 (86 + v1) = v3 := if_pos rfl
      rw [p1, p2]
      exact ⟨a2, a3⟩
    · rw [o (105 + x) (by omega) (by omega), o (86 + x) (by omega) (by omega)]; exact f x x0 x1
  · rw [o (109 + x) (by omega) (by omega)]; exact g x x0 x1
theorem RDO_st {r : Int → Int} (H : RDO r) {v : Int} (a1 : 0 ≤ v) : RDO (upF r (109 + v) 1) := by
  obtain ⟨a, b, c, d, e, f, g⟩ := H
  have o : ∀ m, m ≠ 109 + v → upF r (109 + v) 1 m = r m := fun m m1 => if_neg m1
  unfold RDO
  rw [o 0 (by omega), o 1 (by omega), o 2 (by omega)]
  refine ⟨a, b, c, d, fun x x0 x1 => ?_, fun x x0 x1 => ?_, fun x x0 x1 => ?_⟩
  · rw [o (90 + 3 * x) (by omega), o (90 + 3 * x + 1) (by omega), o (90 + 3 * x + 2) (by omega)]
    exact e x x0 x1
  · rw [o (105 + x) (by omega), o (86 + x) (by omega)]; exact f x x0 x1
  · by_cases hx : x = v
    · rw [hx]
      exact Or.inr (if_pos rfl)
    · rw [o (109 + x) (by omega)]; exact g x x0 x1
abbrev EQR (a b : Int → Int) : Prop := ∀ m, 0 ≤ m → m < 145 → a m = b m
theorem EQR.up {a b : Int → Int} {k v : Int} (H : EQR a b) : EQR (upF a k v) (upF b k v) := fun m m0 m1 => by
  show (if m = k then v else a m) = (if m = k then v else b m)
  rw [H m m0 m1]
/-- the reader of a sheet, in between clauses -/
def SI (T : Int → Int) (n : Int) (p : AH) (i : Int) (s : Int × (Int → Int)) : Prop := RX p T n i ∧ hI p M 11 = 6 ∧ hI p M 14 = s.1 ∧ (0 ≤ s.1 ∧ s.1 ≤ 40) ∧ EQR (hI p mREAD) s.2 ∧ RDO s.2
theorem bN_ind {α : Type} {r : Int ⊕ (Int × Int)} {K : Int → Int → Int ⊕ α} {P : Int ⊕ α → Prop} (h1 : ∀ e, r = .inl e → P (.inl e)) (h2 : ∀ j v, r = .inr (j, v) → P (K j v)) : P (bN r K) := by
  rcases r with e | ⟨j, v⟩
  · exact h1 e rfl
  · exact h2 j v rfl
def OKC (n i c : Int) (x : Int ⊕ (Int × (Int × (Int → Int)))) : Prop := match x with
  | .inl e => 1 ≤ e ∧ e ≤ 1 + 8 * n + 4
  | .inr (j, s2) => i < j ∧ j ≤ n ∧ s2.1 = c + 1 ∧ s2.1 ≤ 40 ∧ RDO s2.2
theorem OKC.n {T : Int → Int} {n i0 c i lo hi : Int} {K : Int → Int → Int ⊕ (Int × (Int × (Int → Int)))} (h0 : 0 ≤ i) (h1 : i ≤ n) (hK : ∀ j v, i < j → j ≤ n → lo ≤ v → v ≤ hi → OKC n i0 c (K j v)) : OKC n i0 c (bN (numS T n i lo hi) K) := by
  have q := numS_ok (T := T) (n := n) (i := i) (lo := lo) (hi := hi) h0 h1
  refine bN_ind (fun e he => ?_) (fun j v hv => ?_)
  · rw [he] at q
    exact ⟨q.1, by have := q.2; show e ≤ _; omega⟩
  · rw [hv] at q
    exact hK j v q.1 q.2.1 q.2.2.1 q.2.2.2
theorem sclS_ok {T : Int → Int} {n i : Int} {s : Int × (Int → Int)} (i0 : 0 ≤ i) (i1 : i ≤ n) (c0 : 0 ≤ s.1) (c1 : s.1 ≤ 40) (H : RDO s.2) : OKC n i s.1 (sclS T n i s) := by
  obtain ⟨c, r⟩ := s
  have c1 : c ≤ 40 := c1
  have sk := skp_ok (T := T) i1
  have lp := lep_ok (T := T) sk.2
  have r01 := H.1
  unfold sclS
  by_cases w1 : wdB T n (skp T n i) wSHEET = true
  · rw [if_pos w1]
    by_cases h : c = 40 ∨ 0 < r 0
    · rw [if_pos h]; exact ⟨by omega, by omega⟩
    · rw [if_neg h]
      exact OKC.n (by omega) lp.2 (fun j v a b v0 v1 => ⟨by omega, b, rfl, by show c + 1 ≤ 40; omega, RDO_sh H (fun z => h (Or.inr z)) v0 v1⟩)
  · rw [if_neg w1]
    by_cases w2 : wdB T n (skp T n i) wGOER = true
    · rw [if_pos w2]
      by_cases h : c = 40 ∨ r 0 = 0 ∨ r 2 = 5
      · rw [if_pos h]; exact ⟨by omega, by omega⟩
      · rw [if_neg h]
        exact OKC.n (by omega) lp.2 (fun j v a b v0 v1 => OKC.n (by omega) b (fun j2 v2 a2 b2 w0 w1 => OKC.n (by omega) b2 (fun j3 v3 a3 b3 x0 x1 => ⟨by omega, b3, rfl, by show c + 1 ≤ 40; omega, RDO_go H (fun z => h (Or.inr (Or.inl z))) (fun z => h (Or.inr (Or.inr z))) ⟨v0, v1⟩ ⟨w0, w1⟩ ⟨x0, x1⟩⟩)))
    · rw [if_neg w2]
      by_cases w3 : wdB T n (skp T n i) wJOIN = true
      · rw [if_pos w3]
        by_cases h : c = 40 ∨ r 0 = 0
        · rw [if_pos h]; exact ⟨by omega, by omega⟩
        · rw [if_neg h]
          exact OKC.n (by omega) lp.2 (fun j v a b v0 v1 => OKC.n (by omega) b (fun j2 v2 a2 b2 w0 w1 => OKC.n (by omega) b2 (fun j3 v3 a3 b3 x0 x1 => ⟨by omega, b3, rfl, by show c + 1 ≤ 40; omega, RDO_jo H ⟨v0, v1⟩ ⟨w0, w1⟩ ⟨x0, x1⟩⟩)))
      · rw [if_neg w3]
        by_cases w4 : wdB T n (skp T n i) wSTONE = true
        · rw [if_pos w4]
          by_cases h : c = 40 ∨ r 0 = 0
          · rw [if_pos h]; exact ⟨by omega, by omega⟩
          · rw [if_neg h]
            exact OKC.n (by omega) lp.2 (fun j v a b v0 v1 => ⟨by omega, b, rfl, by show c + 1 ≤ 40; omega, RDO_st H v0⟩)
        · rw [if_neg w4]
          exact ⟨by omega, by omega⟩
