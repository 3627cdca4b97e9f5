-- NEEDS: 67 95
/-! WHAT A TEXT MEANS: sums and tests, read from left to right; (how many made, the fault's number or where it ends and what it computes) -/
abbrev FN : Type := (Int → Int64) → Int64
abbrev PRS : Type := Int × (Int ⊕ (Int × FN))
def bnd (r : PRS) (K : Int → Int → FN → PRS) : PRS := match r with
  | (m, .inl e) => (m, .inl e)
  | (m, .inr (j, f)) => K j m f
def wdB (T : Int → Int) (n j : Int) (W : Nat) : Bool := decide (0 < lep T n j - j ∧ lep T n j - j < 8 ∧ pkN T j (lep T n j - j).toNat = W)
theorem wdB_iff {T : Int → Int} {n j : Int} {W : Nat} : wdB T n j W = true ↔ wdP T n j W := decide_eq_true_iff
def whL (T : Int → Int) (n j : Int) : List Nat → Int → Int
  | [], _ => -1
  | W :: r, k => if wdB T n j W = true then k else whL T n j r (k + 1)
/-- which of the eleven words -/
def wrdF (T : Int → Int) (n j : Int) : Int := whL T n j WL 0
theorem whL_no {T : Int → Int} {n j : Int} : ∀ (L : List Nat) (k : Int), (∀ W ∈ L, ¬ wdP T n j W) → whL T n j L k = -1 := by
  intro L
  induction L with
  | nil => intro k _; rfl
  | cons W r ih =>
    intro k h
    unfold whL
    rw [if_neg (fun z => h W List.mem_cons_self (wdB_iff.mp z))]
    exact ih _ (fun V hV => h V (List.mem_cons_of_mem _ hV))
theorem whL_at {T : Int → Int} {n j : Int} : ∀ (L : List Nat) (c : Int) (k : Nat) (W : Nat), L.Nodup → L[k]? = some W → wdP T n j W → whL T n j L c = c + k := by
  intro L
  induction L with
  | nil => intro c k W _ h; simp at h
  | cons V r ih =>
    intro c k W hd hk hw
    unfold whL
    cases k with
    | zero =>
      have e : V = W := by simpa using hk
      rw [e, if_pos (wdB_iff.mpr hw)]
      simp
    | succ k =>
      have hk2 : r[k]? = some W := by simpa using hk
      have hm : W ∈ r := List.mem_of_getElem? hk2
      have ne : V ≠ W := fun z => (List.nodup_cons.mp hd).1 (z ▸ hm)
      rw [if_neg (fun z => by
        have q := wdB_iff.mp z
        exact ne (q.2.2.symm.trans hw.2.2))]
      rw [ih (c + 1) k W (List.nodup_cons.mp hd).2 hk2 hw]
      omega
theorem wrdF_of {T : Int → Int} {n j r : Int} (h : whP T n j r) : wrdF T n j = r := by
  rcases h with ⟨h1, h2⟩ | ⟨k, W, h1, h2, h3⟩
  · rw [h1]; exact whL_no _ _ h2
  · rw [h2]
    have := whL_at WL 0 k W (by decide) h1 h3
    unfold wrdF
    omega
theorem whL_b {T : Int → Int} {n j : Int} : ∀ (L : List Nat) (k : Int), whL T n j L k = -1 ∨ (k ≤ whL T n j L k ∧ whL T n j L k < k + L.length ∧ ∃ W, wdP T n j W) := by
  intro L
  induction L with
  | nil => intro k; exact Or.inl rfl
  | cons V r ih =>
    intro k
    unfold whL
    by_cases h : wdB T n j V = true
    · rw [if_pos h]
      exact Or.inr ⟨by omega, by simp; omega, V, wdB_iff.mp h⟩
    · rw [if_neg h]
      rcases ih (k + 1) with q | ⟨q1, q2, q3⟩
      · exact Or.inl q
      · exact Or.inr ⟨by omega, by simp; omega, q3⟩
theorem wrdF_b (T : Int → Int) (n j : Int) : wrdF T n j = -1 ∨ (0 ≤ wrdF T n j ∧ wrdF T n j ≤ 10 ∧ 0 < lep T n j - j) := by
  rcases whL_b (T := T) (n := n) (j := j) WL 0 with h | ⟨h1, h2, W, h3⟩
  · exact Or.inl h
  · have : (WL.length : Int) = 11 := rfl
    exact Or.inr ⟨h1, by unfold wrdF; omega, h3.1⟩
def valS (T : Int → Int) (n i m : Int) : PRS :=
  if dgP T n (skp T n i) then
    (if (num T n (skp T n i)).2 - skp T n i ≤ 5 ∧ 0 ≤ (num T n (skp T n i)).1 ∧ (num T n (skp T n i)).1 ≤ 99999 then
      (if m = 60 then (m, .inl (1 + 8 * skp T n i + 3)) else (m + 1, .inr ((num T n (skp T n i)).2, fun _ => Int64.ofInt (num T n (skp T n i)).1)))
    else (m, .inl (1 + 8 * skp T n i + 1)))
  else if wrdF T n (skp T n i) < 0 then (m, .inl (1 + 8 * skp T n i + 0))
  else if m = 60 then (m, .inl (1 + 8 * skp T n i + 3))
  else (m + 1, .inr (lep T n (skp T n i), fun w => w (wrdF T n (skp T n i))))
abbrev isMul (c : Int) : Prop := c = 42 ∨ c = 47 ∨ c = 37
abbrev isAdd (c : Int) : Prop := c = 43 ∨ c = 45
def opc (c : Int) : Int := if c = 42 then 4 else if c = 47 then 5 else if c = 37 then 14 else if c = 43 then 2 else 3
def terL (T : Int → Int) (n : Int) : Nat → Int → Int → FN → PRS
  | 0, i, m, f => (m, .inr (i, f))
  | k + 1, i, m, f => if isMul (byF T n (skp T n i)) then bnd (valS T n (skp T n i + 1) m) (fun j m2 g => terL T n k j m2 (fun w => oneS (opc (byF T n (skp T n i))) (f w) (g w))) else (m, .inr (skp T n i, f))
def terS (T : Int → Int) (n i m : Int) : PRS := bnd (valS T n i m) (fun j m2 f => terL T n (n - j + 1).toNat j m2 f)
def smL (T : Int → Int) (n : Int) : Nat → Int → Int → FN → PRS
  | 0, i, m, f => (m, .inr (i, f))
  | k + 1, i, m, f => if isAdd (byF T n (skp T n i)) then bnd (terS T n (skp T n i + 1) m) (fun j m2 g => smL T n k j m2 (fun w => oneS (opc (byF T n (skp T n i))) (f w) (g w))) else (m, .inr (skp T n i, f))
def smS (T : Int → Int) (n i m : Int) : PRS := bnd (terS T n i m) (fun j m2 f => smL T n (n - j + 1).toNat j m2 f)
/-- whether an = follows < or > -/
abbrev alsP (T : Int → Int) (n i : Int) : Prop := byF T n i ≠ 61 ∧ i + 1 < n ∧ T (i + 1) = 61
def cmo (T : Int → Int) (n i : Int) : Int := if byF T n i = 60 then (if alsP T n i then 7 else 6) else if byF T n i = 61 then 8 else (if alsP T n i then 9 else 10)
def cmpS (T : Int → Int) (n i m : Int) : PRS := bnd (smS T n i m) (fun j0 m1 f =>
  if byF T n (skp T n j0) = 60 ∨ byF T n (skp T n j0) = 61 ∨ byF T n (skp T n j0) = 62 then
    (if m1 = 60 then (m1, .inl (1 + 8 * skp T n j0 + 3)) else bnd (smS T n (skp T n j0 + 1 + (if alsP T n (skp T n j0) then 1 else 0)) (m1 + 1)) (fun j2 m2 g => (m2, .inr (j2, fun w => oneS (cmo T n (skp T n j0)) (f w) (g w)))))
  else (m1, .inl (1 + 8 * skp T n j0 + 0)))
abbrev wNOT : Nat := 7237492
abbrev wAND : Nat := 6385252
abbrev wOR : Nat := 28530
abbrev wIF : Nat := 26982
/-- tests: mode 0 a fact, 1 what follows it by and, 2 what follows by or -/
def cndS (T : Int → Int) (n : Int) : Nat → Nat → Int → Int → Int → FN → PRS
  | 0, _, i, m, _, f => (m, .inr (i, f))
  | k + 1, 0, i, m, d, _ =>
    if wdB T n (skp T n i) wNOT = true then
      (if d = 10 then (m, .inl (1 + 8 * skp T n i + 2)) else bnd (cndS T n k 0 (lep T n (skp T n i)) m (d + 1) (fun _ => 0)) (fun j m2 t => (m2, .inr (j, fun w => 1 - t w))))
    else if byF T n (skp T n i) = 91 then
      (if d = 10 then (m, .inl (1 + 8 * skp T n i + 2)) else bnd (bnd (bnd (cndS T n k 0 (skp T n i + 1) m (d + 1) (fun _ => 0)) (fun j m2 t => cndS T n k 1 j m2 (d + 1) t)) (fun j m2 t => cndS T n k 2 j m2 (d + 1) t)) (fun j m2 t => if byF T n (skp T n j) = 93 then (m2, .inr (skp T n j + 1, t)) else (m2, .inl (1 + 8 * skp T n j + 0))))
    else cmpS T n i m
  | k + 1, 1, i, m, d, f =>
    if wdB T n (skp T n i) wAND = true then bnd (cndS T n k 0 (lep T n (skp T n i)) m d (fun _ => 0)) (fun j m2 t => cndS T n k 1 j m2 d (fun w => oneS 12 (f w) (t w)))
    else (m, .inr (skp T n i, f))
  | k + 1, _ + 2, i, m, d, f =>
    if wdB T n (skp T n i) wOR = true then bnd (bnd (cndS T n k 0 (lep T n (skp T n i)) m d (fun _ => 0)) (fun j m2 t => cndS T n k 1 j m2 d t)) (fun j m2 t => cndS T n k 2 j m2 d (fun w => oneS 13 (f w) (t w)))
    else (m, .inr (skp T n i, f))
theorem cnd0 {T : Int → Int} {n : Int} {k : Nat} {i m d : Int} {f : FN} : cndS T n (k + 1) 0 i m d f = if wdB T n (skp T n i) wNOT = true then
      (if d = 10 then (m, .inl (1 + 8 * skp T n i + 2)) else bnd (cndS T n k 0 (lep T n (skp T n i)) m (d + 1) (fun _ => 0)) (fun j m2 t => (m2, .inr (j, fun w => 1 - t w))))
    else if byF T n (skp T n i) = 91 then
      (if d = 10 then (m, .inl (1 + 8 * skp T n i + 2)) else bnd (bnd (bnd (cndS T n k 0 (skp T n i + 1) m (d + 1) (fun _ => 0)) (fun j m2 t => cndS T n k 1 j m2 (d + 1) t)) (fun j m2 t => cndS T n k 2 j m2 (d + 1) t)) (fun j m2 t => if byF T n (skp T n j) = 93 then (m2, .inr (skp T n j + 1, t)) else (m2, .inl (1 + 8 * skp T n j + 0))))
    else cmpS T n i m := rfl
theorem cnd1 {T : Int → Int} {n : Int} {k : Nat} {i m d : Int} {f : FN} : cndS T n (k + 1) 1 i m d f = if wdB T n (skp T n i) wAND = true then bnd (cndS T n k 0 (lep T n (skp T n i)) m d (fun _ => 0)) (fun j m2 t => cndS T n k 1 j m2 d (fun w => oneS 12 (f w) (t w))) else (m, .inr (skp T n i, f)) := rfl
theorem cnd2 {T : Int → Int} {n : Int} {k mo : Nat} {i m d : Int} {f : FN} : cndS T n (k + 1) (mo + 2) i m d f = if wdB T n (skp T n i) wOR = true then bnd (bnd (cndS T n k 0 (lep T n (skp T n i)) m d (fun _ => 0)) (fun j m2 t => cndS T n k 1 j m2 d t)) (fun j m2 t => cndS T n k 2 j m2 d (fun w => oneS 13 (f w) (t w))) else (m, .inr (skp T n i, f)) := rfl
def parS (T : Int → Int) (n : Int) (k : Nat) (i m d : Int) : PRS := bnd (cndS T n k 0 i m d (fun _ => 0)) (fun j m2 t => cndS T n k 1 j m2 d t)
def tesS (T : Int → Int) (n : Int) (k : Nat) (i m d : Int) : PRS := bnd (parS T n k i m d) (fun j m2 t => cndS T n k 2 j m2 d t)
/-! where it ends -/
theorem num_ok {T : Int → Int} {n : Int} : ∀ (k : Nat) (i c v : Int), i + k = n → 0 ≤ v → i ≤ (nuF T n k i c v).2 ∧ (nuF T n k i c v).2 ≤ n ∧ 0 ≤ (nuF T n k i c v).1 := by
  intro k
  induction k with
  | zero => intro i c v h hv; unfold nuF; exact ⟨by show i ≤ i; omega, by show i ≤ n; omega, hv⟩
  | succ k ih =>
    intro i c v h hv
    unfold nuF
    by_cases hd : dgP T n i
    · rw [if_pos hd]
      have := ih (i + 1) (c + 1) (if c < 5 then 10 * v + T i - 48 else v) (by omega) (by split <;> omega)
      exact ⟨by omega, this.2.1, this.2.2⟩
    · rw [if_neg hd]
      exact ⟨by show i ≤ i; omega, by show i ≤ n; omega, hv⟩
theorem num_gt {T : Int → Int} {n j : Int} (hj : j ≤ n) (hd : dgP T n j) : j < (num T n j).2 ∧ (num T n j).2 ≤ n ∧ 0 ≤ (num T n j).1 := by
  unfold num
  rw [show (n - j).toNat = (n - j - 1).toNat + 1 by have := hd.1; omega]
  unfold nuF
  rw [if_pos hd, if_pos (by omega)]
  have := num_ok (T := T) (n := n) (n - j - 1).toNat (j + 1) (0 + 1) (10 * 0 + T j - 48) (by have := hd.1; omega) (by have := hd.2; omega)
  exact ⟨by omega, this.2.1, this.2.2⟩
/-- a result that goes on: from i, m to somewhere behind; or a fault -/
def OKR (n i m : Int) (r : PRS) : Prop := m ≤ r.1 ∧ r.1 ≤ 60 ∧ match r.2 with
  | .inl e => 1 ≤ e ∧ e ≤ 1 + 8 * n + 3
  | .inr (j, _) => i ≤ j ∧ j ≤ n
/-- .. and something was made -/
def OKM (n i m : Int) (r : PRS) : Prop := m ≤ r.1 ∧ r.1 ≤ 60 ∧ match r.2 with
  | .inl e => 1 ≤ e ∧ e ≤ 1 + 8 * n + 3
  | .inr (j, _) => (i < j ∧ j ≤ n) ∧ m < r.1
theorem bnd_OKM {n i m : Int} {r : PRS} {K : Int → Int → FN → PRS} (hr : OKM n i m r) (hK : ∀ j m2 f, i < j → j ≤ n → m < m2 → m2 ≤ 60 → OKR n j m2 (K j m2 f)) : OKM n i m (bnd r K) := by
  rcases r with ⟨m2, e | ⟨j, f⟩⟩
  · exact hr
  · obtain ⟨h1, h2, ⟨h3, h4⟩, h5⟩ := hr
    have q := hK j m2 f h3 h4 h5 h2
    show OKM n i m (K j m2 f)
    have h1 : m ≤ m2 := h1
    have h5 : m < m2 := h5
    rcases hk : K j m2 f with ⟨m3, e | ⟨j3, f3⟩⟩
    · rw [hk] at q
      have q1 : m2 ≤ m3 := q.1
      exact ⟨by show m ≤ m3; omega, q.2.1, q.2.2⟩
    · rw [hk] at q
      have q1 : m2 ≤ m3 := q.1
      have q2 : j ≤ j3 ∧ j3 ≤ n := q.2.2
      exact ⟨by show m ≤ m3; omega, q.2.1, ⟨by omega, q2.2⟩, by show m < m3; omega⟩
theorem OKM.to {n i j m : Int} {r : PRS} (h : OKM n j m r) (hi : i ≤ j) : OKM n i m r := by
  rcases r with ⟨m2, e | ⟨j2, f⟩⟩
  · exact h
  · exact ⟨h.1, h.2.1, ⟨by have := h.2.2.1.1; omega, h.2.2.1.2⟩, h.2.2.2⟩
theorem OKM.r {n i m : Int} {r : PRS} (h : OKM n i m r) : OKR n i m r := by
  rcases r with ⟨m2, e | ⟨j2, f⟩⟩
  · exact h
  · exact ⟨h.1, h.2.1, by show i ≤ j2; have := h.2.2.1.1; omega, h.2.2.1.2⟩
theorem OKR.to {n i j m m' : Int} {r : PRS} (h : OKR n j m r) (hi : i ≤ j) (hm : m' ≤ m) : OKR n i m' r := by
  rcases r with ⟨m2, e | ⟨j2, f⟩⟩
  · exact ⟨by have : m ≤ m2 := h.1; show m' ≤ m2; omega, h.2⟩
  · exact ⟨by have : m ≤ m2 := h.1; show m' ≤ m2; omega, h.2.1, by show i ≤ j2; have : j ≤ j2 := h.2.2.1; omega, h.2.2.2⟩
theorem valS_ok {T : Int → Int} {n i m : Int} (i0 : 0 ≤ i) (i1 : i ≤ n) (m1 : m ≤ 60) : OKM n i m (valS T n i m) := by
  have sk := skp_ok (T := T) i1
  unfold valS
  by_cases hd : dgP T n (skp T n i)
  · rw [if_pos hd]
    have g := num_gt sk.2 hd
    split
    · split
      · exact ⟨Int.le_refl _, m1, by show 1 ≤ _; omega, by show _ ≤ (_ : Int); omega⟩
      · exact ⟨by show m ≤ m + 1; omega, by show m + 1 ≤ 60; omega, ⟨by show i < (num T n (skp T n i)).2; omega, g.2.1⟩, by show m < m + 1; omega⟩
    · exact ⟨Int.le_refl _, m1, by show 1 ≤ _; omega, by show _ ≤ (_ : Int); omega⟩
  · rw [if_neg hd]
    split
    · exact ⟨Int.le_refl _, m1, by show 1 ≤ _; omega, by show _ ≤ (_ : Int); omega⟩
    · rename_i hw
      have b := wrdF_b T n (skp T n i)
      have l := lep_ok (T := T) sk.2
      split
      · exact ⟨Int.le_refl _, m1, by show 1 ≤ _; omega, by show _ ≤ (_ : Int); omega⟩
      · exact ⟨by show m ≤ m + 1; omega, by show m + 1 ≤ 60; omega, ⟨by show i < lep T n (skp T n i); omega, l.2⟩, by show m < m + 1; omega⟩
theorem byF_lt {T : Int → Int} {n i c : Int} (h : byF T n i = c) (hc : c ≠ -1) : i < n := by
  unfold byF at h
  by_cases z : i < n
  · exact z
  · rw [if_neg z] at h; omega
theorem terL_ok {T : Int → Int} {n : Int} : ∀ (k : Nat) (i m : Int) (f : FN), 0 ≤ i → i ≤ n → m ≤ 60 → OKR n i m (terL T n k i m f) := by
  intro k
  induction k with
  | zero => intro i m f i0 i1 m1; exact ⟨Int.le_refl _, m1, Int.le_refl _, i1⟩
  | succ k ih =>
    intro i m f i0 i1 m1
    have sk := skp_ok (T := T) i1
    unfold terL
    by_cases hc : isMul (byF T n (skp T n i))
    · rw [if_pos hc]
      have hj : skp T n i < n := by rcases hc with z | z | z <;> exact byF_lt z (by decide)
      have v := valS_ok (T := T) (n := n) (i := skp T n i + 1) (m := m) (by omega) (by omega) m1
      exact ((bnd_OKM v (fun j m2 g h1 h2 h3 h4 => ih j m2 _ (by omega) h2 h4)).to (by omega : i ≤ skp T n i + 1)).r
    · rw [if_neg hc]
      exact ⟨Int.le_refl _, m1, sk.1, sk.2⟩
theorem terS_ok {T : Int → Int} {n i m : Int} (i0 : 0 ≤ i) (i1 : i ≤ n) (m1 : m ≤ 60) : OKM n i m (terS T n i m) :=
  bnd_OKM (valS_ok i0 i1 m1) (fun j m2 f h1 h2 _ h4 => terL_ok _ j m2 f (by omega) h2 h4)
theorem smL_ok {T : Int → Int} {n : Int} : ∀ (k : Nat) (i m : Int) (f : FN), 0 ≤ i → i ≤ n → m ≤ 60 → OKR n i m (smL T n k i m f) := by
  intro k
  induction k with
  | zero => intro i m f i0 i1 m1; exact ⟨Int.le_refl _, m1, Int.le_refl _, i1⟩
  | succ k ih =>
    intro i m f i0 i1 m1
    have sk := skp_ok (T := T) i1
    unfold smL
    by_cases hc : isAdd (byF T n (skp T n i))
    · rw [if_pos hc]
      have hj : skp T n i < n := by rcases hc with z | z <;> exact byF_lt z (by decide)
      have v := terS_ok (T := T) (n := n) (i := skp T n i + 1) (m := m) (by omega) (by omega) m1
      exact ((bnd_OKM v (fun j m2 g h1 h2 h3 h4 => ih j m2 _ (by omega) h2 h4)).to (by omega : i ≤ skp T n i + 1)).r
    · rw [if_neg hc]
      exact ⟨Int.le_refl _, m1, sk.1, sk.2⟩
theorem smS_ok {T : Int → Int} {n i m : Int} (i0 : 0 ≤ i) (i1 : i ≤ n) (m1 : m ≤ 60) : OKM n i m (smS T n i m) :=
  bnd_OKM (terS_ok i0 i1 m1) (fun j m2 f h1 h2 _ h4 => smL_ok _ j m2 f (by omega) h2 h4)
theorem cmpS_ok {T : Int → Int} {n i m : Int} (i0 : 0 ≤ i) (i1 : i ≤ n) (m1 : m ≤ 60) : OKM n i m (cmpS T n i m) := by
  refine bnd_OKM (smS_ok i0 i1 m1) (fun j m2 f h1 h2 _ h4 => ?_)
  have sk := skp_ok (T := T) h2
  split
  · rename_i hc
    have hj : skp T n j < n := by rcases hc with z | z | z <;> exact byF_lt z (by decide)
    split
    · exact ⟨Int.le_refl _, h4, by show 1 ≤ _; omega, by show _ ≤ (_ : Int); omega⟩
    · have hq : skp T n j + 1 + (if alsP T n (skp T n j) then 1 else 0) ≤ n := by
        split
        · rename_i ha; have := ha.2.1; omega
        · omega
      have h0 : skp T n j + 1 ≤ skp T n j + 1 + (if alsP T n (skp T n j) then 1 else 0) := by split <;> omega
      have s := smS_ok (T := T) (n := n) (i := skp T n j + 1 + (if alsP T n (skp T n j) then 1 else 0)) (m := m2 + 1) (by omega) hq (by omega)
      have s2 := bnd_OKM (K := fun j2 m2 g => (m2, .inr (j2, fun w => oneS (cmo T n (skp T n j)) (f w) (g w)))) s (fun j2 m3 g q1 q2 _ q4 => ⟨Int.le_refl _, q4, Int.le_refl _, q2⟩)
      exact s2.r.to (by omega) (by omega)
  · exact ⟨Int.le_refl _, h4, by show 1 ≤ _; omega, by show _ ≤ (_ : Int); omega⟩
theorem bnd_OKR {n i m : Int} {r : PRS} {K : Int → Int → FN → PRS} (hr : OKR n i m r) (hK : ∀ j m2 f, i ≤ j → j ≤ n → m ≤ m2 → m2 ≤ 60 → OKR n j m2 (K j m2 f)) : OKR n i m (bnd r K) := by
  rcases r with ⟨m2, e | ⟨j, f⟩⟩
  · exact hr
  · have q := hK j m2 f hr.2.2.1 hr.2.2.2 hr.1 hr.2.1
    exact q.to hr.2.2.1 hr.1
theorem cndS_ok {T : Int → Int} {n : Int} : ∀ (k mo : Nat) (i m d : Int) (f : FN), 0 ≤ i → i ≤ n → m ≤ 60 → OKR n i m (cndS T n k mo i m d f) ∧ (mo = 0 → n - i < k → OKM n i m (cndS T n k mo i m d f)) := by
  intro k
  induction k with
  | zero =>
    intro mo i m d f i0 i1 m1
    have e : cndS T n 0 mo i m d f = (m, .inr (i, f)) := rfl
    rw [e]
    exact ⟨⟨Int.le_refl _, m1, Int.le_refl _, i1⟩, fun _ z => by omega⟩
  | succ k ih =>
    intro mo i m d f i0 i1 m1
    have sk := skp_ok (T := T) i1
    have lp := lep_ok (T := T) sk.2
    have fault : ∀ c : Int, 0 ≤ c → c ≤ 3 → OKM n i m (m, .inl (1 + 8 * skp T n i + c)) := fun c c0 c1 => ⟨Int.le_refl _, m1, by show 1 ≤ _; omega, by show _ ≤ (_ : Int); omega⟩
    match mo with
    | 0 =>
      rw [cnd0]
      by_cases h1 : wdB T n (skp T n i) wNOT = true
      · have w1 := (wdB_iff.mp h1).1
        rw [if_pos h1]
        split
        · exact ⟨(fault 2 (by omega) (by omega)).r, fun _ _ => fault 2 (by omega) (by omega)⟩
        · have q := ih 0 (lep T n (skp T n i)) m (d + 1) (fun _ => 0) (by omega) lp.2 m1
          have last : ∀ j m2 (t : FN), j ≤ n → m2 ≤ 60 → OKR n j m2 (m2, .inr (j, fun w => 1 - t w)) := fun j m2 t a2 a4 => ⟨Int.le_refl _, a4, Int.le_refl _, a2⟩
          refine ⟨(bnd_OKR q.1 (fun j m2 t a1 a2 a3 a4 => last j m2 t a2 a4)).to (by omega) (by omega), fun _ hk => ?_⟩
          exact (bnd_OKM (q.2 rfl (by omega)) (fun j m2 t a1 a2 a3 a4 => last j m2 t a2 a4)).to (by omega)
      · rw [if_neg h1]
        by_cases h2 : byF T n (skp T n i) = 91
        · have w1 := byF_lt h2 (by decide)
          rw [if_pos h2]
          split
          · exact ⟨(fault 2 (by omega) (by omega)).r, fun _ _ => fault 2 (by omega) (by omega)⟩
          · have q := ih 0 (skp T n i + 1) m (d + 1) (fun _ => 0) (by omega) (by omega) m1
            have last : ∀ j m2 (t : FN), skp T n i + 1 ≤ j → j ≤ n → m2 ≤ 60 → OKR n j m2 (if byF T n (skp T n j) = 93 then (m2, .inr (skp T n j + 1, t)) else (m2, .inl (1 + 8 * skp T n j + 0))) := by
              intro j m2 t a1 a2 a3
              have sj := skp_ok (T := T) a2
              split
              · rename_i hz
                have := byF_lt hz (by decide)
                exact ⟨Int.le_refl _, a3, by show j ≤ skp T n j + 1; omega, by show skp T n j + 1 ≤ n; omega⟩
              · exact ⟨Int.le_refl _, a3, by show 1 ≤ _; omega, by show _ ≤ (_ : Int); omega⟩
            refine ⟨?_, fun _ hk => ?_⟩
            · exact (bnd_OKR (bnd_OKR (bnd_OKR q.1 (fun j m2 t a1 a2 a3 a4 => (ih 1 j m2 (d + 1) t (by omega) a2 a4).1)) (fun j m2 t a1 a2 a3 a4 => (ih 2 j m2 (d + 1) t (by omega) a2 a4).1)) (fun j m2 t a1 a2 a3 a4 => last j m2 t a1 a2 a4)).to (by omega) (by omega)
            · exact (bnd_OKM (bnd_OKM (bnd_OKM (q.2 rfl (by omega)) (fun j m2 t a1 a2 a3 a4 => (ih 1 j m2 (d + 1) t (by omega) a2 a4).1)) (fun j m2 t a1 a2 a3 a4 => (ih 2 j m2 (d + 1) t (by omega) a2 a4).1)) (fun j m2 t a1 a2 a3 a4 => last j m2 t (by omega) a2 a4)).to (by omega)
        · rw [if_neg h2]
          have q := cmpS_ok (T := T) i0 i1 m1
          exact ⟨q.r, fun _ _ => q⟩
    | 1 =>
      refine ⟨?_, fun z => by omega⟩
      rw [cnd1]
      split
      · have q := ih 0 (lep T n (skp T n i)) m d (fun _ => 0) (by omega) lp.2 m1
        exact (bnd_OKR q.1 (fun j m2 t a1 a2 a3 a4 => (ih 1 j m2 d _ (by omega) a2 a4).1)).to (by omega) (by omega)
      · exact ⟨Int.le_refl _, m1, sk.1, sk.2⟩
    | mo + 2 =>
      refine ⟨?_, fun z => by omega⟩
      rw [cnd2]
      split
      · have q := ih 0 (lep T n (skp T n i)) m d (fun _ => 0) (by omega) lp.2 m1
        exact (bnd_OKR (bnd_OKR q.1 (fun j m2 t a1 a2 a3 a4 => (ih 1 j m2 d _ (by omega) a2 a4).1)) (fun j m2 t a1 a2 a3 a4 => (ih 2 j m2 d _ (by omega) a2 a4).1)).to (by omega) (by omega)
      · exact ⟨Int.le_refl _, m1, sk.1, sk.2⟩
