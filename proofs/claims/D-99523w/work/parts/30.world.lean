/-! THE WORLD: what an abstract heap says of the machine's heap -/
/-- classes and slots; classes of new arrays by tag; the heap at the start; external values; classes of external arrays -/
abbrev OM : Type := va_G × (Nat → ClassId) × Heap × (Nat → Value) × (Nat → ClassId)
abbrev oD (w : OM) : va_G := w.1
abbrev oA (w : OM) : Nat → ClassId := w.2.1
abbrev oH (w : OM) : Heap := w.2.2.1
abbrev oV (w : OM) : Nat → Value := w.2.2.2.1
abbrev oE (w : OM) : Nat → ClassId := w.2.2.2.2
abbrev oF (w : OM) : Nat → Prop := fun q => (oH w).size ≤ q
def cr (w : OM) (r : Option Nat) : Value := match r with
  | none => .null
  | some a => if ix a < 64 then oV w (ix a) else .ref ((oH w).size + (ix a - 64))
def cv (w : OM) (v : AV) : Value := match v with
  | .inl i => .int (Int32.ofInt i)
  | .inr (.inl x) => .long x
  | .inr (.inr r) => cr w r
def WOK (w : OM) : Prop := ∀ i, i < 64 → (oV w i = .null ∨ ∃ a : Nat, oV w i = .ref a ∧ (i ≠ 2 ∧ i ≠ 3 → a < (oH w).size))
def fld (w : OM) (h : AH) (c a k : Nat) : Value := match FT c k with
  | 0 => .int (Int32.ofInt (hI h a k))
  | 1 => .long (hL h a k)
  | 2 => cr w (hP h a k)
  | _ => .int (Int32.ofInt (hI h a k))
def elt (w : OM) (h : AH) (a j : Nat) : Value := match tg a with
  | 3 => .long (hL h a j)
  | 4 => cr w (hP h a j)
  | 5 => cr w (hP h a j)
  | 6 => cr w (hP h a j)
  | 9 => cr w (hP h a j)
  | _ => .int (Int32.ofInt (hI h a j))
def acl (w : OM) (a : Nat) : ClassId := if ix a < 64 then oE w (ix a) else oA w (tg a)
/-- how long an array's cell is: exactly; of an external one its length as an int is known -/
def szOK (a m : Nat) : Prop := m = ln a ∨ (ix a < 64 ∧ ln a ≤ m ∧ m.toInt32 = Int32.ofNat (ln a))
def atA (w : OM) (h : AH) (a : Nat) (H : Heap) : Prop := ∃ (q : Nat) (cell : Cell), cr w (some a) = .ref q ∧ H[q]? = some cell ∧ cell.cls = acl w a ∧ cell.vm ≠ .unknown ∧ (∀ z, cell.vm ≠ .statics z) ∧ szOK a cell.slots.size ∧ ∀ j : Nat, j < ln a → cell.slots[j]? = some (elt w h a j)
def atB (w : OM) (h : AH) (a : Nat) (H : Heap) : Prop := ∃ (q : Nat) (cell : Cell), cr w (some a) = .ref q ∧ H[q]? = some cell ∧ cell.cls = (oD w).1 (tg a - 16) ∧ cell.vm ≠ .unknown ∧ cell.vm.isStatics = false ∧ (64 ≤ ix a → cell.vm = .none) ∧ ∀ k : Nat, k < NF (tg a - 16) → cell.slots[(oD w).2 (tg a - 16) k]? = some (fld w h (tg a - 16) a k)
def atO (w : OM) (h : AH) (a : Nat) (H : Heap) : Prop := if tg a ≤ 9 then atA w h a H else if tg a = 10 then True else atB w h a H
def val (h : AH) (a : Nat) : Prop := ix a < hN h ∧ h.1.2 (ix a) = a
/-- the type of an external array, by its index -/
def XT (i : Nat) : Option FieldType := if i = 0 then some .int else if i = 1 then some (.object "java/lang/String") else if 5 ≤ i ∧ i % 2 = 1 then some .byte else none
def extOK (a : Nat) : Prop := (ix a < 64 → (tg a = 7 ∧ XT (ix a) = some .int) ∨ (tg a = 8 ∧ XT (ix a) = some .byte) ∨ (tg a = 9 ∧ XT (ix a) = some (.object "java/lang/String")) ∨ tg a = 10 ∨ tg a = 33) ∧ (64 ≤ ix a → tg a ≤ 6 ∨ (16 ≤ tg a ∧ tg a ≤ 32))
def ExtT (h : AH) : Prop := ∀ i, 1 ≤ i → i < 64 → h.1.2 i = extAd i
def Rel (w : OM) (h : AH) (H : Heap) : Prop := 64 ≤ hN h ∧ H.size = (oH w).size + (hN h - 64) ∧ ((∀ q : Nat, q < (oH w).size → H[q]? = (oH w)[q]?) ∧ ExtT h) ∧ (∀ a, val h a → extOK a ∧ atO w h a H) ∧ (∀ a k b, val h a → hP h a k = some b → val h b)
theorem mk_facts {i t n : Nat} (ht : t < 64) (hn : n < 4096) : ix (mk i t n) = i ∧ tg (mk i t n) = t ∧ ln (mk i t n) = n := by
  unfold ix tg ln mk
  omega
theorem cr_own {w : OM} {a : Nat} (h : 64 ≤ ix a) : cr w (some a) = .ref ((oH w).size + (ix a - 64)) := by
  show (if ix a < 64 then oV w (ix a) else .ref ((oH w).size + (ix a - 64))) = _
  rw [if_neg (by omega)]
theorem cr_cat (w : OM) (hw : WOK w) (r : Option Nat) : cr w r = .null ∨ ∃ a : Nat, cr w r = .ref a := by
  cases r with
  | none => exact Or.inl rfl
  | some a =>
    unfold cr
    by_cases h : ix a < 64
    · simp only [if_pos h]
      rcases hw _ h with e | ⟨q, e, -⟩
      · exact Or.inl e
      · exact Or.inr ⟨q, e⟩
    · simp only [if_neg h]
      exact Or.inr ⟨_, rfl⟩
theorem cv_cat {w : OM} (hw : WOK w) (v : AV) : (cv w v).category = cond (cat2 v) 2 1 := by
  match v with
  | .inl i => rfl
  | .inr (.inl x) => rfl
  | .inr (.inr r) =>
    rcases cr_cat w hw r with e | ⟨a, e⟩
    · show (cr w r).category = 1
      rw [e]; rfl
    · show (cr w r).category = 1
      rw [e]; rfl
theorem atO_congr {w : OM} {h h' : AH} {b : Nat} {H H' : Heap} (e1 : ∀ k, hI h' b k = hI h b k) (e2 : ∀ k, hL h' b k = hL h b k) (e3 : ∀ k, hP h' b k = hP h b k) (eq : tg b ≠ 10 → ∀ q, cr w (some b) = .ref q → H'[q]? = H[q]?) (hh : atO w h b H) : atO w h' b H' := by
  have el : ∀ j, elt w h' b j = elt w h b j := fun j => by
    unfold elt
    split <;> simp only [e1, e2, e3]
  have fl : ∀ c k, fld w h' c b k = fld w h c b k := fun c k => by
    unfold fld
    split <;> simp only [e1, e2, e3]
  unfold atO at hh ⊢
  split at hh
  · rename_i ht
    rw [if_pos ht]
    obtain ⟨q, cell, a1, a2, a3, a4, a5, a6, a7⟩ := hh
    exact ⟨q, cell, a1, by rw [eq (by omega) q a1]; exact a2, a3, a4, a5, a6, fun j hj => by rw [el]; exact a7 j hj⟩
  · rename_i ht
    rw [if_neg ht]
    split at hh
    · rename_i h10
      rw [if_pos h10]; trivial
    · rename_i h10
      rw [if_neg h10]
      obtain ⟨q, cell, a1, a2, a3, a4, a5, a6, a7⟩ := hh
      exact ⟨q, cell, a1, by rw [eq h10 q a1]; exact a2, a3, a4, a5, a6, fun k hk => by rw [fl]; exact a7 k hk⟩
theorem val_inj {h : AH} {a b : Nat} (ha : val h a) (hb : val h b) (e : ix a = ix b) : a = b := by
  rw [← ha.2, ← hb.2, e]
theorem ext23 {h : AH} {b : Nat} (hE : ExtT h) (hb : val h b) (h10 : tg b ≠ 10) : ix b ≠ 2 ∧ ix b ≠ 3 := by
  refine ⟨fun e => ?_, fun e => ?_⟩
  · have h1 := hE 2 (by decide) (by decide)
    rw [← e, hb.2, e] at h1
    rw [h1] at h10
    exact h10 (by decide +kernel)
  · have h1 := hE 3 (by decide) (by decide)
    rw [← e, hb.2, e] at h1
    rw [h1] at h10
    exact h10 (by decide +kernel)
theorem cr_apart {w : OM} (hw : WOK w) {h : AH} {a b q q' : Nat} (ha : val h a) (hb : val h b) (own : 64 ≤ ix a) (hne : b ≠ a) (h23 : ix b ≠ 2 ∧ ix b ≠ 3) (e : cr w (some a) = .ref q) (e' : cr w (some b) = .ref q') : q' ≠ q := by
  rw [cr_own own] at e
  cases e
  by_cases hx : ix b < 64
  · unfold cr at e'
    simp only [if_pos hx] at e'
    rcases hw _ hx with z | ⟨z, e2, hz⟩
    · rw [z] at e'; cases e'
    · rw [e2] at e'
      cases e'
      have := hz h23
      omega
  · rw [cr_own (by omega)] at e'
    cases e'
    intro z
    exact hne (val_inj hb ha (by omega))
/-- a write into one own cell -/
theorem Rel.write {w : OM} (hw : WOK w) {h h' : AH} {H H' : Heap} {a q : Nat} (R : Rel w h H) (va : val h a) (own : 64 ≤ ix a) (hh : h'.1 = h.1) (hb : ∀ b, b ≠ a → (∀ k, hI h' b k = hI h b k) ∧ (∀ k, hL h' b k = hL h b k) ∧ (∀ k, hP h' b k = hP h b k))
    (hq : cr w (some a) = .ref q) (e : atO w h' a H') (z : H'.size = H.size) (oq : ∀ p : Nat, p ≠ q → H'[p]? = H[p]?) (hp : ∀ k b, hP h' a k = some b → val h b) : Rel w h' H' := by
  obtain ⟨r1, r2, r3, r4, r5⟩ := R
  have hv : ∀ x, val h' x ↔ val h x := fun x => by unfold val hN; rw [hh]
  have hN' : hN h' = hN h := by unfold hN; rw [hh]
  have hq2 := hq
  rw [cr_own own] at hq2
  cases hq2
  refine ⟨by rw [hN']; exact r1, by rw [z, hN']; exact r2, ⟨fun p hp' => by rw [oq p (by omega)]; exact r3.1 p hp', by unfold ExtT; rw [hh]; exact r3.2⟩, fun b hvb => ?_, fun b k x hvb hk => ?_⟩
  · have hvb := (hv b).mp hvb
    refine ⟨(r4 b hvb).1, ?_⟩
    by_cases hba : b = a
    · rw [hba]; exact e
    · obtain ⟨q1, q2, q3⟩ := hb b hba
      exact atO_congr q1 q2 q3 (fun h10 p hp' => oq p (cr_apart hw va hvb own hba (ext23 r3.2 hvb h10) hq hp')) (r4 b hvb).2
  · have hvb := (hv b).mp hvb
    refine (hv x).mpr ?_
    by_cases hba : b = a
    · subst hba; exact hp k x hk
    · rw [(hb b hba).2.2 k] at hk
      exact r5 b k x hvb hk
theorem val_new {h : AH} {t n a : Nat} (ht : t < 64) (hn : n < 4096) : val (nwH h t n) a ↔ a = nwA h t n ∨ val h a := by
  have hm := mk_facts (i := h.1.1) ht hn
  unfold val nwH nwA hN
  constructor
  · rintro ⟨h1, h2⟩
    simp only at h1 h2
    by_cases e : ix a = h.1.1
    · left
      rw [if_pos e] at h2
      exact h2.symm
    · right
      rw [if_neg e] at h2
      exact ⟨by omega, h2⟩
  · rintro (e | ⟨h1, h2⟩)
    · rw [e]
      simp only [hm.1, if_true]
      exact ⟨by omega, trivial⟩
    · refine ⟨by simp only; omega, ?_⟩
      simp only
      rw [if_neg (by omega)]
      exact h2
/-- a new cell -/
theorem Rel.new {w : OM} (hw : WOK w) {h : AH} {H H' : Heap} {t n : Nat} (R : Rel w h H) (ht : t < 64) (hn : n < 4096) (hx : t ≤ 6 ∨ (16 ≤ t ∧ t ≤ 32)) (z : H'.size = H.size + 1) (oq : ∀ p : Nat, p < H.size → H'[p]? = H[p]?) (e : atO w (nwH h t n) (nwA h t n) H') : Rel w (nwH h t n) H' ∧ val (nwH h t n) (nwA h t n) ∧ cr w (some (nwA h t n)) = .ref H.size := by
  have hm := mk_facts (i := h.1.1) ht hn
  obtain ⟨r1, r2, r3, r4, r5⟩ := R
  have h1 : hN (nwH h t n) = hN h + 1 := rfl
  have hix : ix (nwA h t n) = hN h := hm.1
  have hvn : val (nwH h t n) (nwA h t n) := (val_new ht hn).mpr (Or.inl rfl)
  have hcr : cr w (some (nwA h t n)) = .ref H.size := by rw [cr_own (by omega), hix, r2]
  have hne : ∀ b, val h b → b ≠ nwA h t n := fun b hb e => by
    have := hb.1
    rw [e, hix] at this
    omega
  have hlt : ∀ (b q : Nat), val h b → tg b ≠ 10 → cr w (some b) = .ref q → q < H.size := fun b q hb h10 e => by
    by_cases hx : ix b < 64
    · unfold cr at e
      simp only [if_pos hx] at e
      rcases hw _ hx with z | ⟨z, e2, hz⟩
      · rw [z] at e; cases e
      · rw [e2] at e; cases e
        have := hz (ext23 r3.2 hb h10)
        omega
    · rw [cr_own (by omega)] at e
      cases e
      have := hb.1
      omega
  have hmem : ∀ b, b ≠ nwA h t n → (∀ k, hI (nwH h t n) b k = hI h b k) ∧ (∀ k, hL (nwH h t n) b k = hL h b k) ∧ (∀ k, hP (nwH h t n) b k = hP h b k) := fun b hb => by
    unfold hI hL hP nwH
    have hb' : b ≠ mk h.1.1 t n := hb
    simp only [if_neg hb']
    exact ⟨fun _ => trivial, fun _ => trivial, fun _ => trivial⟩
  refine ⟨⟨by omega, by rw [z, r2, h1]; omega, ⟨fun p hp => by rw [oq p (by omega)]; exact r3.1 p hp, fun i hi1 hi2 => ?_⟩, fun b hvb => ?_, fun b k x hvb hk => ?_⟩, hvn, hcr⟩
  · show (if i = h.1.1 then mk h.1.1 t n else h.1.2 i) = extAd i
    rw [if_neg (by have : h.1.1 = hN h := rfl; omega)]
    exact r3.2 i hi1 hi2
  · rcases (val_new ht hn).mp hvb with e2 | hvb
    · rw [e2]
      refine ⟨⟨fun q => by omega, fun _ => ?_⟩, e⟩
      show tg (mk h.1.1 t n) ≤ 6 ∨ _
      unfold nwA
      rw [hm.2.1]; exact hx
    · obtain ⟨q1, q2, q3⟩ := hmem b (hne b hvb)
      exact ⟨(r4 b hvb).1, atO_congr q1 q2 q3 (fun h10 p hp => oq p (hlt b p hvb h10 hp)) (r4 b hvb).2⟩
  · rcases (val_new ht hn).mp hvb with e2 | hvb
    · rw [e2] at hk
      unfold hP nwH at hk
      have : nwA h t n = mk h.1.1 t n := rfl
      rw [this] at hk
      simp only [if_true] at hk
      cases hk
    · rw [(hmem b (hne b hvb)).2.2 k] at hk
      exact (val_new ht hn).mpr (Or.inr (r5 b k x hvb hk))
