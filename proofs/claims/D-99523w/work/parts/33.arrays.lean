/-! writes of fields, arrays, new things, constants of the pool, statics, casts -/
def aty (t : Nat) : FieldType := match t with
  | 0 => .int
  | 1 => .byte
  | 2 => .boolean
  | 3 => .long
  | 4 => .object "java/lang/Object"
  | 5 => .object "EdgeWalk$State"
  | 6 => .object "EdgeWalk$Image"
  | 7 => .int
  | 8 => .byte
  | _ => .object "java/lang/String"
section
variable {p : Program} {l : Launch} {e : Env} {R : Room} {s : State} {m : MethodId} {args : Array Value} {below : List Frame} {meth : Method} {c : Code} {Q : State → Prop} {w : OM} {nL cu su pc : Nat} {cc : ByteArray} {ls : LVs} {st r : List AV} {hs0 h : AH}
theorem locs_put {locs : List Loc} {q i : Nat} {a : Nat} (hL : ∀ x ∈ locs, (oH w).size ≤ x.base) (own : 64 ≤ ix a) (e1 : cr w (some a) = .ref q) : ∀ x ∈ locs ++ [(⟨q, i⟩ : Loc)], (oH w).size ≤ x.base := by
  intro x hx
  rcases List.mem_append.mp hx with h1 | h1
  · exact hL x h1
  · rw [List.mem_singleton.mp h1]
    rw [cr_own own] at e1
    cases e1
    show (oH w).size ≤ (oH w).size + (ix a - 64)
    omega
theorem VALs.heap {h' : AH} (hh : h'.1 = h.1) (hv : VALs hs0 h ls st) : VALs hs0 h' ls st := by
  have e : ∀ v, vok h' v ↔ vok h v := fun v => by
    unfold vok
    split
    · unfold val hN; rw [hh]
    · exact Iff.rfl
  exact ⟨fun q hq => (e _).mpr (hv.1 q hq), fun v hq => (e _).mpr (hv.2.1 v hq), fun a ha => by have := hv.2.2 a ha; unfold val hN at this ⊢; rw [hh]; exact this⟩
theorem k_putfield (hw : WOK w) (hx : p.tables.exec = Jvm.exec) (hb : c.code = cc) {own : String} {idx tag t : Nat} {z : Int} {a : Nat} {v : AV} (hown : s.vm.findClass own = some m.cls) (hts : ∀ w ∈ lw_all, w.before args s = true) (hK : KU w s) (hf : PutOK own meth.name idx tag z t) (hd : decode cc pc = .ok (.putfield idx, 3)) (ht : tg a = tag) (k : fput h a z t v (fun h' => WPk p l e R s m args below meth c Q w nL hs0 cu su (pc + 3) ls r h')) : WPk p l e R s m args below meth c Q w nL hs0 cu su pc ls (v :: vo a :: r) h := by
  intro hv H locs la hR hL hl
  obtain ⟨ci, k0, C, T, ty, ref, rfl, rfl, hk, rfl, ⟨hc, hin, hty, hnm, htt, h16⟩, hsame, hlink⟩ := hf
  have hva : val h a := vs_head (vs_tail hv)
  have own6 : 64 ≤ ix a := own_of hR hva (by omega)
  obtain ⟨q, cell, e1, e2, e3, e4, e5, e6, e7⟩ := atB_of hR hva ht
  have e6 := e6 own6
  obtain ⟨hS, hfc, kC, hkC, hkind⟩ := hK.1.2.2.2.2.1 ci _ hc
  obtain ⟨cf, kf, fi, f, hi, hsl⟩ := hS k0 hk
  have hst := (u_facts hfc hkC (u_lays hts hin hk) hi).1
  have hap := va_apart (own := own) hts hin ty hty hnm hK.1.2.2.2.2 hc
  obtain ⟨hn, hfit, h', k1, hh1, hrel⟩ := fput_cv hw hR hva (vs_head hv) ht h16 hk (htt k0 hk).1 (htt k0 hk).2 k hap e1 e2 e3 e6 e7
  have hlt : f.slot < cell.slots.size := by rw [hsl]; exact k2_hasslot (e7 k0 hk)
  have hfits := u_fits hfc hkC hkind (u_lays hts hin hk) hi (hty k0 hk) hn hfit
  have hq : q < H.size := (Array.getElem?_eq_some_iff.mp e2).1
  have k2 := k1 (VALs.heap hh1 (vs_tail (vs_tail hv))) (H.setIfInBounds q (cell.setSlot f.slot (cv w v))) (locs ++ [⟨q, f.slot⟩]) la
    (hrel _ (by rw [hsl]; simp [hq]) (by simp) (fun x hx => by simp [Array.getElem?_setIfInBounds, Ne.symm hx])) (locs_put hL own6 e1) hl
  simp only [List.map_cons]
  rw [show cv w (vo a) = .ref q from e1]
  have hkn : cell.vm ≠ .unknown := e4
  have hfs : s.fitsSlot cell.cls cell.vm f.slot (cv w v) = true := by rw [e6, e3]; exact hfits.2
  rcases hlink with ⟨hfin, hl1⟩ | ⟨hfin, hin2, hdecl, hl1⟩
  · have hlay := hts _ (hin _ (u_in_lay hk))
    unfold u_lay at hlay
    rw [if_neg (by rw [hfin]; decide)] at hlay
    have h6 := u_store hfc hkC hkind hlay hi (hty k0 hk) hn hfit
    rcases hl1 with hl1 | ⟨host, hl1⟩
    · exact W.putf hx hb hown (hts _ hl1) (same_of hts hsame _ hi) hst (Or.inl h6.1) e2 hkn hlt hfits.1 hfs rfl rfl hd k2
    · exact va_Wputf hx hb hown (va_Nw.use rfl (hK.1.1 _ hl1 rfl)) (same_of hts hsame _ hi) hst (Or.inl h6.1) e2 hkn hlt hfits.1 hfs rfl rfl hd k2
  · have hlay := hts _ (hin _ (u_in_lay hk))
    unfold u_lay at hlay
    rw [if_pos hfin] at hlay
    have hcf : m.cls = cf := by
      obtain ⟨_, _, c', _, _, _, -, -, hf', -, -, -, hown2, -⟩ := Cond.laysFinal_spec hlay
      have e1 : c' = cf := by have := hi.symm.trans hf'; simp at this; exact this.1.symm
      rw [hdecl] at hown2
      rw [← e1]; exact Option.some.inj (hown.symm.trans hown2)
    exact W.putf hx hb hown (hts _ hl1) (same_of hts hsame _ hi) hst (Or.inr ⟨hcf, hin2⟩) e2 hkn hlt hfits.1 hfs rfl rfl hd k2
theorem arr_ofX {H : Heap} {a : Nat} (hK : KU w s) (hR : Rel w h H) (hv : val h a) (ht : tg a ≤ 9) : ∃ (q : Nat) (cell : Cell), cr w (some a) = .ref q ∧ H[q]? = some cell ∧ s.isArrayOf cell (aty (tg a)) ∧ cell.vm ≠ .unknown ∧ szOK a cell.slots.size ∧ (∀ j : Nat, j < ln a → cell.slots[j]? = some (elt w h a j)) ∧ cell.cls = acl w a ∧ ∀ z, cell.vm ≠ .statics z := by
  have h1 := (hR.2.2.2.1 a hv).2
  have h2 := (hR.2.2.2.1 a hv).1
  unfold atO at h1
  rw [if_pos ht] at h1
  obtain ⟨q, cell, e1, e2, e3, e4, e5, e6, e7⟩ := h1
  refine ⟨q, cell, e1, e2, ⟨e5, ?_⟩, e4, e6, e7, e3, e5⟩
  rw [e3]
  show isAr s (acl w a) (aty (tg a))
  unfold acl
  by_cases hx : ix a < 64
  · rw [if_pos hx]
    rcases h2.1 hx with ⟨q1, q2⟩ | ⟨q1, q2⟩ | ⟨q1, q2⟩ | q1 | q1
    · rw [q1]; exact hK.2.1.1 _ _ hx q2
    · rw [q1]; exact hK.2.1.1 _ _ hx q2
    · rw [q1]; exact hK.2.1.1 _ _ hx q2
    · omega
    · omega
  · rw [if_neg hx]
    have ht6 : tg a ≤ 6 := by
      rcases h2.2 (by omega) with z | z
      · exact z
      · omega
    have key : ∀ (t : Nat), t ≤ 6 → isAr s (oA w t) (aty t) := by
      intro t ht
      have hk2 := hK.1.2.2.2.2.2
      have g : ∀ (cA : ClassId) (ty : FieldType), ArrOfT s cA ty → isAr s cA ty := fun cA ty hz => (hz 0 (fun _ => .null)).2
      rcases (by omega : t = 0 ∨ t = 1 ∨ t = 2 ∨ t = 3 ∨ t = 4 ∨ t = 5 ∨ t = 6) with z | z | z | z | z | z | z <;> subst z
      · exact g _ _ (hk2 0 _ rfl).1
      · exact g _ _ (hk2 1 _ rfl).1
      · exact g _ _ (hk2 2 _ rfl).1
      · exact g _ _ (hk2 3 _ rfl).1
      · exact g _ _ (hk2 4 _ rfl).1
      · exact g _ _ (hk2 5 _ rfl).1
      · exact g _ _ (hk2 6 _ rfl).1
    exact key _ ht6
theorem sz_le {a m : Nat} (h : szOK a m) : ln a ≤ m := by
  rcases h with h | h
  · omega
  · exact h.2.1
theorem sz_int {a m : Nat} (h : szOK a m) : m.toInt32 = Int32.ofNat (ln a) := by
  rcases h with h | h
  · rw [h]
  · exact h.2.2
theorem arr_of {H : Heap} {a : Nat} (hK : KU w s) (hR : Rel w h H) (hv : val h a) (ht : tg a ≤ 6) : ∃ (q : Nat) (cell : Cell), cr w (some a) = .ref q ∧ H[q]? = some cell ∧ s.isArrayOf cell (aty (tg a)) ∧ cell.vm ≠ .unknown ∧ cell.slots.size = ln a ∧ (∀ j : Nat, j < ln a → cell.slots[j]? = some (elt w h a j)) ∧ cell.cls = acl w a ∧ ∀ z, cell.vm ≠ .statics z := by
  obtain ⟨q, cell, e1, e2, e3, e4, e5, e6, e7, e9⟩ := arr_ofX hK hR hv (by omega)
  have h64 := own_of hR hv (Or.inl ht)
  refine ⟨q, cell, e1, e2, e3, e4, ?_, e6, e7, e9⟩
  rcases e5 with e5 | e5
  · exact e5
  · omega
theorem ln_lt (a : Nat) : ln a < 4096 := Nat.mod_lt _ (by decide)
theorem k_arraylength (hx : p.tables.exec = Jvm.exec) (hb : c.code = cc) {a : Nat} (hK : KU w s) (ht : arrAny a = true) (hd : decode cc pc = .ok (.arraylength, 1)) (k : WPk p l e R s m args below meth c Q w nL hs0 cu su (pc + 1) ls (vi (ln a) :: r) h) : WPk p l e R s m args below meth c Q w nL hs0 cu su pc ls (vo a :: r) h := by
  intro hv H locs la hR hL hl
  have ht9 : tg a ≤ 9 := Nat.le_of_ble_eq_true ht
  obtain ⟨q, cell, e1, e2, e3, e4, e5, e6, -⟩ := arr_ofX hK hR (vs_head hv) ht9
  simp only [List.map_cons]
  rw [show cv w (vo a) = .ref q from e1]
  refine W.alen hx hb e2 e3 ?_ rfl rfl hd (k (vs_cons trivial (vs_tail hv)) H locs la hR hL hl)
  exact sz_int e5
theorem idx_ok {i : Int} {n : Nat} {cell : Cell} (e5 : n ≤ cell.slots.size) (h0 : 0 ≤ i) (h1 : i < n) (hn : n < 4096) : ¬ (Int32.ofInt i < 0 ∨ cell.slots.size ≤ (Int32.ofInt i).toNatClampNeg) ∧ (Int32.ofInt i).toNatClampNeg = i.toNat := by
  have e := nC (a := i) h0 (by omega)
  refine ⟨fun z => ?_, e⟩
  rcases z with z | z
  · exact nneg h0 (by omega) z
  · rw [e] at z; omega
theorem k_iaload (hx : p.tables.exec = Jvm.exec) (hb : c.code = cc) {a : Nat} {i : Int} {v : Int} (hK : KU w s) (ht : arrI a = true) (h0 : 0 ≤ i) (h1 : i < ln a) (hv0 : hI h a i = v) (hd : decode cc pc = .ok (.iaload, 1)) (k : WPk p l e R s m args below meth c Q w nL hs0 cu su (pc + 1) ls (vi v :: r) h) : WPk p l e R s m args below meth c Q w nL hs0 cu su pc ls (vi i :: vo a :: r) h := by
  intro hv H locs la hR hL hl
  have ht7 : tg a = 0 ∨ tg a = 7 := by
    unfold arrI at ht
    rcases (Bool.or_eq_true _ _).mp ht with z | z
    · exact Or.inl (Nat.eq_of_beq_eq_true z)
    · exact Or.inr (Nat.eq_of_beq_eq_true z)
  have ha : aty (tg a) = .int := by rcases ht7 with z | z <;> rw [z] <;> rfl
  have hel : elt w h a i.toNat = cv w (vi v) := by
    unfold elt
    rcases ht7 with z | z <;> (rw [z, ← hv0, show ((i.toNat : Nat) : Int) = i by omega]; rfl)
  have hvk : vok h (vi v) := trivial
  obtain ⟨q, cell, e1, e2, e3, e4, e5, e6, -⟩ := arr_ofX hK hR (vs_head (vs_tail hv)) (by omega)
  obtain ⟨g1, g2⟩ := idx_ok (sz_le e5) h0 h1 (ln_lt a)
  have k2 := k (vs_cons hvk (vs_tail (vs_tail hv))) H locs la hR hL hl
  simp only [List.map_cons] at k2 ⊢
  rw [show cv w (vo a) = .ref q from e1, show cv w (vi i) = .int (Int32.ofInt i) from rfl]
  exact W.iald hx hb e2 (ha ▸ e3) e4 g1 (by rw [g2, ← hel]; exact e6 _ (by omega)) rfl rfl hd k2
theorem k_laload (hx : p.tables.exec = Jvm.exec) (hb : c.code = cc) {a : Nat} {i : Int} {v : Int64} (hK : KU w s) (ht : tg a = 3) (h0 : 0 ≤ i) (h1 : i < ln a) (hv0 : hL h a i = v) (hd : decode cc pc = .ok (.laload, 1)) (k : WPk p l e R s m args below meth c Q w nL hs0 cu su (pc + 1) ls (vl v :: r) h) : WPk p l e R s m args below meth c Q w nL hs0 cu su pc ls (vi i :: vo a :: r) h := by
  intro hv H locs la hR hL hl
  have ht7 : tg a ≤ 9 := by omega
  have ha : aty (tg a) = .long := by rw [ht]; rfl
  have hel : elt w h a i.toNat = cv w (vl v) := by
    unfold elt
    rw [ht, ← hv0, show ((i.toNat : Nat) : Int) = i by omega]; rfl
  have hvk : vok h (vl v) := trivial
  obtain ⟨q, cell, e1, e2, e3, e4, e5, e6, -⟩ := arr_ofX hK hR (vs_head (vs_tail hv)) (by omega)
  obtain ⟨g1, g2⟩ := idx_ok (sz_le e5) h0 h1 (ln_lt a)
  have k2 := k (vs_cons hvk (vs_tail (vs_tail hv))) H locs la hR hL hl
  simp only [List.map_cons] at k2 ⊢
  rw [show cv w (vo a) = .ref q from e1, show cv w (vi i) = .int (Int32.ofInt i) from rfl]
  exact W.lald hx hb e2 (ha ▸ e3) e4 g1 (by rw [g2, ← hel]; exact e6 _ (by omega)) rfl rfl hd k2
theorem k_aaload (hx : p.tables.exec = Jvm.exec) (hb : c.code = cc) {a : Nat} {i : Int} {v : Option Nat} (hK : KU w s) (ht : arrP a = true) (h0 : 0 ≤ i) (h1 : i < ln a) (hv0 : hP h a i = v) (hd : decode cc pc = .ok (.aaload, 1)) (k : WPk p l e R s m args below meth c Q w nL hs0 cu su (pc + 1) ls (vr v :: r) h) : WPk p l e R s m args below meth c Q w nL hs0 cu su pc ls (vi i :: vo a :: r) h := by
  intro hv H locs la hR hL hl
  have ht7 : tg a = 4 ∨ tg a = 5 ∨ tg a = 6 ∨ tg a = 9 := by
    unfold arrP at ht
    simp only [Bool.or_eq_true] at ht
    rcases ht with ((z | z) | z) | z
    · exact Or.inl (Nat.eq_of_beq_eq_true z)
    · exact Or.inr (Or.inl (Nat.eq_of_beq_eq_true z))
    · exact Or.inr (Or.inr (Or.inl (Nat.eq_of_beq_eq_true z)))
    · exact Or.inr (Or.inr (Or.inr (Nat.eq_of_beq_eq_true z)))
  have ha : (aty (tg a)).isReference = true := by rcases ht7 with z | z | z | z <;> rw [z] <;> rfl
  have hel : elt w h a i.toNat = cv w (vr v) := by
    unfold elt
    rcases ht7 with z | z | z | z <;> (rw [z, ← hv0, show ((i.toNat : Nat) : Int) = i by omega]; rfl)
  have hvk : vok h (vr v) := by
    cases v with
    | none => trivial
    | some b => exact hR.2.2.2.2 a i b (vs_head (vs_tail hv)) hv0
  obtain ⟨q, cell, e1, e2, e3, e4, e5, e6, -⟩ := arr_ofX hK hR (vs_head (vs_tail hv)) (by omega)
  obtain ⟨g1, g2⟩ := idx_ok (sz_le e5) h0 h1 (ln_lt a)
  have k2 := k (vs_cons hvk (vs_tail (vs_tail hv))) H locs la hR hL hl
  simp only [List.map_cons] at k2 ⊢
  rw [show cv w (vo a) = .ref q from e1, show cv w (vi i) = .int (Int32.ofInt i) from rfl]
  exact W.aald hx hb e2 e3 ha e4 g1 (by rw [g2, ← hel]; exact e6 _ (by omega)) rfl rfl hd k2
theorem k_baload (hx : p.tables.exec = Jvm.exec) (hb : c.code = cc) {a : Nat} {i v : Int} (hK : KU w s) (ht : arrB a = true) (h0 : 0 ≤ i) (h1 : i < ln a) (hv0 : hI h a i = v) (hd : decode cc pc = .ok (.baload, 1)) (k : WPk p l e R s m args below meth c Q w nL hs0 cu su (pc + 1) ls (vi v :: r) h) : WPk p l e R s m args below meth c Q w nL hs0 cu su pc ls (vi i :: vo a :: r) h := by
  intro hv H locs la hR hL hl
  have ht7 : (tg a = 1 ∨ tg a = 8) ∨ tg a = 2 := by
    unfold arrB at ht
    simp only [Bool.or_eq_true] at ht
    rcases ht with (z | z) | z
    · exact Or.inl (Or.inl (Nat.eq_of_beq_eq_true z))
    · exact Or.inr (Nat.eq_of_beq_eq_true z)
    · exact Or.inl (Or.inr (Nat.eq_of_beq_eq_true z))
  have hel : elt w h a i.toNat = cv w (vi v) := by
    unfold elt
    rcases ht7 with (z | z) | z <;> (rw [z, ← hv0, show ((i.toNat : Nat) : Int) = i by omega]; rfl)
  obtain ⟨q, cell, e1, e2, e3, e4, e5, e6, -⟩ := arr_ofX hK hR (vs_head (vs_tail hv)) (by omega)
  obtain ⟨g1, g2⟩ := idx_ok (sz_le e5) h0 h1 (ln_lt a)
  have k2 := k (vs_cons (v := vi v) trivial (vs_tail (vs_tail hv))) H locs la hR hL hl
  simp only [List.map_cons] at k2 ⊢
  rw [show cv w (vo a) = .ref q from e1, show cv w (vi i) = .int (Int32.ofInt i) from rfl]
  rcases ht7 with z | z
  · have ha : aty (tg a) = .byte := by rcases z with z | z <;> rw [z] <;> rfl
    exact W.bald hx hb e2 (ha ▸ e3) e4 g1 (by rw [g2, ← hel]; exact e6 _ (by omega)) rfl rfl hd k2
  · have ha : aty (tg a) = .boolean := by rw [z]; rfl
    exact W.zald hx hb e2 (ha ▸ e3) e4 g1 (by rw [g2, ← hel]; exact e6 _ (by omega)) rfl rfl hd k2
/-- a store into an own array -/
theorem rel_store {H H' : Heap} {a q : Nat} {i : Int} {h' : AH} {v : Value} {cell : Cell} (hw : WOK w) (hK : KU w s) (hR : Rel w h H) (hva : val h a) (ht : tg a ≤ 6) (h0 : 0 ≤ i) (h1 : i < ln a) (hh : h'.1 = h.1) (hbb : ∀ b, b ≠ a → (∀ k, hI h' b k = hI h b k) ∧ (∀ k, hL h' b k = hL h b k) ∧ (∀ k, hP h' b k = hP h b k))
    (e1 : cr w (some a) = .ref q) (e2 : H[q]? = some cell) (e4 : cell.vm ≠ .unknown) (e9 : ∀ z, cell.vm ≠ .statics z) (e3 : cell.cls = acl w a) (e5 : cell.slots.size = ln a) (e6 : ∀ j : Nat, j < ln a → cell.slots[j]? = some (elt w h a j)) (hel : ∀ j : Nat, j < ln a → elt w h' a j = if (j : Int) = i then v else elt w h a j) (hp : ∀ k b, hP h' a k = some b → val h b)
    (f1 : H'[q]? = some (cell.setSlot i.toNat v)) (f2 : H'.size = H.size) (f3 : ∀ x : Nat, x ≠ q → H'[x]? = H[x]?) : Rel w h' H' := by
  refine Rel.write hw hR hva (own_of hR hva (Or.inl ht)) hh hbb e1 ?_ f2 f3 hp
  unfold atO
  rw [if_pos (by omega)]
  refine ⟨q, _, e1, f1, e3, e4, e9, Or.inl ?_, fun j hj => ?_⟩
  · show (cell.slots.setIfInBounds i.toNat v).size = ln a
    rw [Array.size_setIfInBounds]; exact e5
  · rw [hel j hj]
    by_cases hji : (j : Int) = i
    · rw [if_pos hji]
      have : i.toNat = j := by omega
      rw [this]
      simp [Cell.setSlot, e5, hj]
    · rw [if_neg hji, slot_ne _ _ (by omega)]
      exact e6 j hj
theorem k_iastore (hw : WOK w) (hx : p.tables.exec = Jvm.exec) (hb : c.code = cc) {a : Nat} {i : Int} {v : Int} (hK : KU w s) (ht : tg a = 0) (h0 : 0 ≤ i) (h1 : i < ln a) (hd : decode cc pc = .ok (.iastore, 1)) (k : WPk p l e R s m args below meth c Q w nL hs0 cu su (pc + 1) ls r (sI h a i v)) : WPk p l e R s m args below meth c Q w nL hs0 cu su pc ls (vi v :: vi i :: vo a :: r) h := by
  intro hv H locs la hR hL hl
  have hva : val h a := vs_head (vs_tail (vs_tail hv))
  obtain ⟨q, cell, e1, e2, e3, e4, e5, e6, e7, e9⟩ := arr_of hK hR hva (by omega)
  obtain ⟨g1, g2⟩ := idx_ok (Nat.le_of_eq e5.symm) h0 h1 (ln_lt a)
  have ha : aty (tg a) = .int := by rw [ht]; rfl
  simp only [List.map_cons]
  rw [show cv w (vo a) = .ref q from e1, show cv w (vi i) = .int (Int32.ofInt i) from rfl]
  refine W.iast hx hb e2 (ha ▸ e3) e4 g1 rfl rfl hd (fun H' f1 f2 f3 => ?_)
  rw [g2] at f1 ⊢
  refine k (VALs.heap rfl (vs_tail (vs_tail (vs_tail hv)))) H' _ la (rel_store hw hK hR hva (by omega) h0 h1 rfl (fun b hb2 => ⟨fun j => ?_, fun j => rfl, fun j => rfl⟩) e1 e2 e4 e9 e7 e5 e6 (fun j hj => ?_) (fun j b hj => hR.2.2.2.2 a j b hva hj) f1 f2 f3) (locs_put hL (own_of hR hva (by omega)) e1) hl
  · show uI h.2.1 a i v b j = h.2.1 b j
    unfold uI
    rw [if_neg (fun z => hb2 z.1)]
  · unfold elt
    rw [ht]
    show Value.int (Int32.ofInt (uI h.2.1 a i v a j)) = _
    unfold uI
    by_cases hji : (j : Int) = i
    · rw [if_pos ⟨rfl, hji⟩, if_pos hji]
    · rw [if_neg (fun z => hji z.2), if_neg hji]; rfl
theorem k_lastore (hw : WOK w) (hx : p.tables.exec = Jvm.exec) (hb : c.code = cc) {a : Nat} {i : Int} {v : Int64} (hK : KU w s) (ht : tg a = 3) (h0 : 0 ≤ i) (h1 : i < ln a) (hd : decode cc pc = .ok (.lastore, 1)) (k : WPk p l e R s m args below meth c Q w nL hs0 cu su (pc + 1) ls r (sL h a i v)) : WPk p l e R s m args below meth c Q w nL hs0 cu su pc ls (vl v :: vi i :: vo a :: r) h := by
  intro hv H locs la hR hL hl
  have hva : val h a := vs_head (vs_tail (vs_tail hv))
  obtain ⟨q, cell, e1, e2, e3, e4, e5, e6, e7, e9⟩ := arr_of hK hR hva (by omega)
  obtain ⟨g1, g2⟩ := idx_ok (Nat.le_of_eq e5.symm) h0 h1 (ln_lt a)
  have ha : aty (tg a) = .long := by rw [ht]; rfl
  simp only [List.map_cons]
  rw [show cv w (vo a) = .ref q from e1, show cv w (vi i) = .int (Int32.ofInt i) from rfl]
  refine W.last hx hb e2 (ha ▸ e3) e4 g1 rfl rfl hd (fun H' f1 f2 f3 => ?_)
  rw [g2] at f1 ⊢
  refine k (VALs.heap rfl (vs_tail (vs_tail (vs_tail hv)))) H' _ la (rel_store hw hK hR hva (by omega) h0 h1 rfl (fun b hb2 => ⟨fun j => rfl, fun j => ?_, fun j => rfl⟩) e1 e2 e4 e9 e7 e5 e6 (fun j hj => ?_) (fun j b hj => hR.2.2.2.2 a j b hva hj) f1 f2 f3) (locs_put hL (own_of hR hva (by omega)) e1) hl
  · show uL h.2.2.1 a i v b j = h.2.2.1 b j
    unfold uL
    rw [if_neg (fun z => hb2 z.1)]
  · unfold elt
    rw [ht]
    show Value.long ( (uL h.2.2.1 a i v a j)) = _
    unfold uL
    by_cases hji : (j : Int) = i
    · rw [if_pos ⟨rfl, hji⟩, if_pos hji]
    · rw [if_neg (fun z => hji z.2), if_neg hji]; rfl
theorem narB {v : Int} (h1 : -128 ≤ v) (h2 : v ≤ 127) : narrow .byte (.int (Int32.ofInt v)) = .int (Int32.ofInt v) := by
  show Value.int ((Int32.ofInt v).toInt8.toInt32) = _
  congr 1
  rw [← Int32.toInt_inj, Int8.toInt_toInt32, Int32.toInt8_ofInt, Int8.toInt_ofInt_of_le (by omega) (by omega), toI ⟨by omega, by omega⟩]
theorem narZ {v : Int} (h1 : 0 ≤ v) (h2 : v ≤ 1) : narrow .boolean (.int (Int32.ofInt v)) = .int (Int32.ofInt v) := by
  rcases (by omega : v = 0 ∨ v = 1) with z | z <;> subst z <;> rfl
theorem k_bastore (hw : WOK w) (hx : p.tables.exec = Jvm.exec) (hb : c.code = cc) {a : Nat} {i v : Int} (hK : KU w s) (ht : (tg a = 1 ∧ -128 ≤ v ∧ v ≤ 127) ∨ (tg a = 2 ∧ 0 ≤ v ∧ v ≤ 1)) (h0 : 0 ≤ i) (h1 : i < ln a) (hd : decode cc pc = .ok (.bastore, 1)) (k : WPk p l e R s m args below meth c Q w nL hs0 cu su (pc + 1) ls r (sI h a i v)) : WPk p l e R s m args below meth c Q w nL hs0 cu su pc ls (vi v :: vi i :: vo a :: r) h := by
  intro hv H locs la hR hL hl
  have hva : val h a := vs_head (vs_tail (vs_tail hv))
  obtain ⟨q, cell, e1, e2, e3, e4, e5, e6, e7, e9⟩ := arr_of hK hR hva (by omega)
  obtain ⟨g1, g2⟩ := idx_ok (Nat.le_of_eq e5.symm) h0 h1 (ln_lt a)
  simp only [List.map_cons]
  rw [show cv w (vo a) = .ref q from e1, show cv w (vi i) = .int (Int32.ofInt i) from rfl]
  have fin : ∀ H' : Heap, H'[q]? = some (cell.setSlot i.toNat (.int (Int32.ofInt v))) → H'.size = H.size → (∀ x : Nat, x ≠ q → H'[x]? = H[x]?) → Rel w (sI h a i v) H' := by
    intro H' f1 f2 f3
    refine rel_store hw hK hR hva (by omega) h0 h1 rfl (fun b hb2 => ⟨fun j => ?_, fun j => rfl, fun j => rfl⟩) e1 e2 e4 e9 e7 e5 e6 (fun j hj => ?_) (fun j b hj => hR.2.2.2.2 a j b hva hj) f1 f2 f3
    · show uI h.2.1 a i v b j = h.2.1 b j
      unfold uI
      rw [if_neg (fun z => hb2 z.1)]
    · have hu : hI (sI h a i v) a j = if (j : Int) = i then v else hI h a j := by
        show uI h.2.1 a i v a j = _
        unfold uI
        by_cases hji : (j : Int) = i
        · rw [if_pos ⟨rfl, hji⟩, if_pos hji]
        · rw [if_neg (fun z => hji z.2), if_neg hji]
      unfold elt
      rcases ht with ⟨z, -⟩ | ⟨z, -⟩ <;> rw [z] <;> (show Value.int (Int32.ofInt (hI (sI h a i v) a j)) = _; rw [hu]; split <;> rfl)
  rcases ht with ⟨z, z1, z2⟩ | ⟨z, z1, z2⟩
  · have ha : aty (tg a) = .byte := by rw [z]; rfl
    refine W.bast hx hb e2 (ha ▸ e3) e4 g1 rfl rfl hd (fun H' f1 f2 f3 => ?_)
    rw [narB z1 z2] at f1
    rw [g2] at f1 ⊢
    exact k (VALs.heap rfl (vs_tail (vs_tail (vs_tail hv)))) H' _ la (fin H' f1 f2 f3) (locs_put hL (own_of hR hva (by omega)) e1) hl
  · have ha : aty (tg a) = .boolean := by rw [z]; rfl
    refine W.zast hx hb e2 (ha ▸ e3) e4 g1 rfl rfl hd (fun H' f1 f2 f3 => ?_)
    rw [narZ z1 z2] at f1
    rw [g2] at f1 ⊢
    exact k (VALs.heap rfl (vs_tail (vs_tail (vs_tail hv)))) H' _ la (fin H' f1 f2 f3) (locs_put hL (own_of hR hva (by omega)) e1) hl
end
