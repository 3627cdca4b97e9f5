/-! two natives: Object.getClass of an Object[], System.arraycopy of references -/
section
variable {p : Program} {l : Launch} {e : Env} {R : Room} {s : State} {m : MethodId} {args : Array Value} {below : List Frame} {meth : Method} {c : Code} {Q : State → Prop} {w : OM} {nL cu su pc : Nat} {cc : ByteArray} {ls : LVs} {st r : List AV} {hs0 h : AH}
theorem k_getClass (hw : WOK w) (hx : p.tables.exec = Jvm.exec) (hb : c.code = cc) {own : String} {idx a z : Nat} (hown : s.vm.findClass own = some m.cls) (hts : ∀ w ∈ lw_all, w.before args s = true) (hml : c.maxLocals = nL) (hK : KU w s) (hf : Jvm.Cond.methodLink own idx ⟨"java/lang/Object", "getClass", "()Ljava/lang/Class;"⟩ ∈ lw_all) (hz : z = extAd 3) (ht : tg a = 4) (hsw : Nat.ble (stw r) 8 = true) (hfr : 1 ≤ R.frames) (hlo : 64 ≤ R.locals) (hd : decode cc pc = .ok (.invokevirtual idx, 3)) (k : WPk p l e R s m args below meth c Q w nL hs0 cu su (pc + 3) ls (vo z :: r) h) : WPk p l e R s m args below meth c Q w nL hs0 cu su pc ls (vo a :: r) h := by
  intro hv H locs la hR hL hl
  subst hz
  have hva : val h a := vs_head hv
  obtain ⟨q, cell, e1, e2, e3, e4, e5, e6, e7, e9⟩ := arr_of hK hR hva (by omega)
  obtain ⟨mi, e8, hM⟩ := hK.2.1.2.2
  have k2 := k (vs_cons (v := vo (extAd 3)) (ext_val hR (by decide) (by decide)) (vs_tail hv)) H locs la hR hL hl
  simp only [List.map_cons] at k2 ⊢
  rw [show cv w (vo (extAd 3)) = .ref mi from (ext_cr (i := 3) (by decide) (by decide)).trans e8] at k2
  rw [show cv w (vo a) = .ref q from e1]
  have hra := (hK.1.2.2.2.2.2 4 _ rfl).2
  have hacl : cell.cls = oA w 4 := by rw [e7]; unfold acl; rw [if_neg (by have := own_of hR hva (by omega); omega), ht]
  have h8 := Nat.le_of_ble_eq_true hsw
  exact va_getC hx hb (hml.trans hl.1.symm) hown (hts _ hf) (va_Nw.use rfl (hK.1.1 _ q1932 rfl)) (hts _ q1931) (hts _ q648) (hts _ q667) hM ⟨cell, e2, by cases hq : cell.vm <;> first | rfl | exact absurd hq (e9 _), by rw [hacl]; exact va_nmO hra rfl⟩ hfr (by rw [stw_cat hw]; omega) hd k2
theorem k_arraycopy (hw : WOK w) (hx : p.tables.exec = Jvm.exec) (hb : c.code = cc) {own : String} {idx a b : Nat} {n : Int} (hown : s.vm.findClass own = some m.cls) (hts : ∀ w ∈ lw_all, w.before args s = true) (hml : c.maxLocals = nL) (hK : KU w s) (hf : Jvm.Cond.methodLink own idx arraycopyName ∈ lw_all) (ha4 : tg a = 4) (hb4 : tg b = 4) (hn0 : 0 ≤ n) (hna : n ≤ ln a) (hnb : n ≤ ln b) (hab : a ≠ b) (hsw : Nat.ble (stw r) 8 = true) (hel : ∀ i y, 0 ≤ i → i < n → hP h a i = some y → 16 ≤ tg y ∧ tg y ≤ 32) (hfr : 1 ≤ R.frames) (hlo : 64 ≤ R.locals) (hd : decode cc pc = .ok (.invokestatic idx, 3))
    (k : WPk p l e R s m args below meth c Q w nL hs0 cu su (pc + 3) ls r (h.1, h.2.1, h.2.2.1, cpP h.2.2.2 a b n)) : WPk p l e R s m args below meth c Q w nL hs0 cu su pc ls (vi n :: vi 0 :: vo b :: vi 0 :: vo a :: r) h := by
  intro hv H locs la hR hLo hl
  have hvb : val h b := vs_head (vs_tail (vs_tail hv))
  have hva : val h a := vs_head (vs_tail (vs_tail (vs_tail (vs_tail hv))))
  obtain ⟨qa, ca, a1, a2, a3, a4, a5, a6, a7, a9⟩ := arr_of hK hR hva (by omega)
  obtain ⟨qb, cb, b1, b2, b3, b4, b5, b6, b7, b9⟩ := arr_of hK hR hvb (by omega)
  have hla := ln_lt a
  have hlb := ln_lt b
  have eN := nC (a := n) hn0 (by omega)
  have hneg := nneg (a := n) hn0 (by omega)
  have toN : (Int32.ofInt n).toInt = n := toI ⟨by omega, by omega⟩
  simp only [List.map_cons]
  rw [show cv w (vo a) = .ref qa from a1, show cv w (vo b) = .ref qb from b1, show cv w (vi 0) = .int 0 from rfl, show cv w (vi n) = .int (Int32.ofInt n) from rfl]
  have hab' : aty (tg a) = .object "java/lang/Object" := by rw [ha4]; rfl
  have hbb' : aty (tg b) = .object "java/lang/Object" := by rw [hb4]; rfl
  rw [hab'] at a3
  rw [hbb'] at b3
  obtain ⟨-, ka, hka, cma, hkka⟩ := a3
  obtain ⟨-, kb, hkb, cmb, hkkb⟩ := b3
  have hra := (hK.1.2.2.2.2.2 4 _ rfl).2
  obtain ⟨kA, comp, r1, r2, r3, -⟩ := hra
  have own6 := own_of hR hvb (by omega)
  have hbcl : cb.cls = oA w 4 := by rw [b7]; unfold acl; rw [if_neg (by omega), hb4]
  have hcmb : cmb = comp := by
    rw [hbcl] at hkb
    cases hkb.symm.trans r1
    cases hkkb.symm.trans r2
    rfl
  subst hcmb
  have hslot : ∀ i : Nat, i < n.toNat → ca.slots.getD (0 + i) .null = cr w (hP h a (i : Int)) := fun i hi => by
    rw [Array.getD_eq_getD_getElem?, Nat.zero_add, a6 i (by omega)]
    show elt w h a i = _
    unfold elt
    rw [ha4]; rfl
  intro T hT X
  have h8 := Nat.le_of_ble_eq_true hsw
  obtain ⟨vm', X', step⟩ := X.arraycopy hx hown (hts _ hf) (hts _ q678) (hts _ q677) (hts _ q149) (src := qa) (dst := qb) (cs := ca) (cd := cb) (srcPos := 0) (destPos := 0) (n := Int32.ofInt n) (by rw [hT]; exact a2) (by rw [hT]; exact b2)
    a9 b9 a4 b4 hka hkb hkka hkkb rfl (by decide) (by decide) hneg (by rw [toN, a5, Int32.toInt_zero]; omega) (by rw [toN, b5, Int32.toInt_zero]; omega)
    (fun vm₁ hal i hi => by
      rw [eN] at hi
      have hs := hslot i hi
      show fits _ (ca.slots.getD (0 + i) .null) = true ∧ (T.setVm vm₁).takes _ (ca.slots.getD (0 + i) .null)
      rw [hs]
      cases hy : hP h a (i : Int) with
      | none => exact ⟨rfl, trivial⟩
      | some y =>
        obtain ⟨t1, t2⟩ := hel i y (by omega) (by omega) hy
        obtain ⟨qy, cy, g1, g2, g3, g4, ⟨kv, g5⟩, g6⟩ := obj_in hK hR (hR.2.2.2.2 a i y hva hy) t1 t2
        rw [g1]
        obtain ⟨kE, hkE, -⟩ := Vm.findClass_spec r3
        obtain ⟨kC', hkC', -⟩ := hal.2.2 _ _ g5
        obtain ⟨kE', hkE', -⟩ := hal.2.2 _ _ hkE
        refine ⟨rfl, cy, (show T.heap[qy]? = some cy by rw [hT]; exact g2), (fun q h => by rw [g3] at h; cases h), ⟨kC', hkC'⟩, ⟨kE', hkE'⟩, ?_⟩
        show vm₁.assignable _ _ = true
        rw [hal.assignable]
        exact g6 _ r3)
    (g := F0 m pc la (.int (Int32.ofInt n) :: .int 0 :: .ref qb :: .int 0 :: .ref qa :: r.map (cv w))) rfl (hl.1.trans hml.symm) (rest := r.map (cv w)) rfl (by rw [hb]; exact hd) hfr
    (by rw [stw_cat hw]; have hw9 : nativeFrameWords "java/lang/System" "arraycopy" 5 ≤ 32 := (by decide); show 2 * 0 + stw r + _ ≤ _; omega)
  have hqb : qb < H.size := (Array.getElem?_eq_some_iff.mp b2).1
  have hlen : (ca.stretch 0 n.toNat).length = n.toNat := by simp [Cell.stretch]
  have z0 : (0 : Int32).toNatClampNeg = 0 := rfl
  have ec : copied ca cb 0 0 (Int32.ofInt n) = cb.storeRun 0 (ca.stretch 0 n.toNat) := by
    show cb.storeRun (Int32.toNatClampNeg 0) (ca.stretch (Int32.toNatClampNeg 0) (Int32.ofInt n).toNatClampNeg) = _
    rw [z0, eN]
  rw [ec] at X' step
  rw [z0, eN] at X'
  obtain ⟨f1, f2, f3, -, -⟩ := Cell.storeRun_facts cb 0 (ca.stretch 0 n.toNat)
  have hrel : Rel w (h.1, h.2.1, h.2.2.1, cpP h.2.2.2 a b n) (H.setIfInBounds qb (cb.storeRun 0 (ca.stretch 0 n.toNat))) := by
    refine Rel.write hw hR hvb own6 rfl (fun x hx2 => ⟨fun j => rfl, fun j => rfl, fun j => ?_⟩) b1 ?_ (by simp) (fun x hx2 => by simp [Array.getElem?_setIfInBounds, Ne.symm hx2]) (fun j y hj => ?_)
    · show cpP h.2.2.2 a b n x j = h.2.2.2 x j
      unfold cpP
      rw [if_neg (fun z => hx2 z.1)]
    · unfold atO
      rw [if_pos (by omega)]
      refine ⟨qb, cb.storeRun 0 (ca.stretch 0 n.toNat), b1, (by simp [hqb]), (by rw [f1]; exact b7), (by rw [f2]; exact b4), (fun z => by rw [f2]; exact b9 z), Or.inl (by rw [f3]; exact b5), fun j hj => ?_⟩
      rw [Cell.storeRun_get _ _ _ _ (by rw [hlen, b5]; omega), hlen]
      unfold elt
      rw [hb4]
      show _ = some (cr w (cpP h.2.2.2 a b n b (j : Int)))
      unfold cpP
      by_cases hjn : j < n.toNat
      · rw [if_pos ⟨by omega, by omega⟩, if_pos ⟨rfl, by omega, by omega⟩]
        have := hslot j hjn
        simp only [Cell.stretch, Nat.sub_zero, List.getElem?_map, List.getElem?_range hjn, Option.map_some]
        rw [this]
      · rw [if_neg (by omega), if_neg (by omega), b6 j hj]
        unfold elt
        rw [hb4]; rfl
    · have hj2 : cpP h.2.2.2 a b n b j = some y := hj
      unfold cpP at hj2
      split at hj2
      · exact hR.2.2.2.2 a j y hva hj2
      · exact hR.2.2.2.2 b j y hvb hj2
  have hlocs : ∀ x ∈ locs ++ ((ca.stretch 0 n.toNat).zipIdx.map fun q => (⟨qb, 0 + q.2⟩ : Loc)), (oH w).size ≤ x.base := by
    intro x hx2
    rcases List.mem_append.mp hx2 with h1 | h1
    · exact hLo x h1
    · obtain ⟨z, -, hz⟩ := List.mem_map.mp h1
      rw [← hz]
      rw [cr_own own6] at b1
      cases b1
      show (oH w).size ≤ (oH w).size + (ix b - 64)
      omega
  obtain ⟨t, t1, t2⟩ := k (VALs.heap rfl (vs_tail (vs_tail (vs_tail (vs_tail (vs_tail hv)))))) _ _ la hrel hlocs hl _ (by rw [← hT]; rfl) X'
  exact ⟨t, step t t1, t2⟩
end
