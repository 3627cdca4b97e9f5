/-! new things, constants of the pool, statics, casts, copies -/
def cnm (ci : Nat) : String := match ci with
  | 0 => "EdgeWalk"
  | 1 => "EdgeWalk$Sheet"
  | 2 => "java/util/ArrayList"
  | 3 => "EdgeWalk$State"
  | 4 => "EdgeWalk$Wrong"
  | 5 => "EdgeWalkModel"
  | 6 => "EdgeWalk$Parser"
  | 7 => "EdgeWalk$Goer"
  | 8 => "EdgeWalk$Rule"
  | 9 => "EdgeWalk$Plain"
  | 10 => "EdgeWalk$Asked"
  | 11 => "EdgeWalk$Joined"
  | 12 => "EdgeWalk$Told"
  | 13 => "EdgeWalk$Not"
  | 14 => "EdgeWalk$Compared"
  | 15 => "EdgeWalk$Both"
  | 16 => "EdgeWalk$Image"
  | _ => "java/lang/String"
/-- 'new' of the class ci: N slots in all -/
def NewOK (own : String) (idx tag N : Nat) : Prop := ∃ (ci : Nat) (C : String) (T : u_T) (ty : Nat → FieldType), tag = 16 + ci ∧ CF ci C T ty ∧ Jvm.Cond.classLink own idx C ∈ lw_all ∧ Jvm.Cond.instantiable C N ∈ lw_all ∧ Jvm.Cond.initialized C ∈ lw_all
theorem cast_ob : ∀ ci, ci ≤ 16 → Jvm.Cond.castable (cnm ci) "java/lang/Object" ∈ lw_tbl := by
  intro ci hc
  match ci, hc with
  | 0, _ => exact q1914
  | 1, _ => exact q1915
  | 2, _ => exact q1916
  | 3, _ => exact q1911
  | 4, _ => exact q1917
  | 5, _ => exact q1918
  | 6, _ => exact q1919
  | 7, _ => exact q1920
  | 8, _ => exact q1921
  | 9, _ => exact q1922
  | 10, _ => exact q1923
  | 11, _ => exact q1924
  | 12, _ => exact q1925
  | 13, _ => exact q1926
  | 14, _ => exact q1927
  | 15, _ => exact q1928
  | 16, _ => exact q1912
  | n + 17, hc => exact absurd hc (by omega)
theorem kcl_nm : ∀ ci, ci ≤ 16 → ∃ T, kcl[ci]? = some (cnm ci, T, NF ci) := by
  intro ci hc
  match ci, hc with
  | 0, _ => exact ⟨_, rfl⟩
  | 1, _ => exact ⟨_, rfl⟩
  | 2, _ => exact ⟨_, rfl⟩
  | 3, _ => exact ⟨_, rfl⟩
  | 4, _ => exact ⟨_, rfl⟩
  | 5, _ => exact ⟨_, rfl⟩
  | 6, _ => exact ⟨_, rfl⟩
  | 7, _ => exact ⟨_, rfl⟩
  | 8, _ => exact ⟨_, rfl⟩
  | 9, _ => exact ⟨_, rfl⟩
  | 10, _ => exact ⟨_, rfl⟩
  | 11, _ => exact ⟨_, rfl⟩
  | 12, _ => exact ⟨_, rfl⟩
  | 13, _ => exact ⟨_, rfl⟩
  | 14, _ => exact ⟨_, rfl⟩
  | 15, _ => exact ⟨_, rfl⟩
  | 16, _ => exact ⟨_, rfl⟩
  | n + 17, hc => exact absurd hc (by omega)
section
variable {p : Program} {l : Launch} {e : Env} {R : Room} {s : State} {m : MethodId} {args : Array Value} {below : List Frame} {meth : Method} {c : Code} {Q : State → Prop} {w : OM} {nL cu su pc : Nat} {cc : ByteArray} {ls : LVs} {st r : List AV} {hs0 h : AH}
theorem vs_new {t n : Nat} (ht : t < 64) (hn : n < 4096) (hv : VALs hs0 h ls st) : VALs hs0 (nwH h t n) ls st := by
  have e : ∀ v, vok h v → vok (nwH h t n) v := fun v => by
    unfold vok
    split
    · exact fun z => (val_new ht hn).mpr (Or.inr z)
    · exact fun _ => trivial
  exact ⟨fun q hq => e _ (hv.1 q hq), fun v hq => e _ (hv.2.1 v hq), fun a ha => (val_new ht hn).mpr (Or.inr (hv.2.2 a ha))⟩
theorem k_new (hw : WOK w) (hx : p.tables.exec = Jvm.exec) (hb : c.code = cc) {own : String} {idx tag N : Nat} (hown : s.vm.findClass own = some m.cls) (hts : ∀ w ∈ lw_all, w.before args s = true) (hK : KU w s) (hf : NewOK own idx tag N) (hd : decode cc pc = .ok (.new idx, 3)) (h1 : cu + 1 ≤ R.cells) (h2 : su + N ≤ R.slots) (k : WPk p l e R s m args below meth c Q w nL hs0 (cu + 1) (su + N) (pc + 3) ls (vo (nwA h tag 0) :: st) (nwH h tag 0)) : WPk p l e R s m args below meth c Q w nL hs0 cu su pc ls st h := by
  intro hv H locs la hR hLo hl
  obtain ⟨ci, C, T, ty, rfl, ⟨hc, hin, hty, hnm, htt, h16⟩, hcl, hins, hini⟩ := hf
  have hKn := hK.1.2.2.2.2.1 ci _ hc
  obtain ⟨hS, hfc, kC0, hkC0, hkind⟩ := id hKn
  refine W.newcK hx hb hown (hts _ hcl) (hts _ hins) (hts _ hini) rfl hd h1 h2 hfc rfl (fun H' kC hkC f1 f2 f3 => ?_)
  have hm := mk_facts (i := h.1.1) (show 16 + ci < 64 by omega) (show 0 < 4096 by decide)
  have htg : tg (nwA h (16 + ci) 0) = 16 + ci := hm.2.1
  have hsz : H.size = (oH w).size + (hN h - 64) := hR.2.1
  have h64 : 64 ≤ hN h := hR.1
  have hix : ix (nwA h (16 + ci) 0) = hN h := hm.1
  have hcr : cr w (some (nwA h (16 + ci) 0)) = .ref H.size := by rw [cr_own (by omega), hix, hsz]
  obtain ⟨cell, g1, g2, g3, g4⟩ := u_born ty hts hin hKn hkC f1 hty
  have hat : atO w (nwH h (16 + ci) 0) (nwA h (16 + ci) 0) H' := by
    unfold atO
    rw [if_neg (by omega), if_neg (by omega)]
    refine ⟨H.size, cell, hcr, g1, (by rw [htg, show 16 + ci - 16 = ci by omega]; exact g2), (by rw [g3]; exact fun z => by cases z), (by rw [g3]; rfl), fun _ => g3, fun k0 hk0 => ?_⟩
    rw [htg, show 16 + ci - 16 = ci by omega] at hk0 ⊢
    have g5 : cell.slots[(oD w).2 ci k0]? = some (defaultValue (ty k0)) := g4 k0 hk0
    rw [g5]
    have z := htt k0 hk0
    unfold fld
    have hz1 : hI (nwH h (16 + ci) 0) (nwA h (16 + ci) 0) (k0 : Int) = 0 := by unfold hI nwH nwA; simp
    have hz2 : hL (nwH h (16 + ci) 0) (nwA h (16 + ci) 0) (k0 : Int) = 0 := by unfold hL nwH nwA; simp
    have hz3 : hP (nwH h (16 + ci) 0) (nwA h (16 + ci) 0) (k0 : Int) = none := by unfold hP nwH nwA; simp
    rw [hz1, hz2, hz3, ← z.1]
    have z2 := z.2
    rw [← z.1] at z2
    cases hq : ty k0 <;> rw [hq] at z2 <;> first | rfl | (exfalso; revert z2; decide)
  obtain ⟨hR', hvn, -⟩ := Rel.new hw hR (show 16 + ci < 64 by omega) (show 0 < 4096 by decide) (Or.inr ⟨by omega, by omega⟩) f2 f3 hat
  have k2 := k (vs_cons (v := vo (nwA h (16 + ci) 0)) hvn (vs_new (by omega) (by decide) hv)) H' locs la hR' hLo hl
  simp only [List.map_cons] at k2
  rw [show cv w (vo (nwA h (16 + ci) 0)) = .ref H.size from hcr] at k2
  exact k2
/-- 'newarray': the tag by the type -/
def ArrTy (at0 : ArrayType) (t : Nat) : Prop := (at0 = .int ∧ t = 0) ∨ (at0 = .byte ∧ t = 1) ∨ (at0 = .boolean ∧ t = 2) ∨ (at0 = .long ∧ t = 3)
theorem new_elt {H H' : Heap} {t n : Nat} {d : Value} {cA : ClassId} (hR : Rel w h H) (ht : t ≤ 6) (hn : n < 4096) (hA : oA w t = cA) (hd0 : (t ≤ 2 ∧ d = .int 0) ∨ (t = 3 ∧ d = .long 0) ∨ (4 ≤ t ∧ d = .null)) (f1 : H'[H.size]? = some (arrV cA n (fun _ => d))) : cr w (some (nwA h t n)) = .ref H.size ∧ atO w (nwH h t n) (nwA h t n) H' := by
  have hm := mk_facts (i := h.1.1) (show t < 64 by omega) hn
  have htg : tg (nwA h t n) = t := hm.2.1
  have hsz : H.size = (oH w).size + (hN h - 64) := hR.2.1
  have h64 : 64 ≤ hN h := hR.1
  have hix : ix (nwA h t n) = hN h := hm.1
  have hln : ln (nwA h t n) = n := hm.2.2
  have hcr : cr w (some (nwA h t n)) = .ref H.size := by rw [cr_own (by omega), hix, hsz]
  refine ⟨hcr, ?_⟩
  unfold atO
  rw [if_pos (by omega)]
  refine ⟨H.size, _, hcr, f1, ?_, (fun z => by cases z), (fun z q => by cases q), Or.inl ?_, fun j hj => ?_⟩
  · unfold acl
    rw [if_neg (by omega), htg]
    exact hA.symm
  · rw [arrV_size, hln]
  · rw [hln] at hj
    rw [arrV_read _ _ hj]
    have hz1 : hI (nwH h t n) (nwA h t n) (j : Int) = 0 := by unfold hI nwH nwA; simp
    have hz2 : hL (nwH h t n) (nwA h t n) (j : Int) = 0 := by unfold hL nwH nwA; simp
    have hz3 : hP (nwH h t n) (nwA h t n) (j : Int) = none := by unfold hP nwH nwA; simp
    unfold elt
    rw [htg, hz1, hz2, hz3]
    rcases hd0 with ⟨g1, g2⟩ | ⟨g1, g2⟩ | ⟨g1, g2⟩
    · rcases (by omega : t = 0 ∨ t = 1 ∨ t = 2) with z | z | z <;> subst z <;> rw [g2] <;> rfl
    · subst g1; rw [g2]; rfl
    · rcases (by omega : t = 4 ∨ t = 5 ∨ t = 6) with z | z | z <;> subst z <;> rw [g2] <;> rfl
theorem k_newarray (hw : WOK w) (hx : p.tables.exec = Jvm.exec) (hb : c.code = cc) {at0 : ArrayType} {t : Nat} {n : Int} (hts : ∀ w ∈ lw_all, w.before args s = true) (hK : KU w s) (hf : ArrTy at0 t) (hd : decode cc pc = .ok (.newarray at0, 2)) (n0 : 0 ≤ n) (n1 : n < 4096) (h1 : cu + 1 ≤ R.cells) (h2 : su + n.toNat ≤ R.slots) (k : WPk p l e R s m args below meth c Q w nL hs0 (cu + 1) (su + n.toNat) (pc + 2) ls (vo (nwA h t n.toNat) :: r) (nwH h t n.toNat)) : WPk p l e R s m args below meth c Q w nL hs0 cu su pc ls (vi n :: r) h := by
  intro hv H locs la hR hL hl
  have eN := nC (a := n) n0 (by omega)
  have hneg := nneg (a := n) n0 (by omega)
  have key : ∀ (ty : FieldType) (d : Value), newarray.typeOf at0 = ty → defaultValue ty = d → componentBytes ty ≤ 8 → (Jvm.Cond.arrayClass ty) ∈ lw_all → t ≤ 6 → ((t ≤ 2 ∧ d = .int 0) ∨ (t = 3 ∧ d = .long 0) ∨ (4 ≤ t ∧ d = .null)) → s.vm.findClass ("[" ++ ty.toString) = some (oA w t) →
      W p l e R s m args below meth c H locs cu su Q (F0 m pc la (List.map (cv w) (vi n :: r))) := by
    intro ty d e1 e2 e3 e4 e5 e6 e7
    subst e1
    refine va_newaK hx hb (hts _ e4) (g := F0 m pc la (List.map (cv w) (vi n :: r))) rfl hd (n := Int32.ofInt n) rfl hneg eN (by have := Nat.mul_le_mul (show n.toNat ≤ 4096 by omega) e3; omega) h1 h2 rfl (fun H' cA f1 f2 f3 f4 f5 => ?_)
    have hA : oA w t = cA := Option.some.inj (e7.symm.trans f5)
    rw [e2] at f1
    obtain ⟨hcr, hat⟩ := new_elt hR e5 (show n.toNat < 4096 by omega) hA e6 f1
    obtain ⟨hR', hvn, -⟩ := Rel.new hw hR (show t < 64 by omega) (show n.toNat < 4096 by omega) (Or.inl e5) f2 f3 hat
    have k2 := k (vs_cons (v := vo (nwA h t n.toNat)) hvn (vs_new (by omega) (by omega) (vs_tail hv))) H' locs la hR' hL hl
    simp only [List.map_cons] at k2
    rw [show cv w (vo (nwA h t n.toNat)) = .ref H.size from hcr] at k2
    exact k2
  have hk2 := hK.1.2.2.2.2.2
  rcases hf with ⟨rfl, rfl⟩ | ⟨rfl, rfl⟩ | ⟨rfl, rfl⟩ | ⟨rfl, rfl⟩
  · exact key .int _ rfl rfl (by decide) q232 (by decide) (Or.inl ⟨by decide, rfl⟩) (hk2 0 _ rfl).2
  · exact key .byte _ rfl rfl (by decide) q437 (by decide) (Or.inl ⟨by decide, rfl⟩) (hk2 1 _ rfl).2
  · exact key .boolean _ rfl rfl (by decide) q1404 (by decide) (Or.inl ⟨by decide, rfl⟩) (hk2 2 _ rfl).2
  · exact key .long _ rfl rfl (by decide) q438 (by decide) (Or.inr (Or.inl ⟨rfl, rfl⟩)) (hk2 3 _ rfl).2
def ANewOK (own : String) (idx t : Nat) : Prop := (t = 4 ∧ Jvm.Cond.classLink own idx "java/lang/Object" ∈ lw_all) ∨ (t = 5 ∧ Jvm.Cond.classLink own idx "EdgeWalk$State" ∈ lw_all) ∨ (t = 6 ∧ Jvm.Cond.classLink own idx "EdgeWalk$Image" ∈ lw_all)
theorem k_anewarray (hw : WOK w) (hx : p.tables.exec = Jvm.exec) (hb : c.code = cc) {own : String} {idx t : Nat} {n : Int} (hown : s.vm.findClass own = some m.cls) (hts : ∀ w ∈ lw_all, w.before args s = true) (hK : KU w s) (hf : ANewOK own idx t) (hd : decode cc pc = .ok (.anewarray idx, 3)) (n0 : 0 ≤ n) (n1 : n < 4096) (h1 : cu + 1 ≤ R.cells) (h2 : su + n.toNat ≤ R.slots) (k : WPk p l e R s m args below meth c Q w nL hs0 (cu + 1) (su + n.toNat) (pc + 3) ls (vo (nwA h t n.toNat) :: r) (nwH h t n.toNat)) : WPk p l e R s m args below meth c Q w nL hs0 cu su pc ls (vi n :: r) h := by
  intro hv H locs la hR hL hl
  have eN := nC (a := n) n0 (by omega)
  have hneg := nneg (a := n) n0 (by omega)
  have key : ∀ (C : String), Jvm.Cond.classLink own idx C ∈ lw_all → va_AO C s → 4 ≤ t → t ≤ 6 → va_RA s (oA w t) (.object C) →
      W p l e R s m args below meth c H locs cu su Q (F0 m pc la (List.map (cv w) (vi n :: r))) := by
    intro C e1 e2 e4 e5 e7
    obtain ⟨-, -, -, -, -, e8⟩ := e7
    refine W.anew hx hb hown (hts _ e1) (va_AO.use e2) (g := F0 m pc la (List.map (cv w) (vi n :: r))) rfl hd (n := Int32.ofInt n) rfl hneg (by rw [eN]; omega) h1 (by rw [eN]; exact h2) (fun cA kA comp f1 f2 f3 f4 => ?_)
    rw [eN]
    have hA : oA w t = cA := Option.some.inj (e8.symm.trans f1)
    generalize hH1 : H.push ({ cls := cA, slots := Array.replicate n.toNat .null, vm := .none } : Cell) = H'
    have z1 : H'.size = H.size + 1 := by rw [← hH1, Array.size_push]
    have g1 : H'[H.size]? = some (arrV cA n.toNat (fun _ => .null)) := by rw [← hH1, Array.getElem?_push_size, ← arrV_new]
    have o1 : ∀ q : Nat, q < H.size → H'[q]? = H[q]? := fun q hq => by rw [← hH1, Array.getElem?_push, if_neg (Nat.ne_of_lt hq)]
    obtain ⟨hcr, hat⟩ := new_elt hR e5 (show n.toNat < 4096 by omega) hA (Or.inr (Or.inr ⟨e4, rfl⟩)) g1
    obtain ⟨hR', hvn, -⟩ := Rel.new hw hR (show t < 64 by omega) (show n.toNat < 4096 by omega) (Or.inl e5) z1 o1 hat
    have k2 := k (vs_cons (v := vo (nwA h t n.toNat)) hvn (vs_new (by omega) (by omega) (vs_tail hv))) H' locs la hR' hL hl
    simp only [List.map_cons] at k2
    rw [show cv w (vo (nwA h t n.toNat)) = .ref H.size from hcr] at k2
    exact k2
  have hk2 := hK.1.2.2.2.2.2
  rcases hf with ⟨rfl, g⟩ | ⟨rfl, g⟩ | ⟨rfl, g⟩
  · exact key _ g hK.1.2.1 (by decide) (by decide) (hk2 4 _ rfl).2
  · exact key _ g hK.1.2.2.1 (by decide) (by decide) (hk2 5 _ rfl).2
  · exact key _ g hK.1.2.2.2.1 (by decide) (by decide) (hk2 6 _ rfl).2
/-- an own object may lie in an Object[] -/
theorem obj_in {H : Heap} {b : Nat} (hK : KU w s) (hR : Rel w h H) (hv : val h b) (h1 : 16 ≤ tg b) (h2 : tg b ≤ 32) : ∃ (q : Nat) (cell : Cell), cr w (some b) = .ref q ∧ H[q]? = some cell ∧ cell.vm = .none ∧ s.vm.findClass (cnm (tg b - 16)) = some cell.cls ∧ (∃ kv, s.vm.classes[cell.cls]? = some kv) ∧ ∀ comp, s.vm.findClass "java/lang/Object" = some comp → s.vm.assignable cell.cls comp = true := by
  obtain ⟨q, cell, e1, e2, e3, e4, e5, e6, e7⟩ := atB_of (ci := tg b - 16) hR hv (by omega)
  obtain ⟨T, hT⟩ := kcl_nm (tg b - 16) (by omega)
  obtain ⟨-, hfc, kC, hkC, -⟩ := hK.1.2.2.2.2.1 _ _ hT
  refine ⟨q, cell, e1, e2, e6 (own_of hR hv (by omega)), by rw [e3]; exact hfc, ⟨kC, by rw [e3]; exact hkC⟩, fun comp hcomp => ?_⟩
  obtain ⟨c3, c4, hc3, hc4, hasg⟩ := Cond.castable_spec (va_Nw.use (A := #[]) rfl (hK.1.1 _ (cast_ob (tg b - 16) (by omega)) rfl))
  cases Option.some.inj (hc3.symm.trans hfc)
  cases Option.some.inj (hc4.symm.trans hcomp)
  rw [e3]; exact hasg
theorem k_aastore (hw : WOK w) (hx : p.tables.exec = Jvm.exec) (hb : c.code = cc) {a b : Nat} {i : Int} (hK : KU w s) (ht : (tg a = 4 ∧ 16 ≤ tg b ∧ tg b ≤ 32) ∨ (tg a = 5 ∧ tg b = 19) ∨ (tg a = 6 ∧ tg b = 32)) (h0 : 0 ≤ i) (h1 : i < ln a) (hd : decode cc pc = .ok (.aastore, 1)) (k : WPk p l e R s m args below meth c Q w nL hs0 cu su (pc + 1) ls r (sP h a i (some b))) : WPk p l e R s m args below meth c Q w nL hs0 cu su pc ls (vo b :: vi i :: vo a :: r) h := by
  intro hv H locs la hR hL hl
  have hvb : val h b := vs_head hv
  have hva : val h a := vs_head (vs_tail (vs_tail hv))
  have hb16 : 16 ≤ tg b ∧ tg b ≤ 32 := by omega
  have ha6 : tg a = 4 ∨ tg a = 5 ∨ tg a = 6 := by omega
  obtain ⟨q, cell, e1, e2, e3, e4, e5, e6, e7, e9⟩ := arr_of hK hR hva (by omega)
  obtain ⟨qb, cb, g1, g2, g3, g4, g5, g6⟩ := obj_in hK hR hvb hb16.1 hb16.2
  obtain ⟨i1, i2⟩ := idx_ok (Nat.le_of_eq e5.symm) h0 h1 (ln_lt a)
  simp only [List.map_cons]
  rw [show cv w (vo a) = .ref q from e1, show cv w (vo b) = .ref qb from g1, show cv w (vi i) = .int (Int32.ofInt i) from rfl]
  have own6 := own_of hR hva (by omega)
  have hacl : cell.cls = oA w (tg a) := by rw [e7]; unfold acl; rw [if_neg (by omega)]
  have hk2 := hK.1.2.2.2.2.2
  obtain ⟨kA, comp, C, r1, r2, r3, r4⟩ : ∃ (kA : Class) (comp : ClassId) (C : String), s.vm.classes[cell.cls]? = some kA ∧ kA.kind = .array comp (.object C) ∧ s.vm.findClass C = some comp ∧ s.vm.assignable cb.cls comp = true := by
    rcases ht with ⟨z, -⟩ | ⟨z, z2⟩ | ⟨z, z2⟩
    · obtain ⟨kA, comp, r1, r2, r3, -⟩ := (hk2 4 _ rfl).2
      exact ⟨kA, comp, _, by rw [hacl, z]; exact r1, r2, r3, g6 comp r3⟩
    · obtain ⟨kA, comp, r1, r2, r3, -⟩ := (hk2 5 _ rfl).2
      obtain ⟨T, hT⟩ := kcl_nm 3 (by decide)
      have hcl := (hK.1.2.2.2.2.1 _ _ hT).2
      rw [z2] at g4
      have q1 : comp = cb.cls := Option.some.inj (r3.symm.trans g4)
      have q2 : (oD w).1 3 = cb.cls := Option.some.inj (hcl.1.symm.trans g4)
      exact ⟨kA, comp, _, by rw [hacl, z]; exact r1, r2, r3, by rw [q1, ← q2]; exact va_assign hcl⟩
    · obtain ⟨kA, comp, r1, r2, r3, -⟩ := (hk2 6 _ rfl).2
      obtain ⟨T, hT⟩ := kcl_nm 16 (by decide)
      have hcl := (hK.1.2.2.2.2.1 _ _ hT).2
      rw [z2] at g4
      have q1 : comp = cb.cls := Option.some.inj (r3.symm.trans g4)
      have q2 : (oD w).1 16 = cb.cls := Option.some.inj (hcl.1.symm.trans g4)
      exact ⟨kA, comp, _, by rw [hacl, z]; exact r1, r2, r3, by rw [q1, ← q2]; exact va_assign hcl⟩
  obtain ⟨kE, hkE, -⟩ := Vm.findClass_spec r3
  obtain ⟨kv, hkv⟩ := g5
  refine W.aast hx hb e2 e9 e4 r1 r2 rfl hkE ⟨nneg h0 (by have := ln_lt a; omega), by rw [i2, e5]; omega⟩ g2 (fun z hz => by rw [g3] at hz; cases hz) hkv r4 rfl rfl hd (fun H' f1 f2 f3 => ?_)
  rw [i2] at f1 ⊢
  have hPa : ∀ j : Int, hP (sP h a i (some b)) a j = if j = i then some b else hP h a j := fun j => by
    show uP h.2.2.2 a i (some b) a j = _
    unfold uP
    by_cases hji : j = i
    · rw [if_pos ⟨rfl, hji⟩, if_pos hji]
    · rw [if_neg (fun z => hji z.2), if_neg hji]
  refine k (VALs.heap rfl (vs_tail (vs_tail (vs_tail hv)))) H' _ la (rel_store hw hK hR hva (by omega) h0 h1 rfl (fun x hx2 => ⟨fun j => rfl, fun j => rfl, fun j => ?_⟩) e1 e2 e4 e9 e7 e5 e6 (fun j hj => ?_) (fun j x hj => ?_) f1 f2 f3) (locs_put hL own6 e1) hl
  · show uP h.2.2.2 a i (some b) x j = h.2.2.2 x j
    unfold uP
    rw [if_neg (fun z => hx2 z.1)]
  · unfold elt
    rw [hPa]
    by_cases hji : (j : Int) = i
    · rw [if_pos hji, if_pos hji]
      rcases ha6 with z | z | z <;> rw [z] <;> exact g1
    · rw [if_neg hji, if_neg hji]
      try (rcases ha6 with z | z | z <;> rw [z] <;> rfl)
  · rw [hPa] at hj
    split at hj
    · cases hj; exact hvb
    · exact hR.2.2.2.2 a j x hva hj
theorem k_ldc (hx : p.tables.exec = Jvm.exec) (hb : c.code = cc) {own : String} {idx : Nat} {z : Int} (hown : s.vm.findClass own = some m.cls) (hts : ∀ w ∈ lw_all, w.before args s = true) (hf : Jvm.Cond.constant own idx (Int32.ofInt z) ∈ lw_all) (hd : decode cc pc = .ok (.ldc idx, 2)) (k : WPk p l e R s m args below meth c Q w nL hs0 cu su (pc + 2) ls (vi z :: st) h) : WPk p l e R s m args below meth c Q w nL hs0 cu su pc ls st h := fun hv H locs la hR hL hl => lv_ldc hx hb hown (hts _ hf) hd (k (vs_cons trivial hv) H locs la hR hL hl)
theorem k_ldcw (hx : p.tables.exec = Jvm.exec) (hb : c.code = cc) {own : String} {idx : Nat} {z : Int} (hown : s.vm.findClass own = some m.cls) (hts : ∀ w ∈ lw_all, w.before args s = true) (hf : Jvm.Cond.constant own idx (Int32.ofInt z) ∈ lw_all) (hd : decode cc pc = .ok (.ldc_w idx, 3)) (k : WPk p l e R s m args below meth c Q w nL hs0 cu su (pc + 3) ls (vi z :: st) h) : WPk p l e R s m args below meth c Q w nL hs0 cu su pc ls st h := fun hv H locs la hR hL hl => lv_ldcw hx hb hown (hts _ hf) hd (k (vs_cons trivial hv) H locs la hR hL hl)
theorem k_ldc2 (hx : p.tables.exec = Jvm.exec) (hb : c.code = cc) {own : String} {idx : Nat} {z : Int} (hown : s.vm.findClass own = some m.cls) (hts : ∀ w ∈ lw_all, w.before args s = true) (hf : Jvm.Cond.constantLong own idx (Int64.ofInt z) ∈ lw_all) (hd : decode cc pc = .ok (.ldc2_w idx, 3)) (k : WPk p l e R s m args below meth c Q w nL hs0 cu su (pc + 3) ls (vl (Int64.ofInt z) :: st) h) : WPk p l e R s m args below meth c Q w nL hs0 cu su pc ls st h := fun hv H locs la hR hL hl => lv_ldc2 hx hb hown (hts _ hf) hd (k (vs_cons trivial hv) H locs la hR hL hl)
/-- external objects by their address: they are there as long as the run is -/
theorem ext_val {H : Heap} {i : Nat} (hR : Rel w h H) (h1 : 1 ≤ i) (h2 : i < 64) : val h (extAd i) := by
  have hx : ix (extAd i) = i := extAd_ix h1 h2
  exact ⟨by rw [hx]; have := hR.1; omega, by rw [hx]; exact hR.2.2.1.2 i h1 h2⟩
theorem ext_cr {i : Nat} (h1 : 1 ≤ i) (h2 : i < 64) : cr w (some (extAd i)) = oV w i := by
  show (if ix (extAd i) < 64 then oV w (ix (extAd i)) else _) = _
  rw [extAd_ix h1 h2, if_pos h2]
theorem k_ldcS (hx : p.tables.exec = Jvm.exec) (hb : c.code = cc) {own tx : String} {idx i a : Nat} (hown : s.vm.findClass own = some m.cls) (hK : KU w s) (hf : (own, idx, tx, i) ∈ SRl) (h1 : 1 ≤ i ∧ i < 64 ∧ a = extAd i) (hd : decode cc pc = .ok (.ldc idx, 2)) (k : WPk p l e R s m args below meth c Q w nL hs0 cu su (pc + 2) ls (vo a :: st) h) : WPk p l e R s m args below meth c Q w nL hs0 cu su pc ls st h := by
  intro hv H locs la hR hL hl
  obtain ⟨g1, g2, rfl⟩ := h1
  obtain ⟨q, e1, e2⟩ := hK.2.1.2.1 _ hf
  have k2 := k (vs_cons (v := vo (extAd i)) (ext_val hR g1 g2) hv) H locs la hR hL hl
  simp only [List.map_cons] at k2
  rw [show cv w (vo (extAd i)) = .ref q from (ext_cr g1 g2).trans e1] at k2
  exact va_ldcS hx hb hown e2 hd k2
theorem k_ldcM (hx : p.tables.exec = Jvm.exec) (hb : c.code = cc) {own : String} {idx a : Nat} (hown : s.vm.findClass own = some m.cls) (hts : ∀ w ∈ lw_all, w.before args s = true) (hK : KU w s) (hf : Jvm.Cond.classLink own idx "[Ljava/lang/Object;" ∈ lw_all) (ha : a = extAd 3) (hd : decode cc pc = .ok (.ldc idx, 2)) (k : WPk p l e R s m args below meth c Q w nL hs0 cu su (pc + 2) ls (vo a :: st) h) : WPk p l e R s m args below meth c Q w nL hs0 cu su pc ls st h := by
  intro hv H locs la hR hL hl
  subst ha
  obtain ⟨q, e1, e2⟩ := hK.2.1.2.2
  have k2 := k (vs_cons (v := vo (extAd 3)) (ext_val hR (by decide) (by decide)) hv) H locs la hR hL hl
  simp only [List.map_cons] at k2
  rw [show cv w (vo (extAd 3)) = .ref q from (ext_cr (by decide) (by decide)).trans e1] at k2
  exact va_ldcM hx hb hown (hts _ hf) e2 hd k2
/-- a static's word, read in the heap of now -/
theorem z_here {C n d : String} {v : Value} {H : Heap} (hR : Rel w h H) (hZ : va_Z C n d v (oF w) s (oH w)) : ∃ (cf : ClassId) (kf : Class) (fi : Nat) (f : Field) (a : Nat) (cell : Cell), s.fieldFound? C n d = some (cf, kf, fi, f) ∧ f.isStatic = true ∧ kf.init = .initialized ∧ kf.statics = some a ∧ H[a]? = some cell ∧ cell.vm ≠ .unknown ∧ cell.slots[f.slot]? = some v := by
  obtain ⟨cf, kf, fi, f, a, cell, h1, h2, h3, h4, h5, h6, h7, h8⟩ := hZ
  exact ⟨cf, kf, fi, f, a, cell, h1, h2, h3, h4, (by rw [hR.2.2.1.1 a (Array.getElem?_eq_some_iff.mp h5).1]; exact h5), (fun e => by rw [e] at h6; cases h6), h7⟩
theorem k_getsI (hx : p.tables.exec = Jvm.exec) (hb : c.code = cc) {own : String} {idx : Nat} (hown : s.vm.findClass own = some m.cls) (hts : ∀ w ∈ lw_all, w.before args s = true) (hK : KU w s) (hf : Jvm.Cond.fieldLink own idx "java/lang/String" "COMPACT_STRINGS" "Z" ∈ lw_all) (hd : decode cc pc = .ok (.getstatic idx, 3)) (k : WPk p l e R s m args below meth c Q w nL hs0 cu su (pc + 3) ls (vi 1 :: st) h) : WPk p l e R s m args below meth c Q w nL hs0 cu su pc ls st h := by
  intro hv H locs la hR hL hl
  obtain ⟨cf, kf, fi, f, a, cell, h1, h2, h3, h4, h5, h6, h7⟩ := z_here hR hK.2.2.2.1
  exact W.gets hx hb hown (hts _ hf) h1 h2 h3 h4 h5 h6 h7 rfl hd (k (vs_cons (v := vi 1) trivial hv) H locs la hR hL hl)
def GetsOK (own : String) (idx a : Nat) : Prop := (a = extAd 1 ∧ Jvm.Cond.fieldLink own idx "EdgeWalk" "NAMES" "[Ljava/lang/String;" ∈ lw_all) ∨ (a = extAd 2 ∧ Jvm.Cond.fieldLink own idx "jdk/internal/util/Preconditions" "SIOOBE_FORMATTER" "Ljava/util/function/BiFunction;" ∈ lw_all)
theorem k_getsR (hx : p.tables.exec = Jvm.exec) (hb : c.code = cc) {own : String} {idx a : Nat} (hown : s.vm.findClass own = some m.cls) (hts : ∀ w ∈ lw_all, w.before args s = true) (hK : KU w s) (hf : GetsOK own idx a) (hd : decode cc pc = .ok (.getstatic idx, 3)) (k : WPk p l e R s m args below meth c Q w nL hs0 cu su (pc + 3) ls (vo a :: st) h) : WPk p l e R s m args below meth c Q w nL hs0 cu su pc ls st h := by
  intro hv H locs la hR hL hl
  rcases hf with ⟨rfl, hf⟩ | ⟨rfl, hf⟩
  · obtain ⟨cf, kf, fi, f, a, cell, h1, h2, h3, h4, h5, h6, h7⟩ := z_here hR hK.2.2.1
    have k2 := k (vs_cons (v := vo (extAd 1)) (ext_val hR (by decide) (by decide)) hv) H locs la hR hL hl
    simp only [List.map_cons] at k2
    rw [show cv w (vo (extAd 1)) = oV w 1 from ext_cr (i := 1) (by decide) (by decide)] at k2
    exact W.gets hx hb hown (hts _ hf) h1 h2 h3 h4 h5 h6 h7 rfl hd k2
  · obtain ⟨cf, kf, fi, f, a, cell, h1, h2, h3, h4, h5, h6, h7⟩ := z_here hR hK.2.2.2.2.1
    have k2 := k (vs_cons (v := vo (extAd 2)) (ext_val hR (by decide) (by decide)) hv) H locs la hR hL hl
    simp only [List.map_cons] at k2
    rw [show cv w (vo (extAd 2)) = oV w 2 from ext_cr (i := 2) (by decide) (by decide)] at k2
    exact W.gets hx hb hown (hts _ hf) h1 h2 h3 h4 h5 h6 h7 rfl hd k2
def CastOK (own : String) (idx tag : Nat) : Prop := ∃ ci, ci ≤ 16 ∧ tag = 16 + ci ∧ Jvm.Cond.classLink own idx (cnm ci) ∈ lw_all
theorem k_checkcast (hx : p.tables.exec = Jvm.exec) (hb : c.code = cc) {own : String} {idx tag a : Nat} (hown : s.vm.findClass own = some m.cls) (hts : ∀ w ∈ lw_all, w.before args s = true) (hK : KU w s) (hf : CastOK own idx tag) (ht : tg a = tag) (hd : decode cc pc = .ok (.checkcast idx, 3)) (k : WPk p l e R s m args below meth c Q w nL hs0 cu su (pc + 3) ls (vo a :: r) h) : WPk p l e R s m args below meth c Q w nL hs0 cu su pc ls (vo a :: r) h := by
  intro hv H locs la hR hL hl
  obtain ⟨ci, hc, rfl, hf⟩ := hf
  obtain ⟨q, cell, e1, e2, e3, e4, e5, e6, e7⟩ := atB_of hR (vs_head hv) ht
  obtain ⟨T, hT⟩ := kcl_nm ci hc
  have hcl := (hK.1.2.2.2.2.1 _ _ hT).2
  have k2 := k hv H locs la hR hL hl
  simp only [List.map_cons] at k2 ⊢
  rw [show cv w (vo a) = .ref q from e1] at k2 ⊢
  exact va_castS hx hb hown (hts _ hf) hcl ⟨cell, e2, e5, by rw [e3]; exact hcl.1⟩ hd k2
theorem stw_cat (hw : WOK w) (q : List AV) : ((q.map (cv w)).map fun v => v.category).sum = stw q := by
  induction q with
  | nil => rfl
  | cons v q ih => simp only [List.map_cons, List.sum_cons, ih, cv_cat hw]; rfl
theorem k_objinit (hx : p.tables.exec = Jvm.exec) (hb : c.code = cc) (hw : WOK w) {own : String} {idx a : Nat} (hown : s.vm.findClass own = some m.cls) (hts : ∀ w ∈ lw_all, w.before args s = true) (hml : c.maxLocals = nL) (hf : Jvm.Cond.methodLink own idx Lib.objectInit ∈ lw_all) (ht : tg a ≠ 10) (hd : decode cc pc = .ok (.invokespecial idx, 3)) (hsw : Nat.ble (stw r) 8 = true) (hfr : 1 ≤ R.frames) (hlo : 20 ≤ R.locals) (k : WPk p l e R s m args below meth c Q w nL hs0 cu su (pc + 3) ls r h) : WPk p l e R s m args below meth c Q w nL hs0 cu su pc ls (vo a :: r) h := by
  intro hv H locs la hR hL hl
  obtain ⟨q, e1⟩ := ref_of hR (vs_head hv) ht
  simp only [List.map_cons]
  rw [show cv w (vo a) = .ref q from e1]
  refine W.objInit hx hb hown (hts _ hf) (hts _ q170) (hts _ q171) rfl (hl.1.trans hml.symm) rfl hd hfr ?_ (k (vs_tail hv) H locs la hR hL hl)
  have h8 := Nat.le_of_ble_eq_true hsw
  rw [stw_cat hw]
  show 2 * 0 + stw r + 12 ≤ R.locals
  omega
end
