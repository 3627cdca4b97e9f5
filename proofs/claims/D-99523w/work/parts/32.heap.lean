/-! WHAT THE TABLES SAY (KU), and the instructions that read and write the heap -/
def TW3 : u_T := fun _ => ("EdgeWalk$Wrong", "number", "I", false)
theorem in_W3 : ∀ w ∈ u_ws RX3 TW3 1, w ∈ lw_all := lw_in (u_ws RX3 TW3 1) [331] (by decide +kernel) (by decide +kernel)
abbrev kcl : List vw_C := [(RX0, TX0, 25), (RX1, TX1, 5), (RJ2, TJ2, 3), (RX2, TX2, 10), (RX3, TW3, 1), (RX4, TX4, 41), (RX5, TX5, 7), (RX6, TX6, 3), (RX7, TX7, 1), (RX9, TX9, 1), (RX10, TX10, 1), (RX11, TX11, 3), (RX12, TX12, 2), (RX14, TX14, 1), (RX15, TX15, 4), (RX16, TX16, 3), (RX17, TX17, 9)]
abbrev ktys (w : OM) : List (ClassId × FieldType) := [(oA w 0, .int), (oA w 1, .byte), (oA w 2, .boolean), (oA w 3, .long), (oA w 4, .object "java/lang/Object"), (oA w 5, .object "EdgeWalk$State"), (oA w 6, .object "EdgeWalk$Image")]
/-- the String constants: class, entry, text, index of the external object -/
def SRl : List (String × Nat × String × Nat) := [("EdgeWalk$Parser", 180, "sheet", 4), ("EdgeWalk$Parser", 186, "goer", 6), ("EdgeWalk$Parser", 193, "join", 8), ("EdgeWalk$Parser", 197, "stone", 10), ("EdgeWalk$Parser", 203, "turn", 12), ("EdgeWalk$Parser", 212, "if", 14), ("EdgeWalk$Parser", 107, "not", 16), ("EdgeWalk$Parser", 132, "and", 18), ("EdgeWalk$Parser", 145, "or", 20), ("EdgeWalk", 374, "goer", 6), ("EdgeWalk", 376, "cell", 22), ("EdgeWalk", 377, "row", 24), ("EdgeWalk", 379, "column", 26), ("EdgeWalk", 381, "faces", 28), ("EdgeWalk", 382, "food", 30), ("EdgeWalk", 383, "margin", 32), ("EdgeWalk", 384, "stone", 10), ("EdgeWalk", 386, "here", 34), ("EdgeWalk", 388, "been", 36), ("EdgeWalk", 389, "step", 38)]
def isX (c : Jvm.Cond) : Bool := match c with
  | .fieldLinkNest _ _ _ _ _ _ => true
  | .methodLinkNest _ _ _ _ => true
  | .castable _ _ => true
  | .declares _ => true
  | _ => false
theorem isX_warm {c : Jvm.Cond} {s U : State} (hW : s.WarmedH U.vm) (h : isX c = true) (hz : va_Nw c s) : va_Nw c U := by
  cases c <;> first | exact va_Nw.warmF hW hz | exact va_Nw.warmM hW hz | exact va_Nw.warmC hW hz | exact va_Nw.warmD hW hz | (simp [isX] at h)
theorem isX_on {c : Jvm.Cond} (h : isX c = true) : c.onTables = true := by
  cases c <;> first | rfl | (simp [isX] at h)
/-- a class id that is an array's of this type -/
def isAr (U : State) (c : ClassId) (ty : FieldType) : Prop := ∃ k, U.vm.classes[c]? = some k ∧ ∃ comp, k.kind = .array comp ty
theorem isAr.moved {u U : State} {c : ClassId} {ty : FieldType} (hvm : u.vm.Alike U.vm) (h : isAr u c ty) : isAr U c ty := by
  obtain ⟨k, h1, comp, h2⟩ := h
  obtain ⟨k', hk', he⟩ := hvm.2.2 _ _ h1
  exact ⟨k', hk', comp, by rw [he]; exact h2⟩
/-- a field of String -/
def SlotS (U : State) (n d : String) (i : Nat) : Prop := ∃ (cf : Nat) (k : Class) (fi : Nat) (f : Field), U.fieldFound? "java/lang/String" n d = some (cf, k, fi, f) ∧ f.isStatic = false ∧ f.slot = i
theorem SlotS.moved {u U : State} {n d : String} {i : Nat} (hvm : u.vm.Alike U.vm) (h : SlotS u n d i) : SlotS U n d i := by
  obtain ⟨cf, k, fi, f, h1, h2, h3⟩ := h
  obtain ⟨k', hi', -⟩ := State.fieldFound?_setVm hvm h1
  exact ⟨cf, k', fi, f, hi', h2, h3⟩
def KU1 (w : OM) (U : State) : Prop := (∀ c ∈ lw_tbl, isX c = true → va_Nw c U) ∧ va_AO "java/lang/Object" U ∧ va_AO "EdgeWalk$State" U ∧ va_AO "EdgeWalk$Image" U ∧ va_K (oD w) kcl (ktys w) U
def KU2 (w : OM) (U : State) : Prop := (∀ i ty, i < 64 → XT i = some ty → isAr U (oE w i) ty) ∧ (∀ x ∈ SRl, ∃ a : Nat, oV w x.2.2.2 = .ref a ∧ vk_R x.1 x.2.1 x.2.2.1 a U) ∧ (∃ mi : Nat, oV w 3 = .ref mi ∧ va_Mi "[Ljava/lang/Object;" mi U)
def KU3 (w : OM) (U : State) : Prop := va_Z "EdgeWalk" "NAMES" "[Ljava/lang/String;" (oV w 1) (oF w) U (oH w) ∧ va_Z "java/lang/String" "COMPACT_STRINGS" "Z" (.int 1) (oF w) U (oH w) ∧ va_Z "jdk/internal/util/Preconditions" "SIOOBE_FORMATTER" "Ljava/util/function/BiFunction;" (oV w 2) (oF w) U (oH w) ∧ U.vm.findClass "java/lang/String" = some ((oD w).1 17) ∧ SlotS U "value" "[B" ((oD w).2 17 0) ∧ SlotS U "coder" "B" ((oD w).2 17 1) ∧ vx_Zq Bundle.tN "UNASSIGNED_STACK" Bundle.steD (oF w) U (oH w) ∧ vx_Zq Bundle.tN "SUPPRESSED_SENTINEL" Bundle.listD (oF w) U (oH w)
def KU (w : OM) (U : State) : Prop := KU1 w U ∧ KU2 w U ∧ KU3 w U
theorem KU.warm {w : OM} {s U : State} (hW : s.WarmedH U.vm) (h : KU w s) : KU w U := by
  have hA := hW.alike
  obtain ⟨⟨a1, a2, a3, a4, a5⟩, ⟨b1, b2, mi, b3, b4⟩, ⟨c1, c2, c3, c4, c5, c6, c7, c8⟩⟩ := h
  refine ⟨⟨fun c hc hx => isX_warm hW hx (a1 c hc hx), a2.moved hA, a3.moved hA, a4.moved hA, a5.moved hA⟩, ⟨fun i ty hi hx => (b1 i ty hi hx).moved hA, fun x hx => ?_, mi, b3, b4.moved hA⟩, ⟨c1.moved hA, c2.moved hA, c3.moved hA, by rw [hA.findClass]; exact c4, c5.moved hA, c6.moved hA, c7.moved hA, c8.moved hA⟩⟩
  obtain ⟨a, e1, e2⟩ := b2 x hx
  exact ⟨a, e1, e2.warm hW⟩
def tyTag (t : FieldType) : Nat := match t with
  | .int => 0
  | .long => 1
  | .boolean => 3
  | .object _ => 2
  | .array _ => 2
  | _ => 9
/-- what is known of a class by its number -/
def CF (ci : Nat) (C : String) (T : u_T) (ty : Nat → FieldType) : Prop := kcl[ci]? = some (C, T, NF ci) ∧ (∀ w ∈ u_ws C T (NF ci), w ∈ lw_all) ∧ (∀ k, k < NF ci → parseFieldDescriptor (T k).2.2.1 = some (ty k)) ∧ (∀ a, a < NF ci → ∀ b, b < NF ci → a ≠ b → (T a).2.1 ≠ (T b).2.1) ∧ (∀ k, k < NF ci → tyTag (ty k) = FT ci k ∧ FT ci k ≤ 3) ∧ ci ≤ 16
theorem cf_X0 : CF 0 RX0 TX0 tyX0 := ⟨rfl, in_X0, tyX0_ok, nmX0, by decide +kernel, by decide⟩
theorem cf_X1 : CF 1 RX1 TX1 tyX1 := ⟨rfl, in_X1, tyX1_ok, nmX1, by decide +kernel, by decide⟩
theorem cf_J2 : CF 2 RJ2 TJ2 tyJ2 := ⟨rfl, in_J2, tyJ2_ok, nmJ2, by decide +kernel, by decide⟩
theorem cf_X2 : CF 3 RX2 TX2 tyX2 := ⟨rfl, in_X2, tyX2_ok, nmX2, by decide +kernel, by decide⟩
theorem cf_X3 : CF 4 RX3 TW3 (fun _ => .int) := ⟨rfl, in_W3, (by decide +kernel), (by decide +kernel), by decide +kernel, by decide⟩
theorem cf_X4 : CF 5 RX4 TX4 tyX4 := ⟨rfl, in_X4, tyX4_ok, nmX4, by decide +kernel, by decide⟩
theorem cf_X5 : CF 6 RX5 TX5 tyX5 := ⟨rfl, in_X5, tyX5_ok, nmX5, by decide +kernel, by decide⟩
theorem cf_X6 : CF 7 RX6 TX6 tyX6 := ⟨rfl, in_X6, tyX6_ok, nmX6, by decide +kernel, by decide⟩
theorem cf_X7 : CF 8 RX7 TX7 tyX7 := ⟨rfl, in_X7, tyX7_ok, nmX7, by decide +kernel, by decide⟩
theorem cf_X9 : CF 9 RX9 TX9 tyX9 := ⟨rfl, in_X9, tyX9_ok, nmX9, by decide +kernel, by decide⟩
theorem cf_X10 : CF 10 RX10 TX10 tyX10 := ⟨rfl, in_X10, tyX10_ok, nmX10, by decide +kernel, by decide⟩
theorem cf_X11 : CF 11 RX11 TX11 tyX11 := ⟨rfl, in_X11, tyX11_ok, nmX11, by decide +kernel, by decide⟩
theorem cf_X12 : CF 12 RX12 TX12 tyX12 := ⟨rfl, in_X12, tyX12_ok, nmX12, by decide +kernel, by decide⟩
theorem cf_X14 : CF 13 RX14 TX14 tyX14 := ⟨rfl, in_X14, tyX14_ok, nmX14, by decide +kernel, by decide⟩
theorem cf_X15 : CF 14 RX15 TX15 tyX15 := ⟨rfl, in_X15, tyX15_ok, nmX15, by decide +kernel, by decide⟩
theorem cf_X16 : CF 15 RX16 TX16 tyX16 := ⟨rfl, in_X16, tyX16_ok, nmX16, by decide +kernel, by decide⟩
theorem cf_X17 : CF 16 RX17 TX17 tyX17 := ⟨rfl, in_X17, tyX17_ok, nmX17, by decide +kernel, by decide⟩
/-- a field by its link: the class' number, the field's, its type -/
def FldOK (own : String) (idx tag : Nat) (z : Int) (t : Nat) : Prop := ∃ (ci k : Nat) (C : String) (T : u_T) (ty : Nat → FieldType) (ref : String), tag = 16 + ci ∧ z = (k : Int) ∧ k < NF ci ∧ t = FT ci k ∧ CF ci C T ty ∧ ((Jvm.Cond.fieldLink own idx ref (T k).2.1 (T k).2.2.1 ∈ lw_all) ∨ (∃ host, Jvm.Cond.fieldLinkNest own idx ref (T k).2.1 (T k).2.2.1 host ∈ lw_tbl)) ∧ (ref = (T k).1 ∨ Jvm.Cond.sameField ref (T k).1 (T k).2.1 (T k).2.2.1 ∈ lw_all)
def FldSOK (own : String) (idx tag : Nat) (z : Int) (t : Nat) : Prop := tag = 33 ∧ ((z = 0 ∧ t = 2 ∧ Jvm.Cond.fieldLink own idx "java/lang/String" "value" "[B" ∈ lw_all) ∨ (z = 1 ∧ t = 0 ∧ Jvm.Cond.fieldLink own idx "java/lang/String" "coder" "B" ∈ lw_all))
/-- .. that this method may write -/
def PutOK (own mname : String) (idx tag : Nat) (z : Int) (t : Nat) : Prop := ∃ (ci k : Nat) (C : String) (T : u_T) (ty : Nat → FieldType) (ref : String), tag = 16 + ci ∧ z = (k : Int) ∧ k < NF ci ∧ t = FT ci k ∧ CF ci C T ty ∧ (ref = (T k).1 ∨ Jvm.Cond.sameField ref (T k).1 (T k).2.1 (T k).2.2.1 ∈ lw_all) ∧
  (((T k).2.2.2 = false ∧ ((Jvm.Cond.fieldLink own idx ref (T k).2.1 (T k).2.2.1 ∈ lw_all) ∨ (∃ host, Jvm.Cond.fieldLinkNest own idx ref (T k).2.1 (T k).2.2.1 host ∈ lw_tbl))) ∨ ((T k).2.2.2 = true ∧ mname = "<init>" ∧ (T k).1 = own ∧ Jvm.Cond.fieldLink own idx ref (T k).2.1 (T k).2.2.1 ∈ lw_all))
section
variable {p : Program} {l : Launch} {e : Env} {R : Room} {s : State} {m : MethodId} {args : Array Value} {below : List Frame} {meth : Method} {c : Code} {Q : State → Prop} {w : OM} {nL cu su pc : Nat} {cc : ByteArray} {ls : LVs} {st r : List AV} {hs0 h : AH}
theorem atB_of {H : Heap} {a ci : Nat} (hR : Rel w h H) (hv : val h a) (ht : tg a = 16 + ci) : ∃ (q : Nat) (cell : Cell), cr w (some a) = .ref q ∧ H[q]? = some cell ∧ cell.cls = (oD w).1 ci ∧ cell.vm ≠ .unknown ∧ cell.vm.isStatics = false ∧ (64 ≤ ix a → cell.vm = .none) ∧ ∀ k : Nat, k < NF ci → cell.slots[(oD w).2 ci k]? = some (fld w h ci a k) := by
  have h1 := (hR.2.2.2.1 a hv).2
  unfold atO at h1
  rw [if_neg (by omega), if_neg (by omega)] at h1
  unfold atB at h1
  rw [show tg a - 16 = ci by omega] at h1
  exact h1
theorem own_of {H : Heap} {a : Nat} (hR : Rel w h H) (hv : val h a) (ht : tg a ≤ 6 ∨ (16 ≤ tg a ∧ tg a ≤ 32)) : 64 ≤ ix a := by
  have h1 := (hR.2.2.2.1 a hv).1
  by_cases hx : ix a < 64
  · rcases h1.1 hx with q | q | q | q | q <;> omega
  · omega
theorem fget_cv {H : Heap} {a ci k : Nat} {K : AV → Prop} (hR : Rel w h H) (hv : val h a) (hk : fget h a (k : Int) (FT ci k) K) : ∃ v, K v ∧ cv w v = fld w h ci a k ∧ vok h v := by
  unfold fget at hk
  unfold fld
  split at hk
  · rename_i e
    obtain ⟨v, e1, k1⟩ := hk
    exact ⟨vi v, k1, by rw [e, ← e1]; rfl, trivial⟩
  · rename_i e
    obtain ⟨v, e1, k1⟩ := hk
    exact ⟨vl v, k1, by rw [e, ← e1]; rfl, trivial⟩
  · rename_i e
    obtain ⟨v, e1, k1⟩ := hk
    refine ⟨vr v, k1, by rw [e, ← e1]; rfl, ?_⟩
    cases v with
    | none => trivial
    | some b => exact hR.2.2.2.2 a k b hv e1
  · rename_i n0 n1 n2
    obtain ⟨v, e1, k1⟩ := hk
    refine ⟨vi v, k1, ?_, trivial⟩
    split
    · rw [← e1]; rfl
    · rename_i e; exact absurd e n1
    · rename_i e; exact absurd e n2
    · rw [← e1]; rfl
theorem same_of {ref own name desc : String} (hts : ∀ w ∈ lw_all, w.before args s = true) (h : ref = own ∨ Jvm.Cond.sameField ref own name desc ∈ lw_all) : ∀ x, s.fieldFound? own name desc = some x → s.fieldFound? ref name desc = some x := by
  intro x hx
  rcases h with e | e
  · rw [e]; exact hx
  · exact u_same (hts _ e) x hx
theorem k_getfield (hx : p.tables.exec = Jvm.exec) (hb : c.code = cc) {own : String} {idx tag t : Nat} {z : Int} {a : Nat} (hown : s.vm.findClass own = some m.cls) (hts : ∀ w ∈ lw_all, w.before args s = true) (hK : KU w s) (hf : FldOK own idx tag z t) (hd : decode cc pc = .ok (.getfield idx, 3)) (ht : tg a = tag) (k : fget h a z t (fun v => WPk p l e R s m args below meth c Q w nL hs0 cu su (pc + 3) ls (v :: r) h)) : WPk p l e R s m args below meth c Q w nL hs0 cu su pc ls (vo a :: r) h := by
  intro hv H locs la hR hL hl
  obtain ⟨ci, k0, C, T, ty, ref, rfl, rfl, hk, rfl, ⟨hc, hin, hty, hnm, htt, h16⟩, hlink, hsame⟩ := hf
  have hva : val h a := vs_head hv
  obtain ⟨q, cell, e1, e2, e3, e4, e5, e6, e7⟩ := atB_of hR hva ht
  obtain ⟨v, k1, ev, hvv⟩ := fget_cv hR hva k
  obtain ⟨hS, hfc, kC, hkC, hkind⟩ := hK.1.2.2.2.2.1 ci _ hc
  obtain ⟨cf, kf, fi, f, hi, hsl⟩ := hS k0 hk
  have hst := (u_facts hfc hkC (u_lays hts hin hk) hi).1
  have hslot : cell.slots[f.slot]? = some (cv w v) := by rw [hsl, ev]; exact e7 k0 hk
  have k2 := k1 (vs_cons hvv (vs_tail hv)) H locs la hR hL hl
  simp only [List.map_cons] at k2 ⊢
  rw [show cv w (vo a) = .ref q from e1]
  rcases hlink with hl1 | ⟨host, hl1⟩
  · exact W.getf hx hb hown (hts _ hl1) (same_of hts hsame _ hi) hst e2 e4 hslot rfl rfl hd k2
  · exact va_Wgetf hx hb hown (va_Nw.use rfl (hK.1.1 _ hl1 rfl)) (same_of hts hsame _ hi) hst e2 e4 hslot rfl rfl hd k2
theorem k_getfieldS (hx : p.tables.exec = Jvm.exec) (hb : c.code = cc) {own : String} {idx tag t : Nat} {z : Int} {a : Nat} (hown : s.vm.findClass own = some m.cls) (hts : ∀ w ∈ lw_all, w.before args s = true) (hK : KU w s) (hf : FldSOK own idx tag z t) (hd : decode cc pc = .ok (.getfield idx, 3)) (ht : tg a = tag) (k : fget h a z t (fun v => WPk p l e R s m args below meth c Q w nL hs0 cu su (pc + 3) ls (v :: r) h)) : WPk p l e R s m args below meth c Q w nL hs0 cu su pc ls (vo a :: r) h := by
  intro hv H locs la hR hL hl
  obtain ⟨rfl, hf⟩ := hf
  have hva : val h a := vs_head hv
  obtain ⟨q, cell, e1, e2, e3, e4, e5, e6, e7⟩ := atB_of (ci := 17) hR hva ht
  simp only [List.map_cons]
  rw [show cv w (vo a) = .ref q from e1]
  rcases hf with ⟨rfl, rfl, hl1⟩ | ⟨rfl, rfl, hl1⟩
  · obtain ⟨v, k1, ev, hvv⟩ := fget_cv (ci := 17) (k := 0) hR hva k
    have k2 := k1 (vs_cons hvv (vs_tail hv)) H locs la hR hL hl
    obtain ⟨cf, kf, fi, f, hi, hst, hsl⟩ := hK.2.2.2.2.2.2.1
    exact W.getf hx hb hown (hts _ hl1) hi hst e2 e4 (by rw [hsl, ev]; exact e7 0 (by decide)) rfl rfl hd k2
  · obtain ⟨v, k1, ev, hvv⟩ := fget_cv (ci := 17) (k := 1) hR hva k
    have k2 := k1 (vs_cons hvv (vs_tail hv)) H locs la hR hL hl
    obtain ⟨cf, kf, fi, f, hi, hst, hsl⟩ := hK.2.2.2.2.2.2.2.1
    exact W.getf hx hb hown (hts _ hl1) hi hst e2 e4 (by rw [hsl, ev]; exact e7 1 (by decide)) rfl rfl hd k2
/-- what a write does: the value that is stored fits, and the world behind it -/
theorem fput_cv {H : Heap} {a ci k : Nat} {v : AV} {ty : FieldType} {K : AH → Prop} (hw : WOK w) (hR : Rel w h H) (hva : val h a) (hvv : vok h v) (ht : tg a = 16 + ci) (h16 : ci ≤ 16) (hk0 : k < NF ci) (htt : tyTag ty = FT ci k) (h33 : FT ci k ≤ 3) (hk : fput h a (k : Int) (FT ci k) v K)
    (hap : ∀ x y, x < NF ci → y < NF ci → x ≠ y → (oD w).2 ci x ≠ (oD w).2 ci y) {q : Nat} {cell : Cell} (e1 : cr w (some a) = .ref q) (e2 : H[q]? = some cell) (e3 : cell.cls = (oD w).1 ci) (e4 : cell.vm = .none) (e7 : ∀ k : Nat, k < NF ci → cell.slots[(oD w).2 ci k]? = some (fld w h ci a k)) :
    narrow ty (cv w v) = cv w v ∧ fits ty (cv w v) = true ∧ ∃ h', K h' ∧ h'.1 = h.1 ∧ ∀ H' : Heap, H'[q]? = some (cell.setSlot ((oD w).2 ci k) (cv w v)) → H'.size = H.size → (∀ x : Nat, x ≠ q → H'[x]? = H[x]?) → Rel w h' H' := by
  have own : 64 ≤ ix a := own_of hR hva (by omega)
  have hsz : (oD w).2 ci k < cell.slots.size := (Array.getElem?_eq_some_iff.mp (e7 k hk0)).1
  have rel : ∀ h' : AH, h'.1 = h.1 → (∀ b, b ≠ a → (∀ k, hI h' b k = hI h b k) ∧ (∀ k, hL h' b k = hL h b k) ∧ (∀ k, hP h' b k = hP h b k)) → (∀ j, j < NF ci → fld w h' ci a j = if j = k then cv w v else fld w h ci a j) → (∀ j b, hP h' a j = some b → val h b) →
      ∀ H' : Heap, H'[q]? = some (cell.setSlot ((oD w).2 ci k) (cv w v)) → H'.size = H.size → (∀ x : Nat, x ≠ q → H'[x]? = H[x]?) → Rel w h' H' := by
    intro h' g1 g2 g3 g4 H' f1 f2 f3
    refine Rel.write hw hR hva own g1 g2 e1 ?_ f2 f3 g4
    unfold atO
    rw [if_neg (by omega), if_neg (by omega)]
    refine ⟨q, _, e1, f1, ?_, ?_, ?_, ?_, ?_⟩
    · rw [show tg a - 16 = ci by omega]; exact e3
    · show cell.vm ≠ .unknown
      rw [e4]; exact fun z => by cases z
    · show cell.vm.isStatics = false
      rw [e4]; rfl
    · exact fun _ => e4
    · rw [show tg a - 16 = ci by omega]
      intro j hj
      rw [g3 j hj]
      by_cases hjk : j = k
      · subst hjk
        rw [if_pos rfl]
        simp [Cell.setSlot, hsz]
      · rw [if_neg hjk, slot_ne _ _ (hap k j hk0 hj (fun z => hjk z.symm))]
        exact e7 j hj
  unfold fput at hk
  split at hk
  · rename_i e
    split at hk
    · rename_i i
      rw [e] at htt
      have hty : ty = .int := by cases ty <;> simp [tyTag] at htt <;> rfl
      subst hty
      refine ⟨rfl, rfl, _, hk, rfl, rel _ rfl (fun b hb => ⟨fun j => ?_, fun j => rfl, fun j => rfl⟩) (fun j hj => ?_) (fun j b hj => hR.2.2.2.2 a j b hva hj)⟩
      · show uI h.2.1 a k i b j = h.2.1 b j
        unfold uI
        rw [if_neg (fun z => hb z.1)]
      · unfold fld
        by_cases hjk : j = k
        · subst hjk
          rw [if_pos rfl, e]
          show Value.int (Int32.ofInt (uI h.2.1 a j i a j)) = _
          unfold uI
          rw [if_pos ⟨rfl, rfl⟩]
          rfl
        · rw [if_neg hjk]
          have : hI (sI h a k i) a j = hI h a j := by
            show uI h.2.1 a k i a j = h.2.1 a j
            unfold uI
            rw [if_neg (fun z => hjk (Int.ofNat.inj z.2))]
          rw [this]
    · exact hk.elim
  · rename_i e
    split at hk
    · rename_i i
      rw [e] at htt
      have hty : ty = .long := by cases ty <;> simp [tyTag] at htt <;> rfl
      subst hty
      refine ⟨rfl, rfl, _, hk, rfl, rel _ rfl (fun b hb => ⟨fun j => rfl, fun j => ?_, fun j => rfl⟩) (fun j hj => ?_) (fun j b hj => hR.2.2.2.2 a j b hva hj)⟩
      · show uL h.2.2.1 a k i b j = h.2.2.1 b j
        unfold uL
        rw [if_neg (fun z => hb z.1)]
      · unfold fld
        by_cases hjk : j = k
        · subst hjk
          rw [if_pos rfl, e]
          show Value.long (uL h.2.2.1 a j i a j) = _
          unfold uL
          rw [if_pos ⟨rfl, rfl⟩]
          rfl
        · rw [if_neg hjk]
          have : hL (sL h a k i) a j = hL h a j := by
            show uL h.2.2.1 a k i a j = h.2.2.1 a j
            unfold uL
            rw [if_neg (fun z => hjk (Int.ofNat.inj z.2))]
          rw [this]
    · exact hk.elim
  · rename_i e
    split at hk
    · rename_i i
      rw [e] at htt
      have hrf : (∃ n, ty = .object n) ∨ ∃ n, ty = .array n := by cases ty <;> simp [tyTag] at htt <;> first | exact Or.inl ⟨_, rfl⟩ | exact Or.inr ⟨_, rfl⟩
      have hnf : narrow ty (cv w (vr i)) = cv w (vr i) ∧ fits ty (cv w (vr i)) = true := by
        rw [show cv w (vr i) = cr w i from rfl]
        rcases hrf with ⟨n, rfl⟩ | ⟨n, rfl⟩ <;> rcases cr_cat w hw i with q1 | ⟨b, q1⟩ <;> rw [q1] <;> exact ⟨rfl, rfl⟩
      refine ⟨hnf.1, hnf.2, _, hk, rfl, rel _ rfl (fun b hb => ⟨fun j => rfl, fun j => rfl, fun j => ?_⟩) (fun j hj => ?_) (fun j b hj => ?_)⟩
      · show uP h.2.2.2 a k i b j = h.2.2.2 b j
        unfold uP
        rw [if_neg (fun z => hb z.1)]
      · unfold fld
        by_cases hjk : j = k
        · subst hjk
          rw [if_pos rfl, e]
          show cr w (uP h.2.2.2 a j i a j) = _
          unfold uP
          rw [if_pos ⟨rfl, rfl⟩]
          rfl
        · rw [if_neg hjk]
          have : hP (sP h a k i) a j = hP h a j := by
            show uP h.2.2.2 a k i a j = h.2.2.2 a j
            unfold uP
            rw [if_neg (fun z => hjk (Int.ofNat.inj z.2))]
          rw [this]
      · have hj2 : uP h.2.2.2 a k i a j = some b := hj
        unfold uP at hj2
        split at hj2
        · subst hj2
          exact hvv
        · exact hR.2.2.2.2 a j b hva hj2
    · exact hk.elim
  · rename_i n0 n1 n2
    split at hk
    · rename_i i
      obtain ⟨hi01, hk⟩ := hk
      have hty : ty = .boolean := by
        cases ty <;> first | rfl | exact absurd htt.symm n0 | exact absurd htt.symm n1 | exact absurd htt.symm n2 | (exfalso; have h9 : (9 : Nat) = FT ci k := htt; omega)
      subst hty
      have h3 : FT ci k = 3 := htt.symm
      refine ⟨by rcases hi01 with rfl | rfl <;> rfl, by rcases hi01 with rfl | rfl <;> rfl, _, hk, rfl, rel _ rfl (fun b hb => ⟨fun j => ?_, fun j => rfl, fun j => rfl⟩) (fun j hj => ?_) (fun j b hj => hR.2.2.2.2 a j b hva hj)⟩
      · show uI h.2.1 a k i b j = h.2.1 b j
        unfold uI
        rw [if_neg (fun z => hb z.1)]
      · unfold fld
        by_cases hjk : j = k
        · subst hjk
          rw [if_pos rfl, h3]
          show Value.int (Int32.ofInt (uI h.2.1 a j i a j)) = _
          unfold uI
          rw [if_pos ⟨rfl, rfl⟩]
          rfl
        · rw [if_neg hjk]
          have : hI (sI h a k i) a j = hI h a j := by
            show uI h.2.1 a k i a j = h.2.1 a j
            unfold uI
            rw [if_neg (fun z => hjk (Int.ofNat.inj z.2))]
          rw [this]
    · exact hk.elim
end
