/-! 'new EdgeWalk$Wrong()': the constructors up to Throwable (wr_ctor and k_newWrong follow the kit's vx_ctorMade0 and vx_make0, by a nest link and with a field of its own) -/
abbrev wN : String := "EdgeWalk$Wrong"
def wrA : List Jvm.Cond := Bundle.throwableAtoms ++ Bundle.chain0Atoms wN ["java/lang/Exception"] ++ [.instantiable wN 7, .selects wN Bundle.tFill0 Bundle.tFill0, .selects wN Bundle.tFill Bundle.tFill, .lays wN Bundle.tN "cause" "Ljava/lang/Throwable;", .lays wN Bundle.tN "stackTrace" Bundle.steD, .lays wN Bundle.tN "suppressedExceptions" Bundle.listD, .lays wN Bundle.tN "detailMessage" "Ljava/lang/String;", .isRef (.static Bundle.tN "UNASSIGNED_STACK" Bundle.steD), .isRef (.static Bundle.tN "SUPPRESSED_SENTINEL" Bundle.listD), .fieldLink Bundle.tN 198 Bundle.tN "backtrace" "Ljava/lang/Object;", .lays Bundle.tN Bundle.tN "backtrace" "Ljava/lang/Object;", .lays wN Bundle.tN "backtrace" "Ljava/lang/Object;", .lays wN wN "number" "I"]
set_option maxRecDepth 100000 in
theorem wrA_in : ∀ w ∈ wrA.filter vx_no, w ∈ lw_all ∨ (isX w = true ∧ w ∈ lw_tbl) := by
  have h0 : wrA.filter vx_no = [135, 302, 311, 313, 316, 318, 303, 304, 170, 171, 305, 310, 314, 328, 292, 329, 294, 330, 296, 306, 308, 298, 320, 321, 322, 323, 285, 323, 324, 325, 303, 287, 283, 289, 290, 291, 293, 295, 297, 301, 300, 299, 331].filterMap (fun i => lw_tbl[i]?) := by decide +kernel
  have h1 : (wrA.filter vx_no).all (fun w => goodWord w || isX w) = true := by decide +kernel
  intro w hw
  have h2 := List.all_eq_true.mp h1 w hw
  have h3 : w ∈ lw_tbl := by
    rw [h0] at hw
    obtain ⟨i, -, hi⟩ := List.mem_filterMap.mp hw
    exact List.mem_of_getElem? hi
  rcases (Bool.or_eq_true _ _).mp h2 with h4 | h4
  · exact Or.inl (lw_g h3 h4)
  · exact Or.inr ⟨h4, h3⟩
section
variable {p : Program} {l : Launch} {e : Env} {R : Room} {s : State} {m₀ : MethodId} {args : Array Value} {below : List Frame} {meth : Method} {c : Code} {W : State} {locs : List Loc} {cells slots : Nat}
set_option maxHeartbeats 2000000 in
theorem wr_ctor (X : Stand p l e R s m₀ args below meth c W locs cells slots) (hexec : p.tables.exec = Jvm.exec) (htr : e.platform.stackTraces = false)
    (hown : s.vm.findClass "EdgeWalk" = some m₀.cls) (hlk : (Jvm.Cond.methodLinkNest "EdgeWalk" 41 (Bundle.init0 wN) "EdgeWalk").before args s = true)
    (h : ∀ a ∈ wrA, a.before args s = true)
    (hlocs : ∀ x ∈ locs, ∀ cell, s.heap[x.base]? = some cell → cell.vm.isStatics = false)
    {a : Addr} {cX : ClassId} {kX : Class} (hfoundX : s.vm.findClass wN = some cX) (hkX : s.vm.classes[cX]? = some kX) (hcell : W.heap[a]? = some (freshCell cX kX)) (hnew : s.heap.size ≤ a)
    {g : JFrame} (hg : g.method = m₀) (hsize : g.locals.size = c.maxLocals) {rest : List Value} (hstack : g.stack = .ref a :: .ref a :: rest)
    (hd6 : decode c.code g.pc = .ok (.invokespecial 41, 3))
    (hRframes : 4 < R.frames) (hRlocals : 2 * g.monitorRoom + ((Value.ref a :: rest).map fun v => v.category).sum + 67 ≤ R.locals) :
    ∃ (V : State) (ce : Cell) (L : List Loc), Stand p l e R s m₀ args below meth c (V.setCell a ce) (locs ++ L) cells slots ∧ (∀ y ∈ L, y.base = a) ∧ V.heap = W.heap ∧ ce.cls = cX ∧ ce.vm = .none ∧
      (∀ (c' : ClassId) (k' : Class) (i' : Nat) (fN : Field), s.fieldFound? wN "number" "I" = some (c', k', i', fN) → ce.slots[fN.slot]? = (freshCell cX kX).slots[fN.slot]?) ∧
      ∀ target, Steps p.tables e below ((V.setCell a ce).setTop { g with stack := .ref a :: rest, pc := g.pc + 3 }) target → Steps p.tables e below (W.setTop g) target := by
  have howns : e.platform.frameOwnsMonitors = true := by rw [X.admits.platform]
  have hfin : e.platform.finalization = false := by rw [X.admits.platform]
  have hpl : e.platform.magicAccessors = ({} : Platform).magicAccessors := by rw [X.admits.platform]
  have hcls : Bundle.fit wN = true := by decide +kernel
  have hnames : ∀ n ∈ ["java/lang/Exception"], Bundle.fit n = true := by decide +kernel
  have a' : ∀ x, x ∈ wrA → x.holds args s none s [] = true := fun x hx => h x hx
  obtain ⟨T, Z, L, LZ, Y⟩ := ThrowableC.of_atoms (args := args) howns hfin hpl (fun x hx => h x (by simp [wrA, hx]))
  obtain ⟨P1, Ps, hlen, L1, hL, hP1m, hlink1, hlink⟩ := Bundle.chain0 (args := args) hpl Y.init0 ["java/lang/Exception"] wN hcls hnames (fun x hx => h x (by simp [wrA, hx]))
  have hfound : s.vm.findClass wN = some P1.m.cls := findClass_of_methodNamed hP1m
  cases Option.some.inj (hfoundX.symm.trans hfound)
  obtain ⟨c1, kX', hc1, hk, hord, -, -, hn6⟩ := Cond.instantiable_spec (a' (.instantiable wN 7) (by simp [wrA]))
  cases Option.some.inj (hc1.symm.trans hfound)
  cases Option.some.inj (hkX.symm.trans hk)
  have hsel0 : selectMethod e.platform s.vm P1.m.cls T.fill0 = .method T.fill0 := by
    obtain ⟨c2, r2, m2, q1, q2, q3, q4, -⟩ := Cond.selects_spec (a' (.selects wN Bundle.tFill0 Bundle.tFill0) (by simp [wrA]))
    cases Option.some.inj (q1.symm.trans hfound)
    cases Option.some.inj (q2.symm.trans (State.methodFound?_of_named Y.fill0 (by decide)))
    cases Option.some.inj (q3.symm.trans Y.fill0)
    rw [Launch.admits_selectMethod X.admits]; exact q4
  have hselF : selectMethod e.platform s.vm P1.m.cls T.fill = .method T.fill := by
    obtain ⟨c2, r2, m2, q1, q2, q3, q4, -⟩ := Cond.selects_spec (a' (.selects wN Bundle.tFill Bundle.tFill) (by simp [wrA]))
    cases Option.some.inj (q1.symm.trans hfound)
    cases Option.some.inj (q2.symm.trans (State.methodFound?_of_named Y.fill (by decide)))
    cases Option.some.inj (q3.symm.trans Y.fill)
    rw [Launch.admits_selectMethod X.admits]; exact q4
  obtain ⟨cellS0, hcS0, hiss⟩ := Y.statics
  obtain ⟨u0, hu0⟩ := Cond.staticRefV Y.unassigned L.unassignedStatic L.statics hcS0 hiss (a' (.isRef (.static Bundle.tN "UNASSIGNED_STACK" Bundle.steD)) (by simp [wrA]))
  obtain ⟨sen, hsen⟩ := Cond.staticRefV Y.sentinel L.sentinelStatic L.statics hcS0 hiss (a' (.isRef (.static Bundle.tN "SUPPRESSED_SENTINEL" Bundle.listD)) (by simp [wrA]))
  obtain ⟨ci198, i198, fB, hk198, hg198, ha198, hsB, -, hnB, htB, hffB⟩ := Cond.ownField (t := .object "java/lang/Object") Y.found L.cls (by decide +kernel) (a' (.fieldLink Bundle.tN 198 Bundle.tN "backtrace" "Ljava/lang/Object;") (by simp [wrA])) (a' (.lays Bundle.tN Bundle.tN "backtrace" "Ljava/lang/Object;") (by simp [wrA])) e.platform hpl
  obtain ⟨cellS, hcS', heS, -, hkeep⟩ := X.same.2.2.2.2.2 T.aS cellS0 hcS0
  have hcellS : W.heap[T.aS]? = some cellS := hcS'
  have hout' : ∀ i, (⟨T.aS, i⟩ : Loc) ∉ locs := fun i hmem => by
    have := hlocs _ hmem cellS0 hcS0
    rw [hiss] at this; cases this
  have hknownS : cellS.vm ≠ .unknown := by
    rw [heS]; intro hu
    rw [show cellS0.vm = .unknown from hu] at hiss
    cases hiss
  have hneS : T.aS ≠ a := Nat.ne_of_lt (Nat.lt_of_lt_of_le (Array.getElem?_eq_some_iff.mp hcS0).1 hnew)
  obtain ⟨iM, hffM⟩ := Y.msg
  obtain ⟨tyC, dC, hdC, hdnC⟩ := Cond.laysAt hfound hk Y.cause (a' (.lays wN Bundle.tN "cause" "Ljava/lang/Throwable;") (by simp [wrA]))
  obtain ⟨tyS, dS, hdS, hdnS⟩ := Cond.laysAt hfound hk Y.stack (a' (.lays wN Bundle.tN "stackTrace" Bundle.steD) (by simp [wrA]))
  obtain ⟨tyP, dP, hdP, hdnP⟩ := Cond.laysAt hfound hk Y.supp (a' (.lays wN Bundle.tN "suppressedExceptions" Bundle.listD) (by simp [wrA]))
  obtain ⟨tyM, dM, hdM, hdnM⟩ := Cond.laysAt hfound hk hffM (a' (.lays wN Bundle.tN "detailMessage" "Ljava/lang/String;") (by simp [wrA]))
  obtain ⟨tyB, dB, hdB, hdnB⟩ := Cond.laysAt hfound hk hffB (a' (.lays wN Bundle.tN "backtrace" "Ljava/lang/Object;") (by simp [wrA]))
  have bC := Cond.laysApart hdB hdC hdnB hdnC (by rw [hnB, Y.causeName]; decide)
  have bS := Cond.laysApart hdB hdS hdnB hdnS (by rw [hnB, Y.stackName]; decide)
  have bP := Cond.laysApart hdB hdP hdnB hdnP (by rw [hnB, Y.suppName]; decide)
  have hskip : SkipFacts T e.platform s (fun u => u) u0 ((preparedCellV T.toThrowableT (freshCell P1.m.cls kX) a u0 sen).withEntry W.cur) :=
    ⟨{ ci198 := ci198, i198 := i198, fBack := fB }, ⟨hk198, hg198, ha198, hsB⟩, by
      have := fresh_default (c := P1.m.cls) tyB
      rw [htB] at this
      simpa [preparedCellV, Cell.setSlot, Cell.withEntry, Array.getElem?_setIfInBounds, bC, bS, bP, bC.symm, bS.symm, bP.symm, defaultValue] using this, fun _ _ => rfl⟩
  obtain ⟨tm, methC, cdC, kC, vm₁, hnC, -, -, -, -, -, -, -, hW₁, st1⟩ := Steps.initColdArgsNest (tb := p.tables) (e := e) (below := below) (s := s) (U := W) X.here hexec X.warmed hpl hown (t := Bundle.init0 wN) rfl (Bundle.fit_spec hcls).2
    hlk (h (.instanceMethod (Bundle.init0 wN)) (by simp [wrA, Bundle.chain0Atoms, Bundle.passAtoms])) (bytes := Bundle.five) (maxL := 1) (h (.code (Bundle.init0 wN) Bundle.five 1 none) (by simp [wrA, Bundle.chain0Atoms, Bundle.passAtoms]))
    (f := g) hg (a := a) (argsL := []) (rest := .ref a :: rest) (fun sig hs => by
      have h1 : (parseMethodDescriptor "()V").map (fun d => d.parameters.length) = some 0 := by decide +kernel
      rw [show parseMethodDescriptor "()V" = some sig from hs] at h1
      exact (Option.some.inj h1).symm) hstack hd6
  cases Option.some.inj (hnC.symm.trans hP1m)
  have X₁ := X.noted hW₁
  obtain ⟨vm₂, X₂, st2⟩ := X₁.ctorPlainOffV hexec (g := { g with stack := .ref a :: rest }) hg hsize T L Z LZ (P1 :: Ps)
    (fun P hP => by rcases List.mem_cons.mp hP with rfl | hP; exact L1; exact hL P hP) ⟨hlink1, hlink⟩ (u0 := u0) (sen := sen) (self := a) (cell := freshCell P1.m.cls kX) (cellS := cellS)
    hcell (fun _ => by simp) (by simp) rfl rfl hsel0 hselF hcellS hneS hknownS (by rw [hkeep _ (hout' _)]; exact hu0) (by rw [hkeep _ (hout' _)]; exact hsen)
    (Takes.of_laid hk hord tyC (by rw [Y.causeType]; rfl)) (Takes.of_laid hk hord tyS (by rw [Y.stackType]; exact fits_refV_array _ u0)) (Takes.of_laid hk hord tyP (by rw [Y.suppType]; exact fits_refV_object _ sen)) Y.objLocals hskip htr [] hd6
    (by simp only [List.length_cons, hlen]; exact hRframes) (by simp only [List.length_cons, hlen]; exact hRlocals)
  refine ⟨(W.setVm vm₁).setVm vm₂, _, _, X₂, fun y hy => ?_, rfl, rfl, rfl, fun c' k' i' fN hfN => ?_, fun target hwalk => st1 _ (fun acts => ?_)⟩
  · simp only [List.mem_cons, List.not_mem_nil, or_false] at hy
    rcases hy with rfl | rfl | rfl | rfl <;> rfl
  · obtain ⟨tyN, dN, hdN, hdnN⟩ := Cond.laysAt hfound hk hfN (a' (.lays wN wN "number" "I") (by simp [wrA]))
    have hnN : fN.name = "number" := (State.fieldFound?_type hfN (show parseFieldDescriptor "I" = some .int by decide +kernel)).1
    have nC := Cond.laysApart hdN hdC hdnN hdnC (by rw [hnN, Y.causeName]; decide)
    have nS := Cond.laysApart hdN hdS hdnN hdnS (by rw [hnN, Y.stackName]; decide)
    have nP := Cond.laysApart hdN hdP hdnN hdnP (by rw [hnN, Y.suppName]; decide)
    simp [preparedCellV, Cell.setSlot, Array.getElem?_setIfInBounds, nC, nS, nP, nC.symm, nS.symm, nP.symm]
  · rw [doInvoke_state]
    exact st2 _ hwalk
end
section
variable {p : Program} {l : Launch} {e : Env} {R : Room} {s : State} {m : MethodId} {args : Array Value} {below : List Frame} {meth : Method} {c : Code} {Q : State → Prop} {w : OM} {nL cu su pc : Nat} {cc : ByteArray} {ls : LVs} {st : List AV} {hs0 h : AH}
set_option maxHeartbeats 2000000 in
theorem k_newWrong (hw : WOK w) (hx : p.tables.exec = Jvm.exec) (hb : c.code = cc) (hl0 : l.stackTraces = false) (hown : s.vm.findClass "EdgeWalk" = some m.cls) (hts : ∀ w ∈ lw_all, w.before args s = true) (hK : KU w s) (hml : c.maxLocals = nL) (hfr : 9 ≤ R.frames) (hlo : 300 ≤ R.locals)
    (d0 : decode cc pc = .ok (.new 39, 3)) (d3 : decode cc (pc + 3) = .ok (.dup, 1)) (d4 : decode cc (pc + 4) = .ok (.invokespecial 41, 3)) (hsw : Nat.ble (stw st) 8 = true) (h1 : cu + 1 ≤ R.cells) (h2 : su + 7 ≤ R.slots)
    (k : WPk p l e R s m args below meth c Q w nL hs0 (cu + 1) (su + 7) (pc + 7) ls (vo (nwA h 20 0) :: st) (nwH h 20 0)) : WPk p l e R s m args below meth c Q w nL hs0 cu su pc ls st h := by
  intro hv H locs la hR hLo hl T hT X
  subst hT
  have hst8 := Nat.le_of_ble_eq_true hsw
  have htr : e.platform.stackTraces = false := (show e.platform.stackTraces = l.stackTraces by rw [X.admits.platform]).trans hl0
  have Y := vx_rebase X (R' := { frames := R.frames, locals := R.locals, cells := 1, slots := 7 }) (Nat.le_refl _) (Nat.le_refl _) h1 h2
  obtain ⟨s', hA'⟩ : ∃ z, z = (T.setVm s.vm).setFrames (.invoking m args :: below) := ⟨_, rfl⟩
  rw [← hA'] at Y
  have hvm : s'.vm = s.vm := by rw [hA']; rfl
  have hhp : s'.heap = T.heap := by rw [hA']; rfl
  have hW0 : s.WarmedH s'.vm := by rw [hvm]; exact State.WarmedH.refl s
  have hK' : KU w s' := KU.warm hW0 hK
  have hts' : ∀ w ∈ lw_all, w.before args s' = true := fun q hq => word_at hW0 (good_of_word (List.mem_filter.mp hq).2) (hts q hq)
  have hat' : ∀ w ∈ wrA.filter vx_no, w.before args s' = true := fun q hq => by
    rcases wrA_in q hq with g1 | ⟨g1, g2⟩
    · exact hts' q g1
    · exact va_Nw.use (isX_on g1) (hK'.1.1 q g2 g1)
  have hk' : (Cond.classLink "EdgeWalk" 39 wN).before args s' = true := hts' _ q282
  have hini' : (Cond.initialized wN).before args s' = true := hts' _ q137
  have hkeep : ∀ a : Nat, a < (oH w).size → ¬ oF w a → s'.heap[a]? = (oH w)[a]? := fun a ha _ => by rw [hhp]; exact hR.2.2.1.1 a ha
  have hU' : vx_Zq Bundle.tN "UNASSIGNED_STACK" Bundle.steD (oF w) s' s'.heap := hK'.2.2.2.2.2.2.2.2.1.kept hkeep
  have hN' : vx_Zq Bundle.tN "SUPPRESSED_SENTINEL" Bundle.listD (oF w) s' s'.heap := hK'.2.2.2.2.2.2.2.2.2.kept hkeep
  have hall : ∀ w ∈ wrA, w.before args s' = true := vx_own hat' (vx_isRefq hU'.1) (vx_isRefq hN'.1) hU'.2.word hN'.2.word
  have hown' : s'.vm.findClass "EdgeWalk" = some m.cls := by rw [hvm]; exact hown
  have hins : (Cond.instantiable wN 7).before args s' = true := hts' _ q283
  have hlk' : (Jvm.Cond.methodLinkNest "EdgeWalk" 41 (Bundle.init0 wN) "EdgeWalk").before args s' = true := va_Nw.use rfl (hK'.1.1 _ q319 rfl)
  obtain ⟨vm₁, cX, kX, hfX, hkX, -, -, X₁, st1⟩ := Y.newCold hx (own := "EdgeWalk") (C := wN) (index := 39) (n := 7) hown' hk' hins hini'
    (g := F0 m pc la (st.map (cv w))) rfl (by rw [hb]; exact d0) (Nat.le_refl _) (Nat.le_refl _)
  generalize hT1 : (T.setVm vm₁).pushCell { cls := cX, slots := kX.instanceTypes.map defaultValue, vm := .none } = T1 at X₁ st1
  have hcat : (Value.ref T.heap.size).category = 1 := rfl
  have hcellA : T1.heap[T.heap.size]? = some (freshCell cX kX) := by rw [← hT1]; exact State.heap_pushCell_size _ _
  have hsz1 : T1.heap.size = T.heap.size + 1 := by rw [← hT1]; simp [State.pushCell]
  have hlow1 : ∀ q : Nat, q < T.heap.size → T1.heap[q]? = T.heap[q]? := fun q hq => by
    rw [← hT1]
    show (T.heap.push _)[q]? = _
    rw [Array.getElem?_push_lt hq, Array.getElem?_eq_getElem hq]
  have d3' : decode c.code (pc + 3) = .ok (.dup, 1) := by rw [hb]; exact d3
  obtain ⟨V, ce, L, Z, hL, hV, hcl9, hvm9, hnum, st⟩ := wr_ctor X₁ hx htr hown' hlk' hall (fun x hx => nomatch hx) hfX hkX hcellA (by rw [hhp]; exact Nat.le_refl _)
    (g := { method := m, pc := pc + 4, locals := la, stack := .ref T.heap.size :: .ref T.heap.size :: st.map (cv w), locked := none }) rfl (by rw [hml]; exact hl.1) (rest := st.map (cv w)) rfl
    (by rw [hb]; exact d4) (show 4 < R.frames by omega) (by
      simp only [List.map_cons, List.sum_cons, hcat, stw_cat hw]
      show 2 * 0 + (1 + stw _) + 67 ≤ R.locals
      omega)
  have Z0 := Stand.forget (locs := []) Z (fun y hy => by rw [hL y hy, hhp]; exact Nat.le_refl _)
  have hlt : T.heap.size < V.heap.size := by rw [hV, hsz1]; exact Nat.lt_succ_self _
  have hh : (V.setCell T.heap.size ce).heap[T.heap.size]? = some ce := heapAt_setCell_self (s := V) ce hlt
  have hsz2 : (V.setCell T.heap.size ce).heap.size = T.heap.size + 1 := by
    rw [← hsz1, ← hV]
    simp [State.setCell]
  have hlow2 : ∀ q : Nat, q < T.heap.size → (V.setCell T.heap.size ce).heap[q]? = T.heap[q]? := fun q hq => by
    rw [← hlow1 q hq, ← hV]
    show (V.heap.setIfInBounds T.heap.size ce)[q]? = _
    rw [Array.getElem?_setIfInBounds_ne (by omega)]
  have hKn := hK'.1.2.2.2.2.1 4 _ rfl
  have hcid : ce.cls = (oD w).1 4 := by
    rw [hcl9]
    exact Option.some.inj (hfX.symm.trans hKn.2.1)
  have hborn : t_OB T.heap.size cX 1 ((oD w).2 4) T1.heap (fun _ => defaultValue .int) := by
    have e1 : cX = (oD w).1 4 := Option.some.inj (hfX.symm.trans hKn.2.1)
    subst e1
    exact u_born (fun _ => .int) hts' in_W3 hKn hkX hcellA (by decide +kernel)
  have hnum0 : ce.slots[(oD w).2 4 0]? = some (.int 0) := by
    obtain ⟨cell, g1, -, -, g4⟩ := hborn
    cases Option.some.inj (hcellA.symm.trans g1)
    obtain ⟨cf, kf, fi, fd, hi, he⟩ := hKn.1 0 (Nat.one_pos)
    rw [← he, hnum cf kf fi fd hi, he]
    exact g4 0 Nat.one_pos
  subst hA'
  have X5 := vx_back9 X Y Z0
  have X6 : Stand p l e R s m args below meth c (V.setCell T.heap.size ce) locs (cu + 1) (su + 7) := { X5 with same := X5.same.mono (by omega) (by omega) }
  have hm := mk_facts (i := h.1.1) (show 20 < 64 by decide) (show 0 < 4096 by decide)
  have htg : tg (nwA h 20 0) = 20 := hm.2.1
  have hix : ix (nwA h 20 0) = hN h := hm.1
  have h64 : 64 ≤ hN h := hR.1
  have hcr : cr w (some (nwA h 20 0)) = .ref T.heap.size := by rw [cr_own (by omega), hix, hR.2.1]
  have hatO : atO w (nwH h 20 0) (nwA h 20 0) (V.setCell T.heap.size ce).heap := by
    unfold atO
    rw [if_neg (by omega), if_neg (by omega)]
    refine ⟨T.heap.size, ce, hcr, hh, (by rw [htg]; exact hcid), (by rw [hvm9]; exact fun z => by cases z), (by rw [hvm9]; rfl), fun _ => hvm9, fun k0 hk0 => ?_⟩
    rw [htg] at hk0 ⊢
    have hk1 : k0 = 0 := by
      have : NF 4 = 1 := rfl
      rw [show 20 - 16 = 4 from rfl, this] at hk0
      omega
    subst hk1
    rw [show 20 - 16 = 4 from rfl, hnum0]
    show some (Value.int 0) = some (Value.int (Int32.ofInt (hI (nwH h 20 0) (nwA h 20 0) ((0 : Nat) : Int))))
    have hz1 : hI (nwH h 20 0) (nwA h 20 0) ((0 : Nat) : Int) = 0 := by unfold hI nwH nwA; simp
    rw [hz1]
    rfl
  obtain ⟨hR', hvn, -⟩ := Rel.new hw hR (show 20 < 64 by decide) (show 0 < 4096 by decide) (Or.inr ⟨by omega, by omega⟩) hsz2 hlow2 hatO
  have k2 := k (vs_cons (v := vo (nwA h 20 0)) hvn (vs_new (by omega) (by decide) hv)) (V.setCell T.heap.size ce).heap locs la hR' hLo hl
  simp only [List.map_cons] at k2
  rw [show cv w (vo (nwA h 20 0)) = .ref T.heap.size from hcr] at k2
  obtain ⟨t, a1, b1⟩ := k2 _ rfl X6
  refine ⟨t, st1 _ ?_, b1⟩
  show Steps p.tables e below (T1.setTop { method := m, pc := pc + 3, locals := la, stack := .ref T.heap.size :: List.map (cv w) _, locked := none }) _
  jvm_step X₁.here [X₁.here.top, hx, d3', Value.category]
  exact st _ a1
end
