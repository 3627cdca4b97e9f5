/-! behind a call; returns and throws -/
/-- a thrown object at pc: 0: no row of the method's table covers it; n + 2: the handler at n takes it -/
def HdOK (own : String) (tab : List ExceptionTableEntry) (pc hd : Nat) : Prop := match hd with
  | 0 => ∀ x ∈ tab, covers x pc = false
  | 1 => True
  | n + 2 => ∃ (pre : List ExceptionTableEntry) (x : ExceptionTableEntry) (suf : List ExceptionTableEntry), tab = pre ++ x :: suf ∧ (∀ z ∈ pre, covers z pc = false) ∧ covers x pc = true ∧ x.catchType ≠ 0 ∧ x.handlerPc = n ∧ Jvm.Cond.classLink own x.catchType "EdgeWalk$Wrong" ∈ lw_all
/-- the method may be left by a throw -/
def THR (p : Program) (l : Launch) (e : Env) (R : Room) (s : State) (m : MethodId) (args : Array Value) (below : List Frame) (meth : Method) (c : Code) (Q : State → Prop) (w : OM) (hs0 : AH) (Φ : OUT → AH → Prop) (tab : List ExceptionTableEntry) : Prop :=
  ∀ (cu su pc : Nat) (la : Array Slot) (h : AH) (H : Heap) (locs : List Loc) (rest : List Value) (a q : Nat), cu ≤ R.cells → su ≤ R.slots → Rel w h H → (∀ x ∈ locs, (oH w).size ≤ x.base) → val h a → tg a = 20 → Ext hs0 h → cr w (some a) = .ref q → (∀ x ∈ tab, covers x pc = false) → Φ (.inr a) h → vx_W p l e R s m args below meth c H locs cu su Q (F0 m pc la rest) q
section
variable {p : Program} {l : Launch} {e : Env} {R : Room} {s : State} {m : MethodId} {args : Array Value} {below : List Frame} {meth : Method} {c : Code} {Q : State → Prop} {w : OM} {nL cu su pc : Nat} {cc : ByteArray} {ls : LVs} {st r : List AV} {hs0 h : AH}
variable {T : State} {locs : List Loc} {mc ms hd : Nat} {own : String} {Φ : OUT → AH → Prop} {la : Array Slot} {H : Heap} {stk : List Value} {av : Array Value} {tab : List ExceptionTableEntry}
theorem k_after (hw : WOK w) (hx : p.tables.exec = Jvm.exec) (hb : c.code = cc) (hown : s.vm.findClass own = some m.cls) (hts : ∀ w ∈ lw_all, w.before args s = true) (hK : KU w s) (htab : tab = [] ∨ c.exceptionTable.toList = tab) (hthr : THR p l e R s m args below meth c Q w hs0 Φ tab) (hH : HdOK own tab pc hd) (hc : cu + mc ≤ R.cells) (hs : su + ms ≤ R.slots) (hE : Ext hs0 h) (hv : VALs hs0 h ls r) (hL : ∀ q ∈ locs, (oH w).size ≤ q.base) (hl : lv_has la nL (lmp w ls))
    (hcall : ∀ T : State, T.heap = H → Stand p l e R s m args below meth c T locs cu su → CR p l e R s m args below meth c T locs cu su mc ms (F0 m pc la stk) (r.map (cv w)) av (kQc w h (aft Φ hd (fun ls' st' h' pc' => WPk p l e R s m args below meth c Q w nL hs0 (cu + mc) (su + ms) pc' ls' st' h') (pc + 3) ls r)) (kXc w h (aft Φ hd (fun ls' st' h' pc' => WPk p l e R s m args below meth c Q w nL hs0 (cu + mc) (su + ms) pc' ls' st' h') (pc + 3) ls r)) (oF w)) : W p l e R s m args below meth c H locs cu su Q (F0 m pc la stk) := by
  intro T hT X
  have lapp : ∀ L : List Loc, (∀ q ∈ L, oF w q.base) → ∀ q ∈ locs ++ L, (oH w).size ≤ q.base := fun L hL2 q hq => (List.mem_append.mp hq).elim (hL q) (hL2 q)
  have vnew : ∀ h' : AH, Ext h h' → VALs hs0 h' ls r := fun h' he => by
    have e : ∀ v, vok h v → vok h' v := fun v => by
      unfold vok
      split
      · exact he _
      · exact fun _ => trivial
    exact ⟨fun q hq => e _ (hv.1 q hq), fun v hq => e _ (hv.2.1 v hq), fun a ha => he a (hv.2.2 a ha)⟩
  rcases hcall T hT X with ⟨v, vm₁, ⟨U', l2, c2, s2⟩, hW₁, X', ⟨g', mk, t, L, e1, e2, ⟨ro, h', hro, hΦ, hR', hE', hvo⟩, g1, hL2, g2, g3⟩, stp⟩ | ⟨q, vm₁, ⟨U', l2, c2, s2⟩, hW₁, X', ⟨g', mk, t, L, ce, e1, e2, ⟨a, h', hcr, hΦ, hR', hE', hva, hta⟩, hce, hcv, hcl, g1, hL2, g2, g3⟩, stp⟩
  · dsimp only [Pt.U, Pt.locs, Pt.cells, Pt.slots] at X' e1 e2 g1 g2 g3 stp
    subst g1; subst g2; subst g3
    cases hro
    have hRU : Rel w h' U'.heap := by rw [e1]; exact hR'
    cases ro with
    | none =>
      obtain ⟨t2, a1, b1⟩ := hΦ (vnew h' hE') U'.heap (locs ++ L) la hRU (lapp L hL2) hl U' rfl X'
      exact ⟨t2, stp t2 a1, b1⟩
    | some v =>
      obtain ⟨t2, a1, b1⟩ := hΦ (vs_cons (hvo v rfl) (vnew h' hE')) U'.heap (locs ++ L) la hRU (lapp L hL2) hl U' rfl X'
      exact ⟨t2, stp t2 a1, b1⟩
  · dsimp only [Pt.U, Pt.locs, Pt.cells, Pt.slots] at X' e1 e2 g1 g2 g3 stp hcl
    subst g1; subst g2; subst g3
    have hRU : Rel w h' U'.heap := by rw [e1]; exact hR'
    have hcl' : s.vm.findClass "EdgeWalk$Wrong" = some ce.cls := vx_cls hW₁ hcl
    have hceU : U'.heap[q]? = some ce := by rw [e1]; exact hce
    unfold aft at hΦ
    match hd, hH, hΦ with
    | 0, hH, hΦ =>
      obtain ⟨t2, a1, b1⟩ := hthr _ _ pc la h' U'.heap (locs ++ L) (r.map (cv w)) a q hc hs hRU (lapp L hL2) hva hta (vnew h' hE').2.2 hcr hH hΦ U' rfl X'
      exact ⟨t2, stp.trans a1, b1⟩
    | 1, hH, hΦ => exact hΦ.elim
    | n + 2, hH, hΦ =>
      obtain ⟨pre, x, suf, hsp, hpre, hcov, h0, hpc, hlink⟩ := hH
      have htab : c.exceptionTable.toList = tab := by
        rcases htab with z | z
        · rw [z] at hsp; cases pre <;> cases hsp
        · exact z
      have k2 := hΦ (vs_cons (v := vo a) hva ⟨(vnew h' hE').1, (fun z hz => absurd hz List.not_mem_nil), (vnew h' hE').2.2⟩) U'.heap (locs ++ L) la hRU (lapp L hL2) hl
      simp only [List.map_cons, List.map_nil] at k2
      rw [show cv w (vo a) = .ref q from hcr] at k2
      have hcat := vx_catch (p := p) (l := l) (e := e) (R := R) (s := s) (m := m) (args := args) (below := below) (meth := meth) (c := c) (Q := Q) (ls := la) (rest := r.map (cv w)) (pc := pc) (E := "EdgeWalk$Wrong") (name := "EdgeWalk$Wrong") (ce := ce) (q := q) (H := U'.heap) (locs := locs ++ L) (cells := cu + mc) (slots := su + ms) hown pre x suf (by rw [htab]; exact hsp) (fun z hz => Or.inl (hpre z hz)) hcov h0 (hts _ hlink) (va_Nw.use rfl (hK.1.1 _ q284 rfl)) hceU hcv hcl' (by rw [hpc]; exact k2)
      obtain ⟨t2, a1, b1⟩ := hcat U' rfl X'
      exact ⟨t2, stp.trans a1, b1⟩
theorem spop_spec {n : Nat} {st acc as r : List AV} (hp : spop n st acc = some (as, r)) : ∃ xs, st = xs ++ r ∧ as = xs.reverse ++ acc ∧ xs.length = n := by
  induction n generalizing st acc with
  | zero =>
    unfold spop at hp
    cases hp
    exact ⟨[], rfl, rfl, rfl⟩
  | succ n ih =>
    unfold spop at hp
    cases st with
    | nil => cases hp
    | cons v q =>
      obtain ⟨xs, e1, e2, e3⟩ := ih hp
      exact ⟨v :: xs, by rw [e1]; rfl, by rw [e2]; simp, by simp [e3]⟩
theorem spop0 {n : Nat} {st as r : List AV} (hp : spop n st [] = some (as, r)) : st = as.reverse ++ r ∧ as.length = n := by
  obtain ⟨xs, e1, e2, e3⟩ := spop_spec hp
  rw [List.append_nil] at e2
  exact ⟨by rw [e2, List.reverse_reverse]; exact e1, by rw [e2, List.length_reverse]; exact e3⟩
/-- what the method owes at its end -/
def kMQ (below : List Frame) (w : OM) (hs0 : AH) (Φ : OUT → AH → Prop) (args : Array Value) (s : State) (mc ms : Nat) : State → Prop := fun t => ∃ o, t.status = .running ∧ Ended t below o ∧ kQ (kQc w hs0 Φ) (kXc w hs0 Φ) mc ms (oF w) args s o t
theorem thr_of (hloc : meth.locks = false) (hcls : s.vm.findClass "EdgeWalk$Wrong" = some ((oD w).1 4)) (htab : c.exceptionTable.toList = tab) : THR p l e R s m args below meth c (kMQ below w hs0 Φ args s R.cells R.slots) w hs0 Φ tab := by
  intro cu su pc la h H locs rest a q hc hs hR hL hva hta hE hcr hout hΦ T hT X
  obtain ⟨q', cell, e1, e2, e3, e4, e5, e6, e7⟩ := atB_of (ci := 4) hR hva hta
  cases hcr.symm.trans e1
  obtain ⟨st1, hrun, hend, hW, hsm⟩ := X.leaveThrown q (g := F0 m pc la rest) rfl rfl rfl (by rw [htab]; exact hout) hloc
  have hcell9 : (T.setFrames (.throwing q :: below)).heap[q]? = some cell := by
    show T.heap[q]? = some cell
    rw [hT]; exact e2
  exact ⟨_, st1, .threw q, hrun, hend, Or.inr ⟨q, rfl, cell, locs, ⟨a, h, hcr, hΦ, by show Rel w h T.heap; rw [hT]; exact hR, hE, hva, hta⟩, hcell9, e6 (own_of hR hva (by omega)), by rw [e3]; exact hcls, hW, hsm.mono hc hs, hL⟩⟩
theorem ret_up {g : JFrame} (hc : cu ≤ R.cells) (hs : su ≤ R.slots) (k : W p l e R s m args below meth c H locs R.cells R.slots (MQ below (kQc w hs0 Φ) args s R.cells R.slots (oF w)) g) : W p l e R s m args below meth c H locs cu su (kMQ below w hs0 Φ args s R.cells R.slots) g := by
  refine W.widen hc hs ?_
  intro T hT X
  obtain ⟨t, a1, o, b1, b2, b3, b4⟩ := k T hT X
  exact ⟨t, a1, o, b1, b2, Or.inl ⟨b3, b4⟩⟩
abbrev KM (p : Program) (l : Launch) (e : Env) (R : Room) (s : State) (m : MethodId) (args : Array Value) (below : List Frame) (meth : Method) (c : Code) (w : OM) (nL : Nat) (hs0 : AH) (Φ : OUT → AH → Prop) : KT := WPk p l e R s m args below meth c (kMQ below w hs0 Φ args s R.cells R.slots) w nL hs0
def RetI (ret : Option FieldType) (ax : Nat) : Prop := match ax with
  | 0 => ret = some .int
  | 1 => ret = some .boolean ∨ ret = some .byte
  | _ => ret = some .char
theorem narC {i : Int} (h1 : 0 ≤ i) (h2 : i ≤ 65535) : narrow .char (.int (Int32.ofInt i)) = .int (Int32.ofInt i) := by
  have e : Int32.ofInt i = nI i.toNat := by
    show Int32.ofInt i = Int32.ofNat i.toNat
    rw [← Int32.ofInt_eq_ofNat, show ((i.toNat : Nat) : Int) = i by omega]
  rw [e]
  exact (pk_charN (by omega)).1
theorem k_ireturn (hx : p.tables.exec = Jvm.exec) (hb : c.code = cc) {i : Int} {ax : Nat} (hloc : meth.locks = false) (hr : RetI meth.sig.returnType ax) (hc : cu ≤ R.cells) (hs : su ≤ R.slots) (hd : decode cc pc = .ok (.ireturn, 1)) (hcond : match ax with
      | 0 => True
      | 1 => 0 ≤ i ∧ i ≤ 1
      | _ => 0 ≤ i ∧ i ≤ 65535) (hΦ : Φ (.inl (some (vi i))) h) : KM p l e R s m args below meth c w nL hs0 Φ cu su pc ls [vi i] h := by
  intro hv H locs la hR hL hl
  refine ret_up hc hs ?_
  have hq : ∀ t : State, t.heap = H → s.WarmedH t.vm → kQc w hs0 Φ args s (.returned (some (.int (Int32.ofInt i)))) t := fun t ht hW => ⟨some (vi i), h, rfl, hΦ, by rw [ht]; exact hR, hv.2.2, fun v hv2 => by cases hv2; trivial⟩
  match ax, hr, hcond with
  | 0, hr, _ => exact W.iret hx hb hr hq hL hd hloc
  | 1, hr, hcond =>
    rcases hr with hr | hr
    · exact W.zret (ty := .boolean) hx hb hr (narZ hcond.1 hcond.2) hq hL hd hloc
    · exact W.zret (ty := .byte) hx hb hr (narB (by have := hcond.1; omega) (by have := hcond.2; omega)) hq hL hd hloc
  | n + 2, hr, hcond => exact W.zret (ty := .char) hx hb hr (narC hcond.1 hcond.2) hq hL hd hloc
theorem k_lreturn (hx : p.tables.exec = Jvm.exec) (hb : c.code = cc) {x : Int64} (hloc : meth.locks = false) (hr : meth.sig.returnType = some .long) (hc : cu ≤ R.cells) (hs : su ≤ R.slots) (hd : decode cc pc = .ok (.lreturn, 1)) (hΦ : Φ (.inl (some (vl x))) h) : KM p l e R s m args below meth c w nL hs0 Φ cu su pc ls [vl x] h := by
  intro hv H locs la hR hL hl
  exact ret_up hc hs (W.lret hx hb hr (fun t ht hW => ⟨some (vl x), h, rfl, hΦ, by rw [ht]; exact hR, hv.2.2, fun v hv2 => by cases hv2; trivial⟩) hL hd hloc)
theorem k_areturn (hw : WOK w) (hx : p.tables.exec = Jvm.exec) (hb : c.code = cc) {x : Option Nat} {rt : FieldType} (hloc : meth.locks = false) (hr : meth.sig.returnType = some rt) (hrt : (∃ n, rt = .object n) ∨ ∃ t, rt = .array t) (hc : cu ≤ R.cells) (hs : su ≤ R.slots) (hd : decode cc pc = .ok (.areturn, 1)) (hΦ : Φ (.inl (some (vr x))) h) : KM p l e R s m args below meth c w nL hs0 Φ cu su pc ls [vr x] h := by
  intro hv H locs la hR hL hl
  exact ret_up hc hs (W.aret hx hb hr hrt (cr_cat w hw x) (fun t ht hW => ⟨some (vr x), h, rfl, hΦ, by rw [ht]; exact hR, hv.2.2, fun v hv2 => by cases hv2; exact vs_head hv⟩) hL hd hloc)
theorem k_return (hx : p.tables.exec = Jvm.exec) (hb : c.code = cc) (hloc : meth.locks = false) (hr : meth.sig.returnType = none) (hc : cu ≤ R.cells) (hs : su ≤ R.slots) (hd : decode cc pc = .ok (.return_, 1)) (hΦ : Φ (.inl none) h) : KM p l e R s m args below meth c w nL hs0 Φ cu su pc ls [] h := by
  intro hv H locs la hR hL hl
  exact ret_up hc hs (W.vret hx hb hr (fun t ht hW => ⟨none, h, rfl, hΦ, by rw [ht]; exact hR, hv.2.2, fun v hv2 => by cases hv2⟩) hL hd hloc)
theorem k_athrow (hx : p.tables.exec = Jvm.exec) (hb : c.code = cc) {a : Nat} (hthr : THR p l e R s m args below meth c Q w hs0 Φ tab) (hout : ∀ x ∈ tab, covers x pc = false) (ht : tg a = 20) (hc : cu ≤ R.cells) (hs : su ≤ R.slots) (hd : decode cc pc = .ok (.athrow, 1)) (hΦ : Φ (.inr a) h) : WPk p l e R s m args below meth c Q w nL hs0 cu su pc ls (vo a :: r) h := by
  intro hv H locs la hR hL hl
  have hva : val h a := vs_head hv
  obtain ⟨q, e1⟩ := ref_of hR hva (by omega)
  simp only [List.map_cons]
  rw [show cv w (vo a) = .ref q from e1]
  exact vx_athrow hx hb hd (hthr cu su pc la h H locs (r.map (cv w)) a q hc hs hR hL hva ht hv.2.2 e1 hout hΦ)
end
