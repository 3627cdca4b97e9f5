/-! CONTRACTS OF THE MACHINE: a callee that returns or throws the one exception of this program; calls, returns, throws. (kx_back follows the kit's vx_backW.) -/
abbrev MD : Type := MethodName × ByteArray × Nat × Option FieldType × Bool × List (Nat × Nat × Nat × Nat)
abbrev mY (M : MD) : MethodName := M.1
abbrev mB (M : MD) : ByteArray := M.2.1
abbrev mL (M : MD) : Nat := M.2.2.1
abbrev mR (M : MD) : Option FieldType := M.2.2.2.1
abbrev mH (M : MD) : Bool := M.2.2.2.2.1
abbrev mT (M : MD) : List (Nat × Nat × Nat × Nat) := M.2.2.2.2.2
def mW (M : MD) : Jvm.Cond := match mH M with
  | true => .codeWith (mY M) (mB M) (mL M) (mR M) (mT M)
  | false => .code (mY M) (mB M) (mL M) (mR M)
abbrev mWs (M : MD) : List Jvm.Cond := mW M :: lw_all
def mTab (M : MD) : List ExceptionTableEntry := match mH M with
  | true => tableOf (mT M)
  | false => []
abbrev rmD (d mc ms : Nat) : Room := { frames := d + 8, cells := mc, slots := ms, locals := 96 * (d + 8) }
def kPc (w : OM) (as : List AV) (h : AH) : Array Value → State → Prop := fun v U => v = (as.map (cv w)).toArray ∧ KU w U ∧ Rel w h U.heap ∧ ∀ x ∈ as, vok h x
def kQc (w : OM) (h : AH) (Φ : OUT → AH → Prop) : Array Value → State → Outcome → State → Prop := fun _ _ o t => ∃ (ro : Option AV) (h' : AH), o = .returned (ro.map (cv w)) ∧ Φ (.inl ro) h' ∧ Rel w h' t.heap ∧ Ext h h' ∧ ∀ v, ro = some v → vok h' v
def kXc (w : OM) (h : AH) (Φ : OUT → AH → Prop) : Addr → State → State → Prop := fun q _ t => ∃ (a : Nat) (h' : AH), cr w (some a) = .ref q ∧ Φ (.inr a) h' ∧ Rel w h' t.heap ∧ Ext h h' ∧ val h' a ∧ tg a = 20
def kQ (Qc : Array Value → State → Outcome → State → Prop) (XC : Addr → State → State → Prop) (mc ms : Nat) (free : Addr → Prop) : Array Value → State → Outcome → State → Prop := fun a st o t =>
  (Qc a st o t ∧ ∃ L, FrameEnd st o t L mc ms ∧ ∀ q ∈ L, free q.base) ∨ ∃ q, o = .threw q ∧ ∃ (ce : Cell) (L : List Loc), XC q st t ∧ t.heap[q]? = some ce ∧ ce.vm = .none ∧ st.vm.findClass "EdgeWalk$Wrong" = some ce.cls ∧ st.WarmedH t.vm ∧ st.sameButNew ({ t with vm := st.vm } : State) L mc ms ∧ ∀ z ∈ L, free z.base
def kPost (XC : Addr → State → State → Prop) (mc ms : Nat) (free : Addr → Prop) : Pt → Array Value → Addr → Pt → Prop := fun A a q B =>
  ∃ (g : JFrame) (mk : MethodId) (t : State) (L : List Loc) (ce : Cell), B.U.heap = t.heap ∧ B.U.vm = t.vm ∧ XC q (A.U.calling g mk a) t ∧ t.heap[q]? = some ce ∧ ce.vm = .none ∧ A.U.vm.findClass "EdgeWalk$Wrong" = some ce.cls ∧ B.locs = A.locs ++ L ∧ (∀ z ∈ L, free z.base) ∧ B.cells = A.cells + mc ∧ B.slots = A.slots + ms
/-- the contract of a method at depth d -/
def SC (l : Launch) (w : OM) (M : MD) (d mc ms : Nat) (as : List AV) (h : AH) (Φ : OUT → AH → Prop) : Prop := MetFree l (mY M) (headSpec (mWs M) (rmD d mc ms)) (kPc w as h) (fun _ _ _ _ _ => True) (kQ (kQc w h Φ) (kXc w h Φ) mc ms (oF w))
section
variable {l : Launch} {R : Room} {p : Program} {e : Env} {below : List Frame} {s : State} {sargs : Array Value} {y : MethodName} {len W9 : Nat}
theorem kx_back {ws : List Jvm.Cond} {rm : Room} {Pc : Array Value → State → Prop} {Qc : Array Value → State → Outcome → State → Prop} {XC : Addr → State → State → Prop} {mc ms : Nat} {free : Addr → Prop} {maxL : Nat}
    (hM : MetFree l y (headSpec ws rm) Pc (fun _ _ _ _ _ => True) (kQ Qc XC mc ms free)) (hblind : FrameBlind Pc) (hrc : rm.cells = mc) (hrs : rm.slots = ms)
    (hframes : rm.frames + 1 ≤ R.frames) (hlocals : W9 + (maxL + 11) + rm.locals ≤ R.locals)
    (hws : ∀ w ∈ ws, ∀ a' U, s.WarmedH U.vm → w.before a' U = true) (hcode : ∀ (U : State) (mk : MethodId), s.WarmedH U.vm → U.methodNamed? y = some mk → ∃ (methY : Method) (cY : Code), U.vm.method? mk = some methY ∧ methY.code = some cY ∧ cY.maxLocals = maxL) (hinit : ∀ a' U, s.WarmedH U.vm → (Cond.initialized y.cls).before a' U = true) :
    vx_Back l R p e below s sargs y len W9 (PreOf R mc ms Pc) (PostOf Qc mc ms free) (kPost XC mc ms free) := by
  intro m meth c A g ig mk a X hg hsize hdg hW hn hp
  have h1 : (headSpec ws rm).pre.before a A.U = true := atoms_intro fun w hw => hws w hw _ _ X.warmed
  have h3 : (Cond.initialized y.cls).before a A.U = true := hinit _ _ X.warmed
  have h4 : A.cells + (headSpec ws rm).room.cells ≤ R.cells := by rw [show (headSpec ws rm).room.cells = mc from hrc]; exact hp.1
  have h5 : A.slots + (headSpec ws rm).room.slots ≤ R.slots := by rw [show (headSpec ws rm).room.slots = ms from hrs]; exact hp.2.1
  have hPc : Pc a (A.U.calling g mk a) := hblind _ _ _ _ hp.2.2
  obtain ⟨U, Ls, c0, s0⟩ := A
  dsimp only [Pt.U, Pt.locs, Pt.cells, Pt.slots] at h1 h3 h4 h5 X hn hPc ⊢
  obtain ⟨methY, cY, hmY, hcY, hlY⟩ := hcode U mk X.warmed hn
  obtain ⟨kY, hkY, -⟩ := className_of_methodNamed hn
  have hinitY : kY.init = .initialized := Cond.initialized_spec (findClass_of_methodNamed hn) hkY h3
  have h : At U g.method c below := by rw [hg]; exact X.here
  have hlocals9 : W9 + (maxL + 11) + (headSpec ws rm).room.locals ≤ R.locals := hlocals
  have happ : (headSpec ws rm).appliesLoose y e.platform (U.calling g mk a) = true :=
    Spec.appliesLoose_calling (g := g) h hdg hn hkY hinitY
      (X.room_calling (g := g) (R' := (headSpec ws rm).room) hsize hmY hcY hframes (by rw [hlY]; omega) h4 h5) h1
  obtain ⟨mid, hmid⟩ := h.above
  have hfr : (U.setTop g).frames = (.java g :: mid) ++ below := by rw [State.frames_setTop' g h.top, hmid]; rfl
  obtain ⟨o, s₂, hsteps, -, hend, hq⟩ := Steps.callFree hM p X.admits X.cas X.clock (acts := []) hfr happ hPc trivial
  have hq' : kQ Qc XC mc ms free a (U.calling g mk a) o s₂ := hq
  rw [State.frames_setTop' g h.top] at hend
  obtain ⟨g₀, hg0⟩ := Option.isSome_iff_exists.mp h.top
  obtain ⟨r, hr⟩ := State.topJava?_eq_some.mp hg0
  have hr' : (({ U with heap := s₂.heap, slotsUsed := s₂.slotsUsed } : State).setVm s₂.vm).frames = .java g₀ :: r := hr
  rcases hq' with ⟨hqc, L, hfe, hL⟩ | ⟨q, rfl, ce, L, hx, hce, hcv, hcl, hW₂, hsm, hL⟩
  · obtain ⟨⟨v, rfl⟩, hW₂, e2, q2, q3, q4, q5, q6⟩ := id hfe
    have e3 : s₂ = ({ (U.calling g mk a).setFrames s₂.frames with heap := s₂.heap, slotsUsed := s₂.slotsUsed } : State).setVm s₂.vm := by
      have : s₂ = ({ s₂ with vm := (U.calling g mk a).vm } : State).setVm s₂.vm := rfl
      rw [e2] at this
      exact this
    obtain ⟨c₂, i₂, len₂, hc₂, hd₂, hf₂⟩ := hend
    have hW' : U.WarmedH s₂.vm := hW₂
    have hcc : c₂ = c := by
      have h1 : s₂.code? g.method = U.code? g.method := by
        rw [State.code?_eq, State.code?_eq, hW'.alike.method?]
      exact Option.some.inj (hc₂.symm.trans (h1.trans h.code))
    subst hcc
    have hlen : len₂ = len := by rw [hdg] at hd₂; cases hd₂; rfl
    subst hlen
    have hs₂ : s₂ = (({ U with heap := s₂.heap, slotsUsed := s₂.slotsUsed } : State).setVm s₂.vm).setTop { g with pc := g.pc + len₂, stack := v.toList ++ g.stack } := by
      refine e3.trans ?_
      rw [hf₂, State.calling_eq h.top, State.setFrames_setFrames, State.setTop_of_frames _ hr', hr]
      rfl
    have hsame : U.sameButNew ({ U with heap := s₂.heap, slotsUsed := s₂.slotsUsed } : State) L mc ms := by
      refine ⟨?_, q2, q3, q4, q5, q6⟩
      obtain ⟨t, ht, -⟩ := State.frames_cons hr
      show ({ U with heap := s₂.heap, slotsUsed := s₂.slotsUsed } : State) = { U.setFrames U.frames with heap := s₂.heap, slotsUsed := s₂.slotsUsed }
      rw [State.setFrames_self ht]
    subst hg
    refine Or.inl ⟨v, ⟨(({ U with heap := s₂.heap, slotsUsed := s₂.slotsUsed } : State).setVm s₂.vm), Ls ++ L, c0 + mc, s0 + ms⟩,
      ⟨X.admits, X.cas, X.clock, X.frames, X.room, X.hears, X.method, X.code, (X.here.setHeapUsed s₂.heap s₂.slotsUsed).setVm hW'.alike, X.tail, State.WarmedH.trans X.warmed hW', X.limits, X.bytes, X.same.trans (hsame.setVm s.vm)⟩,
      ⟨g, mk, s₂, L, rfl, rfl, hqc, rfl, hL, rfl, rfl⟩, ?_⟩
    show Steps p.tables e below _ ((({ U with heap := s₂.heap, slotsUsed := s₂.slotsUsed } : State).setVm s₂.vm).setTop { g with pc := g.pc + len₂, stack := v.toList ++ g.stack })
    rw [← hs₂]
    exact hsteps
  · obtain ⟨e2, q2, q3, q4, q5, q6⟩ := id hsm
    have e3 : s₂ = ({ (U.calling g mk a).setFrames s₂.frames with heap := s₂.heap, slotsUsed := s₂.slotsUsed } : State).setVm s₂.vm := by
      have : s₂ = ({ s₂ with vm := (U.calling g mk a).vm } : State).setVm s₂.vm := rfl
      rw [e2] at this
      exact this
    have hf₂ : s₂.frames = .throwing q :: .java g :: U.frames.tail := hend
    have hW' : U.WarmedH s₂.vm := hW₂
    have hs₂ : s₂ = ((({ U with heap := s₂.heap, slotsUsed := s₂.slotsUsed } : State).setVm s₂.vm).setTop g).pushFrame (.throwing q) := by
      refine e3.trans ?_
      rw [hf₂, State.calling_eq h.top, State.setFrames_setFrames, State.pushFrame, State.frames_setTop _ hr', State.setTop_of_frames _ hr', State.setFrames_setFrames, hr]
      rfl
    have hsame : U.sameButNew ({ U with heap := s₂.heap, slotsUsed := s₂.slotsUsed } : State) L mc ms := by
      refine ⟨?_, q2, q3, q4, q5, q6⟩
      obtain ⟨t, ht, -⟩ := State.frames_cons hr
      show ({ U with heap := s₂.heap, slotsUsed := s₂.slotsUsed } : State) = { U.setFrames U.frames with heap := s₂.heap, slotsUsed := s₂.slotsUsed }
      rw [State.setFrames_self ht]
    subst hg
    refine Or.inr ⟨q, ⟨(({ U with heap := s₂.heap, slotsUsed := s₂.slotsUsed } : State).setVm s₂.vm), Ls ++ L, c0 + mc, s0 + ms⟩,
      ⟨X.admits, X.cas, X.clock, X.frames, X.room, X.hears, X.method, X.code, (X.here.setHeapUsed s₂.heap s₂.slotsUsed).setVm hW'.alike, X.tail, State.WarmedH.trans X.warmed hW', X.limits, X.bytes, X.same.trans (hsame.setVm s.vm)⟩,
      ⟨g, mk, s₂, L, ce, rfl, rfl, hx, hce, hcv, hcl, rfl, hL, rfl, rfl⟩, ?_⟩
    show Steps p.tables e below _ (((({ U with heap := s₂.heap, slotsUsed := s₂.slotsUsed } : State).setVm s₂.vm).setTop g).pushFrame (.throwing q))
    rw [← hs₂]
    exact hsteps
end
theorem kPc_blind (w : OM) (as : List AV) (h : AH) : FrameBlind (kPc w as h) := by
  intro a U g mk hp
  obtain ⟨h1, h2, h3, h4⟩ := hp
  exact ⟨h1, KU.warm (show U.WarmedH (U.calling g mk a).vm from State.WarmedH.refl U) h2, h3, h4⟩
theorem mW_good {M : MD} (hm : mW M ∈ lw_all) : ∀ w ∈ mWs M, w ∈ lw_all := fun w hw => (List.mem_cons.mp hw).elim (fun z => z ▸ hm) id
theorem mW_code {M : MD} {s U : State} {args : Array Value} (hm : (mW M).before args U = true) {mk : MethodId} (hn : U.methodNamed? (mY M) = some mk) : ∃ (methY : Method) (cY : Code), U.vm.method? mk = some methY ∧ methY.code = some cY ∧ cY.maxLocals = mL M := by
  unfold mW at hm
  split at hm
  · obtain ⟨m9, methY, cY, hn9, hmY, hcY, -, hlY, -⟩ := Cond.codeWith_spec hm
    cases Option.some.inj (hn9.symm.trans hn)
    exact ⟨methY, cY, hmY, hcY, hlY⟩
  · obtain ⟨methY, cY, hmY, hcY, -, hlY, -⟩ := Cond.code_spec hn hm
    exact ⟨methY, cY, hmY, hcY, hlY⟩
/-- a callee's contract as the call's premise -/
theorem sc_back {l : Launch} {R : Room} {p : Program} {e : Env} {below : List Frame} {s : State} {sargs : Array Value} {w : OM} {M : MD} {d mc ms : Nat} {as : List AV} {h : AH} {Φ : OUT → AH → Prop} (hts : ∀ w ∈ lw_all, w.before sargs s = true) (hm : mW M ∈ lw_all) (hini : Jvm.Cond.initialized (mY M).cls ∈ lw_all) (hM : SC l w M d mc ms as h Φ) (hfr : d + 9 ≤ R.frames) (hlo : 8 + (mL M + 11) + 96 * (d + 8) ≤ R.locals) :
    vx_Back l R p e below s sargs (mY M) 3 8 (PreOf R mc ms (kPc w as h)) (PostOf (kQc w h Φ) mc ms (oF w)) (kPost (kXc w h Φ) mc ms (oF w)) :=
  kx_back (maxL := mL M) hM (kPc_blind w as h) rfl rfl hfr hlo (fun x hx a' U hW => word_at hW (lw_self x (mW_good hm x hx)).2 (hts x (mW_good hm x hx))) (fun U mk hW hn => mW_code (s := s) (args := sargs) (word_at hW (lw_self _ hm).2 (hts _ hm)) hn) (fun a' U hW => word_at hW (lw_self _ hini).2 (hts _ hini))
def CR (p : Program) (l : Launch) (e : Env) (R : Room) (s : State) (m : MethodId) (args : Array Value) (below : List Frame) (meth : Method) (c : Code) (T : State) (locs : List Loc) (cells slots mc ms : Nat) (g : JFrame) (rest : List Value) (av : Array Value) (Qc : Array Value → State → Outcome → State → Prop) (XC : Addr → State → State → Prop) (free : Addr → Prop) : Prop :=
    (∃ (v : Option Value) (vm₁ : Vm) (B : Pt), s.WarmedH vm₁ ∧ Stand p l e R s m args below meth c B.U B.locs B.cells B.slots ∧ PostOf Qc mc ms free ⟨T.setVm vm₁, locs, cells, slots⟩ av v B ∧
      ∀ target, Steps p.tables e below (B.U.setTop { g with pc := g.pc + 3, stack := v.toList ++ rest }) target → Steps p.tables e below (T.setTop g) target) ∨
    (∃ (q : Addr) (vm₁ : Vm) (B : Pt), s.WarmedH vm₁ ∧ Stand p l e R s m args below meth c B.U B.locs B.cells B.slots ∧ kPost XC mc ms free ⟨T.setVm vm₁, locs, cells, slots⟩ av q B ∧
      Steps p.tables e below (T.setTop g) ((B.U.setTop { g with stack := rest }).pushFrame (.throwing q)))
def notMH (y : MethodName) : Prop := y.cls ≠ "java/lang/invoke/MethodHandle" ∧ y.cls ≠ "java/lang/invoke/VarHandle"
def npar (d : String) (n : Nat) : Prop := (parseMethodDescriptor d).map (fun d => d.parameters.length) = some n
theorem npar_of {d : String} {n : Nat} {xs : List Value} (h : npar d n) (hx : xs.length = n) : ∀ sig, parseMethodDescriptor d = some sig → xs.length = sig.parameters.length := by
  intro sig hs
  unfold npar at h
  rw [hs] at h
  rw [hx]
  exact (Option.some.inj h).symm
/-- the sites of calls: virtual (the class itself or a nest mate), virtual through an abstract class, static, constructors -/
def SiteV (own : String) (idx : Nat) (M : MD) (n ci : Nat) : Prop := mW M ∈ lw_all ∧ Jvm.Cond.initialized (mY M).cls ∈ lw_all ∧ notMH (mY M) ∧ npar (mY M).desc n ∧ Jvm.Cond.instanceMethod (mY M) ∈ lw_all ∧ Jvm.Cond.selects (cnm ci) (mY M) (mY M) ∈ lw_all ∧ (Jvm.Cond.methodLink own idx (mY M) ∈ lw_all ∨ (mH M = false ∧ ∃ host, Jvm.Cond.methodLinkNest own idx (mY M) host ∈ lw_tbl))
def SiteU (own : String) (idx : Nat) (M : MD) (n ci : Nat) : Prop := mH M = false ∧ mW M ∈ lw_all ∧ Jvm.Cond.initialized (mY M).cls ∈ lw_all ∧ ∃ (x : MethodName) (owner : String), (owner ≠ "java/lang/invoke/MethodHandle" ∧ owner ≠ "java/lang/invoke/VarHandle") ∧ npar x.desc n ∧ Jvm.Cond.methodLink own idx x ∈ lw_all ∧ Jvm.Cond.sameMethod x.cls owner x.name x.desc ∈ lw_all ∧ Jvm.Cond.declares ⟨owner, x.name, x.desc⟩ ∈ lw_tbl ∧ Jvm.Cond.selects (cnm ci) x (mY M) ∈ lw_all ∧ Jvm.Cond.instanceMethod (mY M) ∈ lw_all
def SiteS (own : String) (idx : Nat) (M : MD) (n : Nat) : Prop := mH M = false ∧ mW M ∈ lw_all ∧ Jvm.Cond.initialized (mY M).cls ∈ lw_all ∧ notMH (mY M) ∧ npar (mY M).desc n ∧ Jvm.Cond.static (mY M) ∈ lw_all ∧ (Jvm.Cond.methodLink own idx (mY M) ∈ lw_all ∨ ∃ host, Jvm.Cond.methodLinkNest own idx (mY M) host ∈ lw_tbl)
def SiteI (own : String) (idx : Nat) (M : MD) (n : Nat) : Prop := mH M = false ∧ mR M = none ∧ (mY M).name = "<init>" ∧ mW M ∈ lw_all ∧ Jvm.Cond.initialized (mY M).cls ∈ lw_all ∧ notMH (mY M) ∧ npar (mY M).desc n ∧ Jvm.Cond.instanceMethod (mY M) ∈ lw_all ∧ (Jvm.Cond.methodLink own idx (mY M) ∈ lw_all ∨ ∃ host, Jvm.Cond.methodLinkNest own idx (mY M) host ∈ lw_tbl)
theorem mW_f {M : MD} (h : mH M = false) : mW M = .code (mY M) (mB M) (mL M) (mR M) := by unfold mW; rw [h]
theorem mW_t {M : MD} (h : mH M = true) : mW M = .codeWith (mY M) (mB M) (mL M) (mR M) (mT M) := by unfold mW; rw [h]
section
variable {p : Program} {l : Launch} {e : Env} {R : Room} {s : State} {m : MethodId} {args : Array Value} {below : List Frame} {meth : Method} {c : Code} {Q : State → Prop} {w : OM} {nL cu su pc : Nat} {cc : ByteArray} {ls : LVs} {st r : List AV} {hs0 h : AH}
variable {T : State} {locs : List Loc} {M : MD} {d mc ms n ci idx : Nat} {own : String} {as : List AV} {a q : Nat} {Φ : OUT → AH → Prop} {la : Array Slot} {H : Heap}
theorem pre_of (hK : KU w s) (hR : Rel w h H) (hT : T.heap = H) (hv : ∀ x ∈ as, vok h x) (hc : cu + mc ≤ R.cells) (hs : su + ms ≤ R.slots) : ∀ vm₁, s.WarmedH vm₁ → PreOf R mc ms (kPc w as h) ⟨T.setVm vm₁, locs, cu, su⟩ (as.map (cv w)).toArray := by
  intro vm₁ hW
  exact ⟨hc, hs, rfl, KU.warm (U := T.setVm vm₁) hW hK, by show Rel w h T.heap; rw [hT]; exact hR, hv⟩
theorem site_V (hw : WOK w) (X : Stand p l e R s m args below meth c T locs cu su) (hx : p.tables.exec = Jvm.exec) (hb : c.code = cc) (hown : s.vm.findClass own = some m.cls) (hts : ∀ w ∈ lw_all, w.before args s = true) (hK : KU w s) (hS : SiteV own idx M n ci) (hM : SC l w M d mc ms (vo a :: as) h Φ) (hR : Rel w h H) (hT : T.heap = H) (hv : ∀ x ∈ vo a :: as, vok h x) (ht : tg a = 16 + ci) (hcl : s.vm.findClass (cnm ci) = some ((oD w).1 ci)) (hn : as.length = n) (hq : cr w (some a) = .ref q) (hml : c.maxLocals = nL) (hla : la.size = nL) (hsw : stw r ≤ 8) (hfr : d + 9 ≤ R.frames) (hlo : 8 + (mL M + 11) + 96 * (d + 8) ≤ R.locals) (hc : cu + mc ≤ R.cells) (hs : su + ms ≤ R.slots) (hd : decode cc pc = .ok (.invokevirtual idx, 3)) :
    CR p l e R s m args below meth c T locs cu su mc ms (F0 m pc la ((as.map (cv w)).reverse ++ .ref q :: r.map (cv w))) (r.map (cv w)) ((vo a :: as).map (cv w)).toArray (kQc w h Φ) (kXc w h Φ) (oF w) := by
  obtain ⟨hm, hini, hy, hnp, hin, hsel, hlink⟩ := hS
  have hB := sc_back (p := p) (e := e) (below := below) hts hm hini hM hfr hlo
  obtain ⟨q', cell, e1, e2, e3, e4, e5, e6, e7⟩ := atB_of hR (hv (vo a) List.mem_cons_self : vok h (vo a)) ht
  cases hq.symm.trans e1
  have hpre := pre_of (T := T) (locs := locs) (as := vo a :: as) hK hR hT hv hc hs
  have eA : ((vo a :: as).map (cv w)) = .ref q :: as.map (cv w) := by simp only [List.map_cons]; rw [show cv w (vo a) = .ref q from hq]
  rw [eA] at hpre ⊢
  have hcell : T.heap[q]? = some cell := by rw [hT]; exact e2
  have hcls : s.vm.findClass (cnm ci) = some cell.cls := by rw [e3]; exact hcl
  have hlen := npar_of (xs := as.map (cv w)) hnp (by rw [List.length_map]; exact hn)
  have hW8 : 2 * (F0 m pc la ((as.map (cv w)).reverse ++ .ref q :: r.map (cv w))).monitorRoom + (((r.map (cv w)).map fun v => v.category).sum) ≤ 8 := by rw [stw_cat hw]; show 2 * 0 + stw r ≤ 8; omega
  have hdg : decode c.code (F0 m pc la ((as.map (cv w)).reverse ++ .ref q :: r.map (cv w))).pc = .ok (.invokevirtual idx, 3) := by rw [hb]; exact hd
  rcases hlink with hl | ⟨hH, host, hl⟩
  · cases hH : mH M with
    | false =>
      have hcode := hts _ hm
      rw [mW_f hH] at hcode
      exact vx_callV X hx hown (hts _ hl) (hts _ hin) (hts _ hsel) hcode hy hB hcell e5 hcls rfl (hla.trans hml.symm) hlen rfl hW8 hdg hpre
    | true =>
      have hcode := hts _ hm
      rw [mW_t hH] at hcode
      exact vx_callVX X hx hown (hts _ hl) (hts _ hin) (hts _ hsel) hcode hy hB hcell e5 hcls rfl (hla.trans hml.symm) hlen rfl hW8 hdg hpre
  · have hcode := hts _ hm
    rw [mW_f hH] at hcode
    exact vx_callVN X hx hown (va_Nw.use rfl (hK.1.1 _ hl rfl)) (hts _ hin) (hts _ hsel) hcode hy hB hcell e5 hcls rfl (hla.trans hml.symm) hlen rfl hW8 hdg hpre
theorem site_U (hw : WOK w) (X : Stand p l e R s m args below meth c T locs cu su) (hx : p.tables.exec = Jvm.exec) (hb : c.code = cc) (hown : s.vm.findClass own = some m.cls) (hts : ∀ w ∈ lw_all, w.before args s = true) (hK : KU w s) (hS : SiteU own idx M n ci) (hM : SC l w M d mc ms (vo a :: as) h Φ) (hR : Rel w h H) (hT : T.heap = H) (hv : ∀ x ∈ vo a :: as, vok h x) (ht : tg a = 16 + ci) (hcl : s.vm.findClass (cnm ci) = some ((oD w).1 ci)) (hn : as.length = n) (hq : cr w (some a) = .ref q) (hml : c.maxLocals = nL) (hla : la.size = nL) (hsw : stw r ≤ 8) (hfr : d + 9 ≤ R.frames) (hlo : 8 + (mL M + 11) + 96 * (d + 8) ≤ R.locals) (hc : cu + mc ≤ R.cells) (hs : su + ms ≤ R.slots) (hd : decode cc pc = .ok (.invokevirtual idx, 3)) :
    CR p l e R s m args below meth c T locs cu su mc ms (F0 m pc la ((as.map (cv w)).reverse ++ .ref q :: r.map (cv w))) (r.map (cv w)) ((vo a :: as).map (cv w)).toArray (kQc w h Φ) (kXc w h Φ) (oF w) := by
  obtain ⟨hH, hm, hini, x, owner, hy, hnp, hl, hsame, hdecl, hsel, hin⟩ := hS
  have hB := sc_back (p := p) (e := e) (below := below) hts hm hini hM hfr hlo
  obtain ⟨q', cell, e1, e2, e3, e4, e5, e6, e7⟩ := atB_of hR (hv (vo a) List.mem_cons_self : vok h (vo a)) ht
  cases hq.symm.trans e1
  have hpre := pre_of (T := T) (locs := locs) (as := vo a :: as) hK hR hT hv hc hs
  have eA : ((vo a :: as).map (cv w)) = .ref q :: as.map (cv w) := by simp only [List.map_cons]; rw [show cv w (vo a) = .ref q from hq]
  rw [eA] at hpre ⊢
  have hcell : T.heap[q]? = some cell := by rw [hT]; exact e2
  have hcls : s.vm.findClass (cnm ci) = some cell.cls := by rw [e3]; exact hcl
  have hlen := npar_of (xs := as.map (cv w)) hnp (by rw [List.length_map]; exact hn)
  have hW8 : 2 * (F0 m pc la ((as.map (cv w)).reverse ++ .ref q :: r.map (cv w))).monitorRoom + (((r.map (cv w)).map fun v => v.category).sum) ≤ 8 := by rw [stw_cat hw]; show 2 * 0 + stw r ≤ 8; omega
  have hdg : decode c.code (F0 m pc la ((as.map (cv w)).reverse ++ .ref q :: r.map (cv w))).pc = .ok (.invokevirtual idx, 3) := by rw [hb]; exact hd
  have hcode := hts _ hm
  rw [mW_f hH] at hcode
  exact vx_callVU X hx hown (hts _ hl) (hts _ hsame) (va_Decl.abs (hK.1.1 _ hdecl rfl)) hy (hts _ hsel) (hts _ hin) hcode hB hcell e5 hcls rfl (hla.trans hml.symm) hlen rfl hW8 hdg hpre
theorem site_S (hw : WOK w) (X : Stand p l e R s m args below meth c T locs cu su) (hx : p.tables.exec = Jvm.exec) (hb : c.code = cc) (hown : s.vm.findClass own = some m.cls) (hts : ∀ w ∈ lw_all, w.before args s = true) (hK : KU w s) (hS : SiteS own idx M n) (hM : SC l w M d mc ms as h Φ) (hR : Rel w h H) (hT : T.heap = H) (hv : ∀ x ∈ as, vok h x) (hn : as.length = n) (hml : c.maxLocals = nL) (hla : la.size = nL) (hsw : stw r ≤ 8) (hfr : d + 9 ≤ R.frames) (hlo : 8 + (mL M + 11) + 96 * (d + 8) ≤ R.locals) (hc : cu + mc ≤ R.cells) (hs : su + ms ≤ R.slots) (hd : decode cc pc = .ok (.invokestatic idx, 3)) :
    CR p l e R s m args below meth c T locs cu su mc ms (F0 m pc la ((as.map (cv w)).reverse ++ r.map (cv w))) (r.map (cv w)) (as.map (cv w)).toArray (kQc w h Φ) (kXc w h Φ) (oF w) := by
  obtain ⟨hH, hm, hini, hy, hnp, hst, hlink⟩ := hS
  have hB := sc_back (p := p) (e := e) (below := below) hts hm hini hM hfr hlo
  have hpre := pre_of (T := T) (locs := locs) (as := as) hK hR hT hv hc hs
  have hlen := npar_of (xs := as.map (cv w)) hnp (by rw [List.length_map]; exact hn)
  have hW8 : 2 * (F0 m pc la ((as.map (cv w)).reverse ++ r.map (cv w))).monitorRoom + (((r.map (cv w)).map fun v => v.category).sum) ≤ 8 := by rw [stw_cat hw]; show 2 * 0 + stw r ≤ 8; omega
  have hdg : decode c.code (F0 m pc la ((as.map (cv w)).reverse ++ r.map (cv w))).pc = .ok (.invokestatic idx, 3) := by rw [hb]; exact hd
  have hcode := hts _ hm
  rw [mW_f hH] at hcode
  rcases hlink with hl | ⟨host, hl⟩
  · exact vx_callS X hx hown (hts _ hl) (hts _ hst) (hts _ hini) hcode hy hB rfl (hla.trans hml.symm) hlen rfl hW8 hdg hpre
  · exact vx_callSN X hx hown (va_Nw.use rfl (hK.1.1 _ hl rfl)) (hts _ hst) (hts _ hini) hcode hy hB rfl (hla.trans hml.symm) hlen rfl hW8 hdg hpre
theorem site_I (hw : WOK w) (X : Stand p l e R s m args below meth c T locs cu su) (hx : p.tables.exec = Jvm.exec) (hb : c.code = cc) (hown : s.vm.findClass own = some m.cls) (hts : ∀ w ∈ lw_all, w.before args s = true) (hK : KU w s) (hS : SiteI own idx M n) (hM : SC l w M d mc ms (vo a :: as) h Φ) (hR : Rel w h H) (hT : T.heap = H) (hv : ∀ x ∈ vo a :: as, vok h x) (hn : as.length = n) (hq : cr w (some a) = .ref q) (hml : c.maxLocals = nL) (hla : la.size = nL) (hsw : stw r ≤ 8) (hfr : d + 9 ≤ R.frames) (hlo : 8 + (mL M + 11) + 96 * (d + 8) ≤ R.locals) (hc : cu + mc ≤ R.cells) (hs : su + ms ≤ R.slots) (hd : decode cc pc = .ok (.invokespecial idx, 3)) :
    CR p l e R s m args below meth c T locs cu su mc ms (F0 m pc la ((as.map (cv w)).reverse ++ .ref q :: r.map (cv w))) (r.map (cv w)) ((vo a :: as).map (cv w)).toArray (kQc w h Φ) (kXc w h Φ) (oF w) := by
  obtain ⟨hH, hret, hnm, hm, hini, hy, hnp, hin, hlink⟩ := hS
  have hB := sc_back (p := p) (e := e) (below := below) hts hm hini hM hfr hlo
  have hpre := pre_of (T := T) (locs := locs) (as := vo a :: as) hK hR hT hv hc hs
  have eA : ((vo a :: as).map (cv w)) = .ref q :: as.map (cv w) := by simp only [List.map_cons]; rw [show cv w (vo a) = .ref q from hq]
  rw [eA] at hpre ⊢
  have hlen := npar_of (xs := as.map (cv w)) hnp (by rw [List.length_map]; exact hn)
  have hW8 : 2 * (F0 m pc la ((as.map (cv w)).reverse ++ .ref q :: r.map (cv w))).monitorRoom + (((r.map (cv w)).map fun v => v.category).sum) ≤ 8 := by rw [stw_cat hw]; show 2 * 0 + stw r ≤ 8; omega
  have hdg : decode c.code (F0 m pc la ((as.map (cv w)).reverse ++ .ref q :: r.map (cv w))).pc = .ok (.invokespecial idx, 3) := by rw [hb]; exact hd
  have hcode := hts _ hm
  rw [mW_f hH, hret] at hcode
  rcases hlink with hl | ⟨host, hl⟩
  · exact vx_callI X hx hown hnm (hts _ hl) (hts _ hin) hcode hy hB rfl (hla.trans hml.symm) hlen rfl hW8 hdg hpre
  · exact vx_callIN X hx hown hnm (va_Nw.use rfl (hK.1.1 _ hl rfl)) (hts _ hin) hcode hy hB rfl (hla.trans hml.symm) hlen rfl hW8 hdg hpre
end
