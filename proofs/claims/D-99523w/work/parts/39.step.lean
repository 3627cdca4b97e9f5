/-! EVERY INSTRUCTION THAT THE TABLES SHOW IS SOUND -/
def DE (M : MD) (pc : Nat) (i : Instr) (len nx : Nat) : Prop := decode (mB M) pc = .ok (i, len) ∧ nx = pc + len
abbrev oN (M : MD) : String := (mY M).cls
/-- 'new EdgeWalk$Wrong()': new, dup, invokespecial in one -/
def WrongNew (M : MD) (pc nx ax : Nat) (tb : List (Int × Nat)) : Prop := decode (mB M) pc = .ok (.new 39, 3) ∧ decode (mB M) (pc + 3) = .ok (.dup, 1) ∧ decode (mB M) (pc + 4) = .ok (.invokespecial 41, 3) ∧ nx = pc + 7 ∧ ax = 20 ∧ tb = [(0, 7)] ∧ oN M = "EdgeWalk"
def CallJ (M : MD) (pc hd j : Nat) : Prop := j < NJ ∧ mL (MT j) ≤ 64 ∧ HdOK (oN M) (mTab M) pc hd
def InsOK (M : MD) (pc : Nat) (X : INS) : Prop := match X with | (i, nx, ax, tb) => match i with
  | .nop => True
  | .aload_n n => DE M pc (.aload_n n) 1 nx
  | .iload_n n => DE M pc (.iload_n n) 1 nx
  | .lload_n n => DE M pc (.lload_n n) 1 nx
  | .aload n => DE M pc (.aload n) 2 nx
  | .iload n => DE M pc (.iload n) 2 nx
  | .lload n => DE M pc (.lload n) 2 nx
  | .astore_n n => DE M pc (.astore_n n) 1 nx ∧ n.val < mL M
  | .istore_n n => DE M pc (.istore_n n) 1 nx ∧ n.val < mL M
  | .lstore_n n => DE M pc (.lstore_n n) 1 nx ∧ n.val + 1 < mL M
  | .astore n => DE M pc (.astore n) 2 nx ∧ n < mL M
  | .istore n => DE M pc (.istore n) 2 nx ∧ n < mL M
  | .lstore n => DE M pc (.lstore n) 2 nx ∧ n + 1 < mL M
  | .iconst n => DE M pc (.iconst n) 1 nx
  | .bipush n => DE M pc (.bipush n) 2 nx ∧ (Int8.ofInt n).toInt32 = Int32.ofInt n
  | .sipush n => DE M pc (.sipush n) 3 nx ∧ (Int16.ofInt n).toInt32 = Int32.ofInt n
  | .lconst n => DE M pc (.lconst n) 1 nx
  | .ldc idx => DE M pc (.ldc idx) 2 nx ∧ ∀ z b, tb = [(z, b)] → match ax with
    | 0 => Jvm.Cond.constant (oN M) idx (Int32.ofInt z) ∈ lw_all
    | 1 => ∃ tx i, (oN M, idx, tx, i) ∈ SRl ∧ 1 ≤ i ∧ i < 64 ∧ b = extAd i
    | _ => Jvm.Cond.classLink (oN M) idx "[Ljava/lang/Object;" ∈ lw_all ∧ b = extAd 3
  | .ldc_w idx => DE M pc (.ldc_w idx) 3 nx ∧ ∀ z b, tb = [(z, b)] → Jvm.Cond.constant (oN M) idx (Int32.ofInt z) ∈ lw_all
  | .ldc2_w idx => DE M pc (.ldc2_w idx) 3 nx ∧ ∀ z b, tb = [(z, b)] → Jvm.Cond.constantLong (oN M) idx (Int64.ofInt z) ∈ lw_all
  | .aconst_null => DE M pc .aconst_null 1 nx
  | .getfield idx => DE M pc (.getfield idx) 3 nx ∧ ∀ z t, tb = [(z, t)] → FldOK (oN M) idx ax z t ∨ FldSOK (oN M) idx ax z t
  | .putfield idx => DE M pc (.putfield idx) 3 nx ∧ ∀ z t, tb = [(z, t)] → PutOK (oN M) (mY M).name idx ax z t
  | .getstatic idx => DE M pc (.getstatic idx) 3 nx ∧ ∀ z b, tb = [(z, b)] → match ax with
    | 0 => z = 1 ∧ Jvm.Cond.fieldLink (oN M) idx "java/lang/String" "COMPACT_STRINGS" "Z" ∈ lw_all
    | _ => GetsOK (oN M) idx b
  | .invokestatic idx => DE M pc (.invokestatic idx) 3 nx ∧ ∀ z j y hd, tb = [(z, j), (y, hd)] → match z with
    | 0 => SiteS (oN M) idx (MT j) ax ∧ CallJ M pc hd j
    | _ => Jvm.Cond.methodLink (oN M) idx arraycopyName ∈ lw_all
  | .invokespecial idx => DE M pc (.invokespecial idx) 3 nx ∧ ∀ z j y hd, tb = [(z, j), (y, hd)] → match z with
    | 0 => SiteI (oN M) idx (MT j) ax ∧ CallJ M pc hd j
    | _ => ax = 0 ∧ Jvm.Cond.methodLink (oN M) idx Lib.objectInit ∈ lw_all
  | .invokevirtual idx => DE M pc (.invokevirtual idx) 3 nx ∧ ∀ z hd tbl, tb = (z, hd) :: tbl → match z with
    | 0 => ∀ q ∈ tbl, ∃ ci, ci ≤ 17 ∧ q.1 = ((16 + ci : Nat) : Int) ∧ (SiteV (oN M) idx (MT q.2) ax ci ∨ SiteU (oN M) idx (MT q.2) ax ci) ∧ CallJ M pc hd q.2
    | _ => ax = 0 ∧ hd = extAd 3 ∧ Jvm.Cond.methodLink (oN M) idx ⟨"java/lang/Object", "getClass", "()Ljava/lang/Class;"⟩ ∈ lw_all
  | .new idx => (DE M pc (.new idx) 3 nx ∧ ∀ z n, tb = [(z, n)] → NewOK (oN M) idx ax n) ∨ WrongNew M pc nx ax tb
  | .newarray a => DE M pc (.newarray a) 2 nx ∧ ArrTy a ax
  | .anewarray idx => DE M pc (.anewarray idx) 3 nx ∧ ANewOK (oN M) idx ax
  | .arraylength => DE M pc .arraylength 1 nx
  | .iaload => DE M pc .iaload 1 nx
  | .baload => DE M pc .baload 1 nx
  | .laload => DE M pc .laload 1 nx
  | .aaload => DE M pc .aaload 1 nx
  | .iastore => DE M pc .iastore 1 nx
  | .bastore => DE M pc .bastore 1 nx
  | .lastore => DE M pc .lastore 1 nx
  | .aastore => DE M pc .aastore 1 nx
  | .iadd => DE M pc .iadd 1 nx
  | .isub => DE M pc .isub 1 nx
  | .imul => DE M pc .imul 1 nx
  | .idiv => DE M pc .idiv 1 nx
  | .irem => DE M pc .irem 1 nx
  | .iand => DE M pc .iand 1 nx
  | .ior => DE M pc .ior 1 nx
  | .ishl => DE M pc .ishl 1 nx
  | .ishr => DE M pc .ishr 1 nx
  | .iushr => DE M pc .iushr 1 nx
  | .ladd => DE M pc .ladd 1 nx
  | .lsub => DE M pc .lsub 1 nx
  | .lmul => DE M pc .lmul 1 nx
  | .ldiv => DE M pc .ldiv 1 nx
  | .lrem => DE M pc .lrem 1 nx
  | .land => DE M pc .land 1 nx
  | .lor => DE M pc .lor 1 nx
  | .lxor => DE M pc .lxor 1 nx
  | .lshl => DE M pc .lshl 1 nx
  | .lshr => DE M pc .lshr 1 nx
  | .lushr => DE M pc .lushr 1 nx
  | .i2l => DE M pc .i2l 1 nx
  | .l2i => DE M pc .l2i 1 nx
  | .i2b => DE M pc .i2b 1 nx
  | .i2c => DE M pc .i2c 1 nx
  | .lcmp => DE M pc .lcmp 1 nx
  | .ifCond cn off => DE M pc (.ifCond cn off) 3 nx ∧ (pc : Int) + off = (ax : Int)
  | .if_icmp cn off => DE M pc (.if_icmp cn off) 3 nx ∧ (pc : Int) + off = (ax : Int)
  | .if_acmp cn off => DE M pc (.if_acmp cn off) 3 nx ∧ (pc : Int) + off = (ax : Int)
  | .ifnull off => DE M pc (.ifnull off) 3 nx ∧ (pc : Int) + off = (ax : Int)
  | .ifnonnull off => DE M pc (.ifnonnull off) 3 nx ∧ (pc : Int) + off = (ax : Int)
  | .goto off => DE M pc (.goto off) 3 nx ∧ (pc : Int) + off = (ax : Int)
  | .iinc n z => DE M pc (.iinc n z) 3 nx ∧ n < mL M
  | .tableswitch df lo hi offs => (∃ len, decode (mB M) pc = .ok (.tableswitch df lo hi offs, len)) ∧ (pc : Int) + df = (ax : Int) ∧ (∀ q ∈ tb, lo ≤ q.1 ∧ q.1 ≤ hi ∧ ∃ off, offs[(q.1 - lo).toNat]? = some off ∧ (pc : Int) + off = (q.2 : Int)) ∧ (∀ z : Int, lo ≤ z → z ≤ hi → ∃ q ∈ tb, q.1 = z)
  | .dup => DE M pc .dup 1 nx
  | .dup_x1 => DE M pc .dup_x1 1 nx
  | .dup2 => DE M pc .dup2 1 nx
  | .pop => DE M pc .pop 1 nx
  | .checkcast idx => DE M pc (.checkcast idx) 3 nx ∧ CastOK (oN M) idx ax
  | .athrow => DE M pc .athrow 1 nx ∧ ∀ x ∈ mTab M, covers x pc = false
  | .ireturn => DE M pc .ireturn 1 nx ∧ RetI (mR M) ax
  | .lreturn => DE M pc .lreturn 1 nx ∧ mR M = some .long
  | .areturn => DE M pc .areturn 1 nx ∧ ∃ rt, mR M = some rt ∧ ((∃ n, rt = .object n) ∨ ∃ t, rt = .array t)
  | .return_ => DE M pc .return_ 1 nx ∧ mR M = none
  | _ => True
/-- what holds all through a method's run -/
def GK (p : Program) (l : Launch) (e : Env) (R : Room) (s : State) (m : MethodId) (args : Array Value) (below : List Frame) (meth : Method) (c : Code) (w : OM) (M : MD) (d : Nat) : Prop :=
  p.tables.exec = Jvm.exec ∧ c.code = mB M ∧ s.vm.findClass (oN M) = some m.cls ∧ (∀ w ∈ lw_all, w.before args s = true) ∧ KU w s ∧ WOK w ∧ c.maxLocals = mL M ∧ ((mY M).name = "<init>" → meth.name = "<init>") ∧ (mTab M = [] ∨ c.exceptionTable.toList = mTab M) ∧ d + 9 ≤ R.frames ∧ 96 * (d + 9) ≤ R.locals ∧ l.stackTraces = false
/-- how the method may end -/
def REND (p : Program) (l : Launch) (e : Env) (R : Room) (s : State) (m : MethodId) (args : Array Value) (below : List Frame) (meth : Method) (c : Code) (Q : State → Prop) (w : OM) (M : MD) (hs0 : AH) (Φ : OUT → AH → Prop) : Prop :=
  (∀ (cu su pc : Nat) (ls : LVs) (h : AH) (i : Int) (ax : Nat), cu ≤ R.cells → su ≤ R.slots → decode (mB M) pc = .ok (.ireturn, 1) → RetI (mR M) ax → (match ax with
      | 0 => True
      | 1 => 0 ≤ i ∧ i ≤ 1
      | _ => 0 ≤ i ∧ i ≤ 65535) → Φ (.inl (some (vi i))) h → WPk p l e R s m args below meth c Q w (mL M) hs0 cu su pc ls [vi i] h) ∧
  (∀ (cu su pc : Nat) (ls : LVs) (h : AH) (x : Int64), cu ≤ R.cells → su ≤ R.slots → decode (mB M) pc = .ok (.lreturn, 1) → mR M = some .long → Φ (.inl (some (vl x))) h → WPk p l e R s m args below meth c Q w (mL M) hs0 cu su pc ls [vl x] h) ∧
  (∀ (cu su pc : Nat) (ls : LVs) (h : AH) (x : Option Nat) (rt : FieldType), cu ≤ R.cells → su ≤ R.slots → decode (mB M) pc = .ok (.areturn, 1) → mR M = some rt → ((∃ n, rt = .object n) ∨ ∃ t, rt = .array t) → Φ (.inl (some (vr x))) h → WPk p l e R s m args below meth c Q w (mL M) hs0 cu su pc ls [vr x] h) ∧
  (∀ (cu su pc : Nat) (ls : LVs) (h : AH), cu ≤ R.cells → su ≤ R.slots → decode (mB M) pc = .ok (.return_, 1) → mR M = none → Φ (.inl none) h → WPk p l e R s m args below meth c Q w (mL M) hs0 cu su pc ls [] h)
theorem lset1_mono {ls : LVs} {i : Nat} {v : AV} {K K' : LVs → Prop} (hk : lset1 ls i v K) (f : ∀ l, K l → K' l) : lset1 ls i v K' := by
  have g1 : ∀ (ls : LVs) (K K' : LVs → Prop), (∀ l, K l → K' l) → linsK ls i v K → linsK ls i v K' := by
    intro ls
    induction ls with
    | nil => exact fun K K' f hk => f _ hk
    | cons q r ih =>
      intro K K' f hk
      unfold linsK at hk ⊢
      cases hb : Nat.ble q.1 i with
      | true => rw [hb] at hk; exact ih _ _ (fun l => f _) hk
      | false => rw [hb] at hk; exact f _ hk
  have g2 : ∀ (i : Nat) (ls : LVs) (K K' : LVs → Prop), (∀ l, K l → K' l) → lremK ls i K → lremK ls i K' := by
    intro i ls
    induction ls with
    | nil => exact fun K K' f hk => f _ hk
    | cons q r ih =>
      intro K K' f hk
      unfold lremK at hk ⊢
      cases hb : Nat.beq q.1 i with
      | true => rw [hb] at hk; exact ih _ _ f hk
      | false => rw [hb] at hk; exact ih _ _ (fun l => f _) hk
  have g3 : ∀ (ls : LVs) (K K' : LVs → Prop), (∀ l, K l → K' l) → lcutK ls i K → lcutK ls i K' := by
    intro ls
    induction ls with
    | nil => exact fun K K' f hk => f _ hk
    | cons q r ih =>
      intro K K' f hk
      unfold lcutK at hk ⊢
      cases hb : (Nat.beq (q.1 + 1) i && cat2 q.2) with
      | true => rw [hb] at hk; exact ih _ _ f hk
      | false => rw [hb] at hk; exact ih _ _ (fun l => f _) hk
  exact g3 _ _ _ (fun l => g2 _ _ _ _ (fun l => g1 _ _ _ f)) hk
theorem lset2_mono {ls : LVs} {i : Nat} {v : AV} {K K' : LVs → Prop} (hk : lset2 ls i v K) (f : ∀ l, K l → K' l) : lset2 ls i v K' := by
  have g1 : ∀ (ls : LVs) (K K' : LVs → Prop), (∀ l, K l → K' l) → linsK ls i v K → linsK ls i v K' := by
    intro ls
    induction ls with
    | nil => exact fun K K' f hk => f _ hk
    | cons q r ih =>
      intro K K' f hk
      unfold linsK at hk ⊢
      cases hb : Nat.ble q.1 i with
      | true => rw [hb] at hk; exact ih _ _ (fun l => f _) hk
      | false => rw [hb] at hk; exact f _ hk
  have g2 : ∀ (i : Nat) (ls : LVs) (K K' : LVs → Prop), (∀ l, K l → K' l) → lremK ls i K → lremK ls i K' := by
    intro i ls
    induction ls with
    | nil => exact fun K K' f hk => f _ hk
    | cons q r ih =>
      intro K K' f hk
      unfold lremK at hk ⊢
      cases hb : Nat.beq q.1 i with
      | true => rw [hb] at hk; exact ih _ _ f hk
      | false => rw [hb] at hk; exact ih _ _ (fun l => f _) hk
  have g3 : ∀ (ls : LVs) (K K' : LVs → Prop), (∀ l, K l → K' l) → lcutK ls i K → lcutK ls i K' := by
    intro ls
    induction ls with
    | nil => exact fun K K' f hk => f _ hk
    | cons q r ih =>
      intro K K' f hk
      unfold lcutK at hk ⊢
      cases hb : (Nat.beq (q.1 + 1) i && cat2 q.2) with
      | true => rw [hb] at hk; exact ih _ _ f hk
      | false => rw [hb] at hk; exact ih _ _ (fun l => f _) hk
  exact g3 _ _ _ (fun l => g2 _ _ _ _ (fun l => g2 _ _ _ _ (fun l => g1 _ _ _ f))) hk
theorem fget_mono {h : AH} {a : Nat} {z : Int} {t : Nat} {K K' : AV → Prop} (hk : fget h a z t K) (f : ∀ v, K v → K' v) : fget h a z t K' := by
  match t, hk with
  | 0, hk => obtain ⟨v, e, k⟩ := hk; exact ⟨v, e, f _ k⟩
  | 1, hk => obtain ⟨v, e, k⟩ := hk; exact ⟨v, e, f _ k⟩
  | 2, hk => obtain ⟨v, e, k⟩ := hk; exact ⟨v, e, f _ k⟩
  | n + 3, hk => obtain ⟨v, e, k⟩ := hk; exact ⟨v, e, f _ k⟩
theorem fput_mono {h : AH} {a : Nat} {z : Int} {t : Nat} {v : AV} {K K' : AH → Prop} (hk : fput h a z t v K) (f : ∀ x, K x → K' x) : fput h a z t v K' := by
  match t, v, hk with
  | 0, .inl i, hk => exact f _ hk
  | 0, .inr _, hk => exact hk.elim
  | 1, .inr (.inl x), hk => exact f _ hk
  | 1, .inl _, hk => exact hk.elim
  | 1, .inr (.inr _), hk => exact hk.elim
  | 2, .inr (.inr x), hk => exact f _ hk
  | 2, .inl _, hk => exact hk.elim
  | 2, .inr (.inl _), hk => exact hk.elim
  | n + 3, .inl i, hk => exact ⟨hk.1, f _ hk.2⟩
  | n + 3, .inr _, hk => exact hk.elim
theorem put_imp {own y1 y2 : String} {idx tag : Nat} {z : Int} {t : Nat} (hy : y1 = "<init>" → y2 = "<init>") (hp : PutOK own y1 idx tag z t) : PutOK own y2 idx tag z t := by
  obtain ⟨ci, k, C, T, ty, ref, e1, e2, e3, e4, e5, e6, e7⟩ := hp
  refine ⟨ci, k, C, T, ty, ref, e1, e2, e3, e4, e5, e6, ?_⟩
  rcases e7 with e7 | ⟨g1, g2, g3⟩
  · exact Or.inl e7
  · exact Or.inr ⟨g1, hy g2, g3⟩
theorem cmpI_mono {cn : ClassFile.Cond} {a b : Int} {T F T' F' : Prop} (hk : cmpI cn a b T F) (f : T → T') (g : F → F') : cmpI cn a b T' F' := by
  cases cn <;> exact ⟨fun z => f (hk.1 z), fun z => g (hk.2 z)⟩
theorem tsw_mono {tb : List (Int × Nat)} {df : Nat} {x : Int} {K K' : Nat → Prop} (hk : tsw tb df x K) (f : ∀ n, K n → K' n) : tsw tb df x K' := by
  induction tb with
  | nil => exact f _ hk
  | cons q r ih => exact ⟨fun z => f _ (hk.1 z), fun z => ih (hk.2 z)⟩
set_option maxRecDepth 10000 in
theorem room_le {q d L : Nat} (h1 : q ≤ 64) (h2 : 96 * (d + 9) ≤ L) : 8 + (q + 11) + 96 * (d + 8) ≤ L := by omega
theorem SC_mono {l : Launch} {w : OM} {M : MD} {d mc ms : Nat} {as : List AV} {h : AH} {Φ Ψ : OUT → AH → Prop} (hC : SC l w M d mc ms as h Φ) (f : ∀ o h', Φ o h' → Ψ o h') : SC l w M d mc ms as h Ψ := by
  intro p e ha hc hk s m args below hf happ hP hK
  obtain ⟨n, o, h1, h2, h3, h4⟩ := hC p e ha hc hk s m args below hf happ hP hK
  refine ⟨n, o, h1, h2, h3, ?_⟩
  rcases h4 with ⟨⟨ro, h', e1, e2, e3⟩, h5⟩ | ⟨q, e1, ce, L, ⟨a, h', e2, e3, e4⟩, h5⟩
  · exact Or.inl ⟨⟨ro, h', e1, f _ _ e2, e3⟩, h5⟩
  · exact Or.inr ⟨q, e1, ce, L, ⟨a, h', e2, f _ _ e3, e4⟩, h5⟩
section
variable {p : Program} {l : Launch} {e : Env} {R : Room} {s : State} {m : MethodId} {args : Array Value} {below : List Frame} {meth : Method} {c : Code} {Q : State → Prop} {w : OM} {cu su pc : Nat} {ls : LVs} {st r : List AV} {hs0 h : AH}
variable {M : MD} {d : Nat} {Φ : OUT → AH → Prop}
theorem cr_rf (hw : WOK w) (x : Option Nat) : ∃ rx : Option Nat, cr w x = va_rf rx := by
  cases x with
  | none => exact ⟨none, rfl⟩
  | some a =>
    unfold cr
    dsimp only
    split
    · rcases hw (ix a) (by assumption) with h1 | ⟨q, h1, -⟩
      · exact ⟨none, h1⟩
      · exact ⟨some q, h1⟩
    · exact ⟨some _, rfl⟩
theorem k_acmpE (hw : WOK w) {cc : ByteArray} {nL : Nat} (hx : p.tables.exec = Jvm.exec) (hb : c.code = cc) {off : Int} {tgt : Nat} {a : Option Nat} (hd : decode cc pc = .ok (.if_acmp .eq off, 3)) (ht : (pc : Int) + off = (tgt : Int)) (k : WPk p l e R s m args below meth c Q w nL hs0 cu su tgt ls r h) : WPk p l e R s m args below meth c Q w nL hs0 cu su pc ls (vr a :: vr a :: r) h := by
  intro hv H locs la hR hL hl
  have k2 := k (vs_tail (vs_tail hv)) H locs la hR hL hl
  obtain ⟨rx, e1⟩ := cr_rf hw a
  show W p l e R s m args below meth c H locs cu su Q (F0 m pc la (cr w a :: cr w a :: r.map (cv w)))
  rw [e1]
  exact lv_acmp_eq hx hb hd ht (fun _ => k2) (fun z => absurd rfl z)
theorem k_acmpN (hw : WOK w) {cc : ByteArray} {nL : Nat} (hx : p.tables.exec = Jvm.exec) (hb : c.code = cc) {off : Int} {tgt : Nat} {a : Option Nat} (hd : decode cc pc = .ok (.if_acmp .ne off, 3)) (ht : (pc : Int) + off = (tgt : Int)) (k : WPk p l e R s m args below meth c Q w nL hs0 cu su (pc + 3) ls r h) : WPk p l e R s m args below meth c Q w nL hs0 cu su pc ls (vr a :: vr a :: r) h := by
  intro hv H locs la hR hL hl
  have k2 := k (vs_tail (vs_tail hv)) H locs la hR hL hl
  obtain ⟨rx, e1⟩ := cr_rf hw a
  show W p l e R s m args below meth c H locs cu su Q (F0 m pc la (cr w a :: cr w a :: r.map (cv w)))
  rw [e1]
  exact lv_acmp_ne hx hb hd ht (fun z => absurd rfl z) (fun _ => k2)
theorem cls_of (hK : KU w s) {ci : Nat} (hc : ci ≤ 17) : s.vm.findClass (cnm ci) = some ((oD w).1 ci) := by
  by_cases h17 : ci = 17
  · subst h17; exact hK.2.2.2.2.2.1
  · obtain ⟨T, hT⟩ := kcl_nm ci (by omega)
    exact (hK.1.2.2.2.2.1 _ _ hT).2.1
theorem pick_get {tbl : List (Int × Nat)} {a : Nat} {Kp : Nat → Prop} (hp : pick tbl a Kp) : ∃ q ∈ tbl, (tg a : Int) = q.1 ∧ Kp q.2 := by
  induction tbl with
  | nil => exact hp.elim
  | cons q r ih =>
    obtain ⟨z, j⟩ := q
    cases r with
    | nil => exact ⟨(z, j), List.mem_cons_self, hp.1, hp.2⟩
    | cons q2 r2 =>
      rcases hp with hp | hp
      · exact ⟨(z, j), List.mem_cons_self, hp.1, hp.2⟩
      · obtain ⟨q, hq, h1⟩ := ih hp
        exact ⟨q, List.mem_cons_of_mem _ hq, h1⟩
abbrev IHd (l : Launch) (w : OM) (d : Nat) : Prop := ∀ j, j < NJ → ∀ (mc ms : Nat) (as : List AV) (h : AH) (Φ : OUT → AH → Prop), CT d mc ms j as h Φ → SC l w (MT j) d mc ms as h Φ
/-- a call, by the contract of depth d -/
theorem k_ncall (G : GK p l e R s m args below meth c w M d) (hthr : THR p l e R s m args below meth c Q w hs0 Φ (mTab M)) (IH : IHd l w d) {hd j : Nat} {as : List AV} {H : Heap} {locs : List Loc} {la : Array Slot} {stk : List Value} (hJ : CallJ M pc hd j) (hv : VALs hs0 h ls r) (hL : ∀ q ∈ locs, (oH w).size ≤ q.base) (hl : lv_has la (mL M) (lmp w ls)) (hB : cu ≤ R.cells ∧ su ≤ R.slots)
    (hn : ncall (CT d) R.cells R.slots Φ hd cu su (pc + 3) ls r as h (fun cu su pc ls st h => (cu ≤ R.cells ∧ su ≤ R.slots) → WPk p l e R s m args below meth c Q w (mL M) hs0 cu su pc ls st h) j)
    (hrun : ∀ (mc ms : Nat) (Ψ : OUT → AH → Prop), SC l w (MT j) d mc ms as h Ψ → stw r ≤ 8 → cu + mc ≤ R.cells → su + ms ≤ R.slots → 8 + (mL (MT j) + 11) + 96 * (d + 8) ≤ R.locals → ∀ T : State, T.heap = H → Stand p l e R s m args below meth c T locs cu su → CR p l e R s m args below meth c T locs cu su mc ms (F0 m pc la stk) (r.map (cv w)) (as.map (cv w)).toArray (kQc w h Ψ) (kXc w h Ψ) (oF w)) :
    W p l e R s m args below meth c H locs cu su Q (F0 m pc la stk) := by
  obtain ⟨hx, hb, hown, hts, hK, hw, hml, hnm, htab, hfr, hlo, -⟩ := G
  obtain ⟨hj, hl64, hH⟩ := hJ
  obtain ⟨hsw, hn⟩ := hn
  have h8 := Nat.le_of_ble_eq_true hsw
  have mono : ∀ (mc ms : Nat), cu + mc ≤ R.cells → su + ms ≤ R.slots → ∀ o h', aft Φ hd (fun ls' st' h' pc' => (fun cu su pc ls st h => (cu ≤ R.cells ∧ su ≤ R.slots) → WPk p l e R s m args below meth c Q w (mL M) hs0 cu su pc ls st h) (cu + mc) (su + ms) pc' ls' st' h') (pc + 3) ls r o h' → aft Φ hd (fun ls' st' h' pc' => WPk p l e R s m args below meth c Q w (mL M) hs0 (cu + mc) (su + ms) pc' ls' st' h') (pc + 3) ls r o h' := by
    intro mc ms h1 h2 o h'
    unfold aft
    split
    · exact fun k => k ⟨h1, h2⟩
    · exact fun k => k ⟨h1, h2⟩
    · split
      · exact id
      · exact id
      · exact fun k => k ⟨h1, h2⟩
  have go : ∀ (mc ms : Nat), cu + mc ≤ R.cells → su + ms ≤ R.slots → CT d mc ms j as h (aft Φ hd (fun ls' st' h' pc' => (fun cu su pc ls st h => (cu ≤ R.cells ∧ su ≤ R.slots) → WPk p l e R s m args below meth c Q w (mL M) hs0 cu su pc ls st h) (cu + mc) (su + ms) pc' ls' st' h') (pc + 3) ls r) → W p l e R s m args below meth c H locs cu su Q (F0 m pc la stk) := by
    intro mc ms h1 h2 hC
    have hC2 := SC_mono (IH j hj mc ms as h _ hC) (mono mc ms h1 h2)
    have hroom : 8 + (mL (MT j) + 11) + 96 * (d + 8) ≤ R.locals := room_le hl64 hlo
    exact k_after hw hx hb hown hts hK htab hthr hH h1 h2 hv.2.2 hv hL hl (hrun mc ms _ hC2 h8 h1 h2 hroom)
  rcases hn with hC | ⟨mc, ms, h1, h2, hC⟩
  · exact go 0 0 hB.1 hB.2 hC
  · exact go mc ms h1 h2 hC
set_option maxHeartbeats 4000000 in
theorem step_sound (G : GK p l e R s m args below meth c w M d) (hthr : THR p l e R s m args below meth c Q w hs0 Φ (mTab M)) (IH : IHd l w d) (E : REND p l e R s m args below meth c Q w M hs0 Φ)
    (hWr : ∀ (cu su pc nx ax : Nat) (tb : List (Int × Nat)) (ls : LVs) (st : List AV) (h : AH), WrongNew M pc nx ax tb → Nat.ble (stw st) 8 = true → cu + 1 ≤ R.cells → su + 7 ≤ R.slots → WPk p l e R s m args below meth c Q w (mL M) hs0 (cu + 1) (su + 7) nx ls (vo (nwA h 20 0) :: st) (nwH h 20 0) → WPk p l e R s m args below meth c Q w (mL M) hs0 cu su pc ls st h)
    {X : INS} (hi : InsOK M pc X) (hB : cu ≤ R.cells ∧ su ≤ R.slots) (hn : nxt (CT d) R.cells R.slots Φ X cu su ls st h (fun cu su pc ls st h => (cu ≤ R.cells ∧ su ≤ R.slots) → WPk p l e R s m args below meth c Q w (mL M) hs0 cu su pc ls st h)) : WPk p l e R s m args below meth c Q w (mL M) hs0 cu su pc ls st h := by
  obtain ⟨i, nx, ax, tb⟩ := X
  have G2 := G
  obtain ⟨hx, hb, hown, hts, hK, hw, hml, hnm, htab, hfr, hlo, htr⟩ := G
  cases i with
  | aload_n n =>
    obtain ⟨hd, rfl⟩ := hi
    unfold nxt at hn
    dsimp only at hn
    split at hn
    · rename_i hg
      exact k_aload_n hw hx hb hd hg (hn hB)
    · exact hn.elim
  | iload_n n =>
    obtain ⟨hd, rfl⟩ := hi
    unfold nxt at hn
    dsimp only at hn
    split at hn
    · rename_i hg
      exact k_iload_n hx hb hd hg (hn hB)
    · exact hn.elim
  | lload_n n =>
    obtain ⟨hd, rfl⟩ := hi
    unfold nxt at hn
    dsimp only at hn
    split at hn
    · rename_i hg
      exact k_lload_n hx hb hd hg (hn hB)
    · exact hn.elim
  | aload n =>
    obtain ⟨hd, rfl⟩ := hi
    unfold nxt at hn
    dsimp only at hn
    split at hn
    · rename_i hg
      exact k_aload hw hx hb hd hg (hn hB)
    · exact hn.elim
  | iload n =>
    obtain ⟨hd, rfl⟩ := hi
    unfold nxt at hn
    dsimp only at hn
    split at hn
    · rename_i hg
      exact k_iload hx hb hd hg (hn hB)
    · exact hn.elim
  | lload n =>
    obtain ⟨hd, rfl⟩ := hi
    unfold nxt at hn
    dsimp only at hn
    split at hn
    · rename_i hg
      exact k_lload hx hb hd hg (hn hB)
    · exact hn.elim
  | astore_n n =>
    obtain ⟨⟨hd, rfl⟩, hlt⟩ := hi
    unfold nxt at hn
    dsimp only at hn
    split at hn
    · exact k_astore_n hw hx hb hd hlt (lset1_mono hn (fun l' k => k hB))
    · exact hn.elim
  | istore_n n =>
    obtain ⟨⟨hd, rfl⟩, hlt⟩ := hi
    unfold nxt at hn
    dsimp only at hn
    split at hn
    · exact k_istore_n hw hx hb hd hlt (lset1_mono hn (fun l' k => k hB))
    · exact hn.elim
  | lstore_n n =>
    obtain ⟨⟨hd, rfl⟩, hlt⟩ := hi
    unfold nxt at hn
    dsimp only at hn
    split at hn
    · exact k_lstore_n hw hx hb hd hlt (lset2_mono hn (fun l' k => k hB))
    · exact hn.elim
  | astore n =>
    obtain ⟨⟨hd, rfl⟩, hlt⟩ := hi
    unfold nxt at hn
    dsimp only at hn
    split at hn
    · exact k_astore hw hx hb hd hlt (lset1_mono hn (fun l' k => k hB))
    · exact hn.elim
  | istore n =>
    obtain ⟨⟨hd, rfl⟩, hlt⟩ := hi
    unfold nxt at hn
    dsimp only at hn
    split at hn
    · exact k_istore hw hx hb hd hlt (lset1_mono hn (fun l' k => k hB))
    · exact hn.elim
  | lstore n =>
    obtain ⟨⟨hd, rfl⟩, hlt⟩ := hi
    unfold nxt at hn
    dsimp only at hn
    split at hn
    · exact k_lstore hw hx hb hd hlt (lset2_mono hn (fun l' k => k hB))
    · exact hn.elim
  | iconst n =>
    obtain ⟨hd, rfl⟩ := hi
    exact k_iconst hx hb hd (hn hB)
  | lconst n =>
    obtain ⟨hd, rfl⟩ := hi
    exact k_lconst hx hb hd (hn hB)
  | bipush n =>
    obtain ⟨⟨hd, rfl⟩, hz⟩ := hi
    exact k_bipush hx hb hd hz (hn hB)
  | sipush n =>
    obtain ⟨⟨hd, rfl⟩, hz⟩ := hi
    exact k_sipush hx hb hd hz (hn hB)
  | ldc idx =>
    obtain ⟨⟨hd, rfl⟩, hz⟩ := hi
    unfold nxt at hn
    dsimp only at hn
    split at hn
    · rename_i z b
      have hz := hz z b rfl
      match ax, hz, hn with
      | 0, hz, hn => exact k_ldc hx hb hown hts hz hd (hn hB)
      | 1, hz, hn =>
        obtain ⟨tx, i, h1, h2⟩ := hz
        exact k_ldcS hx hb hown hK h1 h2 hd (hn hB)
      | n + 2, hz, hn => exact k_ldcM hx hb hown hts hK hz.1 hz.2 hd (hn hB)
    · exact hn.elim
  | ldc_w idx =>
    obtain ⟨⟨hd, rfl⟩, hz⟩ := hi
    unfold nxt at hn
    dsimp only at hn
    split at hn
    · rename_i z b
      split at hn
      · exact k_ldcw hx hb hown hts (hz z b rfl) hd (hn hB)
      · exact hn.elim
    · exact hn.elim
  | ldc2_w idx =>
    obtain ⟨⟨hd, rfl⟩, hz⟩ := hi
    unfold nxt at hn
    dsimp only at hn
    split at hn
    · rename_i z b
      exact k_ldc2 hx hb hown hts (hz z b rfl) hd (hn hB)
    · exact hn.elim
  | aconst_null =>
    obtain ⟨hd, rfl⟩ := hi
    exact k_null hx hb hd (hn hB)
  | getfield idx =>
    obtain ⟨⟨hd, rfl⟩, hz⟩ := hi
    unfold nxt at hn
    dsimp only at hn
    split at hn
    · split at hn
      · rename_i z t
        rcases hz z t rfl with hf | hf
        · exact k_getfield hx hb hown hts hK hf hd hn.1 (fget_mono hn.2 (fun v k => k hB))
        · exact k_getfieldS hx hb hown hts hK hf hd hn.1 (fget_mono hn.2 (fun v k => k hB))
      · exact hn.elim
    · exact hn.elim
  | putfield idx =>
    obtain ⟨⟨hd, rfl⟩, hz⟩ := hi
    unfold nxt at hn
    dsimp only at hn
    split at hn
    · split at hn
      · rename_i z t
        have hf := put_imp hnm (hz z t rfl)
        exact k_putfield hw hx hb hown hts hK hf hd hn.1 (fput_mono hn.2 (fun v k => k hB))
      · exact hn.elim
    · exact hn.elim
  | getstatic idx =>
    obtain ⟨⟨hd, rfl⟩, hz⟩ := hi
    unfold nxt at hn
    dsimp only at hn
    split at hn
    · rename_i z b
      have hz := hz z b rfl
      match ax, hz, hn with
      | 0, hz, hn =>
        obtain ⟨rfl, hz7⟩ := hz
        exact k_getsI hx hb hown hts hK hz7 hd (hn hB)
      | n + 1, hz, hn => exact k_getsR hx hb hown hts hK hz hd (hn hB)
    · exact hn.elim
  | invokestatic idx =>
    obtain ⟨⟨hd, rfl⟩, hz⟩ := hi
    unfold nxt at hn
    dsimp only at hn
    split at hn
    · rename_i z j y hdl
      have hz := hz z j y hdl rfl
      split at hn
      · split at hn
        · rename_i as r hsp
          obtain ⟨hS, hJ⟩ := hz
          obtain ⟨e1, e2⟩ := spop0 hsp
          intro hv H locs la hR hL hl
          subst e1
          have hvr : VALs hs0 h ls r := ⟨hv.1, (fun v hq => hv.2.1 v (List.mem_append_right _ hq)), hv.2.2⟩
          have hva : ∀ x ∈ as, vok h x := fun x hq => hv.2.1 x (List.mem_append_left _ (List.mem_reverse.mpr hq))
          refine k_ncall G2 hthr IH hJ hvr hL hl hB hn (fun mc ms Ψ hM h8 h1 h2 h3 T hT X => ?_)
          rw [List.map_append, List.map_reverse]
          exact site_S hw X hx hb hown hts hK hS hM hR hT hva e2 hml hl.1 h8 hfr h3 h1 h2 hd
        · exact hn.elim
      · rename_i hz0
        split at hn
        · obtain ⟨⟨g1, g2, rfl, rfl, g5, g6, g7, g8, g9, g10⟩, k⟩ := hn
          have hz : Jvm.Cond.methodLink (oN M) idx arraycopyName ∈ lw_all := by
            revert hz
            split
            · rename_i h0; exact absurd rfl (hz0 ·)
            · exact id
          exact k_arraycopy hw hx hb hown hts hml hK hz g1 g2 g5 g6 g7 g8 g9 g10 (by omega) (by omega) hd (k hB)
        · exact hn.elim
    · exact hn.elim
  | invokespecial idx =>
    obtain ⟨⟨hd, rfl⟩, hz⟩ := hi
    unfold nxt at hn
    dsimp only at hn
    split at hn
    · rename_i z j y hdl
      have hz := hz z j y hdl rfl
      split at hn
      · rename_i as a r hsp
        obtain ⟨e1, e2⟩ := spop0 hsp
        split at hn
        · obtain ⟨hS, hJ⟩ := hz
          intro hv H locs la hR hL hl
          subst e1
          have hv2 : VALs hs0 h ls (vo a :: r) := ⟨hv.1, (fun v hq => hv.2.1 v (List.mem_append_right _ hq)), hv.2.2⟩
          have hva : ∀ x ∈ vo a :: as, vok h x := fun x hq => (List.mem_cons.mp hq).elim (fun z => z ▸ vs_head hv2) (fun hq => hv.2.1 x (List.mem_append_left _ (List.mem_reverse.mpr hq)))
          obtain ⟨h10, hn⟩ := hn
          obtain ⟨q, hq⟩ := ref_of hR (vs_head hv2) h10
          refine k_ncall G2 hthr IH hJ (vs_tail hv2) hL hl hB hn (fun mc ms Ψ hM h8 h1 h2 h3 T hT X => ?_)
          rw [List.map_append, List.map_reverse, List.map_cons, show cv w (vo a) = .ref q from hq]
          exact site_I hw X hx hb hown hts hK hS hM hR hT hva e2 hq hml hl.1 h8 hfr h3 h1 h2 hd
        · rename_i hz0
          have hz : ax = 0 ∧ Jvm.Cond.methodLink (oN M) idx Lib.objectInit ∈ lw_all := by
            revert hz
            split
            · rename_i h0; exact absurd rfl (hz0 ·)
            · exact id
          obtain ⟨rfl, hz7⟩ := hz
          cases hsp
          obtain ⟨h10, h8, hn⟩ := hn
          exact k_objinit hx hb hw hown hts hml hz7 h10 hd h8 (by omega) (by omega) (hn hB)
      · exact hn.elim
    · exact hn.elim
  | invokevirtual idx =>
    obtain ⟨⟨hd, rfl⟩, hz⟩ := hi
    unfold nxt at hn
    dsimp only at hn
    split at hn
    · rename_i z hdl tbl
      have hz := hz z hdl tbl rfl
      split at hn
      · rename_i as a r hsp
        obtain ⟨e1, e2⟩ := spop0 hsp
        split at hn
        · obtain ⟨⟨zz, j⟩, hq, htg, hn⟩ := pick_get hn
          obtain ⟨ci, hci, hzc, hS, hJ⟩ := hz _ hq
          have htg2 : tg a = 16 + ci := by
            have h1 : ((tg a : Nat) : Int) = ((16 + ci : Nat) : Int) := htg.trans hzc
            exact_mod_cast h1
          have hcl := cls_of hK hci
          intro hv H locs la hR hL hl
          subst e1
          have hv2 : VALs hs0 h ls (vo a :: r) := ⟨hv.1, (fun v hq => hv.2.1 v (List.mem_append_right _ hq)), hv.2.2⟩
          have hva : ∀ x ∈ vo a :: as, vok h x := fun x hq => (List.mem_cons.mp hq).elim (fun z => z ▸ vs_head hv2) (fun hq => hv.2.1 x (List.mem_append_left _ (List.mem_reverse.mpr hq)))
          obtain ⟨q, hq⟩ := ref_of hR (vs_head hv2) (by omega)
          refine k_ncall G2 hthr IH hJ (vs_tail hv2) hL hl hB hn (fun mc ms Ψ hM h8 h1 h2 h3 T hT X => ?_)
          rw [List.map_append, List.map_reverse, List.map_cons, show cv w (vo a) = .ref q from hq]
          rcases hS with hS | hS
          · exact site_V hw X hx hb hown hts hK hS hM hR hT hva htg2 hcl e2 hq hml hl.1 h8 hfr h3 h1 h2 hd
          · exact site_U hw X hx hb hown hts hK hS hM hR hT hva htg2 hcl e2 hq hml hl.1 h8 hfr h3 h1 h2 hd
        · rename_i hz0
          have hz : ax = 0 ∧ hdl = extAd 3 ∧ Jvm.Cond.methodLink (oN M) idx ⟨"java/lang/Object", "getClass", "()Ljava/lang/Class;"⟩ ∈ lw_all := by
            revert hz
            split
            · rename_i h0; exact absurd rfl (hz0 ·)
            · exact id
          obtain ⟨rfl, hz1, hz2⟩ := hz
          cases hsp
          obtain ⟨h4, h8, hn⟩ := hn
          exact k_getClass hw hx hb hown hts hml hK hz2 hz1 h4 h8 (by omega) (by omega) hd (hn hB)
      · exact hn.elim
    · exact hn.elim
  | new idx =>
    unfold nxt at hn
    dsimp only at hn
    split at hn
    · rename_i z n
      obtain ⟨h8, h1, h2, k⟩ := hn
      rcases hi with ⟨⟨hd, rfl⟩, hz⟩ | hz
      · exact k_new hw hx hb hown hts hK (hz z n rfl) hd h1 h2 (k ⟨h1, h2⟩)
      · obtain ⟨w1, w2, w3, w4, w5, w6, w7⟩ := id hz
        cases w6
        subst w5
        exact hWr cu su pc nx 20 _ ls st h hz h8 h1 h2 (k ⟨h1, h2⟩)
    · exact hn.elim
  | newarray a =>
    obtain ⟨⟨hd, rfl⟩, hz⟩ := hi
    unfold nxt at hn
    dsimp only at hn
    split at hn
    · obtain ⟨n0, n1, h1, h2, k⟩ := hn
      exact k_newarray hw hx hb hts hK hz hd n0 n1 h1 h2 (k ⟨h1, h2⟩)
    · exact hn.elim
  | anewarray idx =>
    obtain ⟨⟨hd, rfl⟩, hz⟩ := hi
    unfold nxt at hn
    dsimp only at hn
    split at hn
    · obtain ⟨n0, n1, h1, h2, k⟩ := hn
      exact k_anewarray hw hx hb hown hts hK hz hd n0 n1 h1 h2 (k ⟨h1, h2⟩)
    · exact hn.elim
  | arraylength =>
    obtain ⟨hd, rfl⟩ := hi
    unfold nxt at hn
    dsimp only at hn
    split at hn
    · exact k_arraylength hx hb hK hn.1 hd (hn.2 hB)
    · exact hn.elim
  | iaload =>
    obtain ⟨hd, rfl⟩ := hi
    unfold nxt at hn
    dsimp only at hn
    split at hn
    · obtain ⟨h1, h2, h3, v, h4, k⟩ := hn
      exact k_iaload hx hb hK h1 h2 h3 h4 hd (k hB)
    · exact hn.elim
  | baload =>
    obtain ⟨hd, rfl⟩ := hi
    unfold nxt at hn
    dsimp only at hn
    split at hn
    · obtain ⟨h1, h2, h3, v, h4, k⟩ := hn
      exact k_baload hx hb hK h1 h2 h3 h4 hd (k hB)
    · exact hn.elim
  | laload =>
    obtain ⟨hd, rfl⟩ := hi
    unfold nxt at hn
    dsimp only at hn
    split at hn
    · obtain ⟨h1, h2, h3, v, h4, k⟩ := hn
      exact k_laload hx hb hK h1 h2 h3 h4 hd (k hB)
    · exact hn.elim
  | aaload =>
    obtain ⟨hd, rfl⟩ := hi
    unfold nxt at hn
    dsimp only at hn
    split at hn
    · obtain ⟨h1, h2, h3, v, h4, k⟩ := hn
      exact k_aaload hx hb hK h1 h2 h3 h4 hd (k hB)
    · exact hn.elim
  | iastore =>
    obtain ⟨hd, rfl⟩ := hi
    unfold nxt at hn
    dsimp only at hn
    split at hn
    · obtain ⟨h1, h2, h3, k⟩ := hn
      exact k_iastore hw hx hb hK h1 h2 h3 hd (k hB)
    · exact hn.elim
  | bastore =>
    obtain ⟨hd, rfl⟩ := hi
    unfold nxt at hn
    dsimp only at hn
    split at hn
    · obtain ⟨h1, h2, h3, k⟩ := hn
      exact k_bastore hw hx hb hK h1 h2 h3 hd (k hB)
    · exact hn.elim
  | lastore =>
    obtain ⟨hd, rfl⟩ := hi
    unfold nxt at hn
    dsimp only at hn
    split at hn
    · obtain ⟨h1, h2, h3, k⟩ := hn
      exact k_lastore hw hx hb hK h1 h2 h3 hd (k hB)
    · exact hn.elim
  | aastore =>
    obtain ⟨hd, rfl⟩ := hi
    unfold nxt at hn
    dsimp only at hn
    split at hn
    · obtain ⟨h1, h2, h3, k⟩ := hn
      exact k_aastore hw hx hb hK h1 h2 h3 hd (k hB)
    · exact hn.elim
  | iadd =>
    obtain ⟨hd, rfl⟩ := hi
    unfold nxt at hn
    dsimp only at hn
    split at hn
    · exact k_iadd hx hb hd (hn hB)
    · exact hn.elim
  | isub =>
    obtain ⟨hd, rfl⟩ := hi
    unfold nxt at hn
    dsimp only at hn
    split at hn
    · exact k_isub hx hb hd (hn hB)
    · exact hn.elim
  | imul =>
    obtain ⟨hd, rfl⟩ := hi
    unfold nxt at hn
    dsimp only at hn
    split at hn
    · exact k_imul hx hb hd (hn hB)
    · exact hn.elim
  | iand =>
    obtain ⟨hd, rfl⟩ := hi
    unfold nxt at hn
    dsimp only at hn
    split at hn
    · exact k_iand hx hb hd (hn hB)
    · exact hn.elim
  | ior =>
    obtain ⟨hd, rfl⟩ := hi
    unfold nxt at hn
    dsimp only at hn
    split at hn
    · exact k_ior hx hb hd (hn hB)
    · exact hn.elim
  | ishl =>
    obtain ⟨hd, rfl⟩ := hi
    unfold nxt at hn
    dsimp only at hn
    split at hn
    · exact k_ishl hx hb hd (hn hB)
    · exact hn.elim
  | ishr =>
    obtain ⟨hd, rfl⟩ := hi
    unfold nxt at hn
    dsimp only at hn
    split at hn
    · exact k_ishr hx hb hd (hn hB)
    · exact hn.elim
  | iushr =>
    obtain ⟨hd, rfl⟩ := hi
    unfold nxt at hn
    dsimp only at hn
    split at hn
    · exact k_iushr hx hb hd (hn hB)
    · exact hn.elim
  | ladd =>
    obtain ⟨hd, rfl⟩ := hi
    unfold nxt at hn
    dsimp only at hn
    split at hn
    · exact k_ladd hx hb hd (hn hB)
    · exact hn.elim
  | lsub =>
    obtain ⟨hd, rfl⟩ := hi
    unfold nxt at hn
    dsimp only at hn
    split at hn
    · exact k_lsub hx hb hd (hn hB)
    · exact hn.elim
  | lmul =>
    obtain ⟨hd, rfl⟩ := hi
    unfold nxt at hn
    dsimp only at hn
    split at hn
    · exact k_lmul hx hb hd (hn hB)
    · exact hn.elim
  | land =>
    obtain ⟨hd, rfl⟩ := hi
    unfold nxt at hn
    dsimp only at hn
    split at hn
    · exact k_land hx hb hd (hn hB)
    · exact hn.elim
  | lor =>
    obtain ⟨hd, rfl⟩ := hi
    unfold nxt at hn
    dsimp only at hn
    split at hn
    · exact k_lor hx hb hd (hn hB)
    · exact hn.elim
  | lxor =>
    obtain ⟨hd, rfl⟩ := hi
    unfold nxt at hn
    dsimp only at hn
    split at hn
    · exact k_lxor hx hb hd (hn hB)
    · exact hn.elim
  | lshl =>
    obtain ⟨hd, rfl⟩ := hi
    unfold nxt at hn
    dsimp only at hn
    split at hn
    · exact k_lshl hx hb hd (hn hB)
    · exact hn.elim
  | lshr =>
    obtain ⟨hd, rfl⟩ := hi
    unfold nxt at hn
    dsimp only at hn
    split at hn
    · exact k_lshr hx hb hd (hn hB)
    · exact hn.elim
  | lushr =>
    obtain ⟨hd, rfl⟩ := hi
    unfold nxt at hn
    dsimp only at hn
    split at hn
    · exact k_lushr hx hb hd (hn hB)
    · exact hn.elim
  | l2i =>
    obtain ⟨hd, rfl⟩ := hi
    unfold nxt at hn
    dsimp only at hn
    split at hn
    · exact k_l2i hx hb hd (hn hB)
    · exact hn.elim
  | i2b =>
    obtain ⟨hd, rfl⟩ := hi
    unfold nxt at hn
    dsimp only at hn
    split at hn
    · exact k_i2b hx hb hd (hn hB)
    · exact hn.elim
  | i2c =>
    obtain ⟨hd, rfl⟩ := hi
    unfold nxt at hn
    dsimp only at hn
    split at hn
    · exact k_i2c hx hb hd (hn hB)
    · exact hn.elim
  | lcmp =>
    obtain ⟨hd, rfl⟩ := hi
    unfold nxt at hn
    dsimp only at hn
    split at hn
    · exact k_lcmp hx hb hd (hn hB)
    · exact hn.elim
  | idiv =>
    obtain ⟨hd, rfl⟩ := hi
    unfold nxt at hn
    dsimp only at hn
    split at hn
    · obtain ⟨h1, h2, h3, h4, k⟩ := hn
      exact k_idiv hx hb hd h1 h2 h3 h4 (k hB)
    · exact hn.elim
  | irem =>
    obtain ⟨hd, rfl⟩ := hi
    unfold nxt at hn
    dsimp only at hn
    split at hn
    · obtain ⟨h1, h2, h3, h4, k⟩ := hn
      exact k_irem hx hb hd h1 h2 h3 h4 (k hB)
    · exact hn.elim
  | ldiv =>
    obtain ⟨hd, rfl⟩ := hi
    unfold nxt at hn
    dsimp only at hn
    split at hn
    · obtain ⟨h1, k⟩ := hn
      exact k_ldiv hx hb hd h1 (k hB)
    · exact hn.elim
  | lrem =>
    obtain ⟨hd, rfl⟩ := hi
    unfold nxt at hn
    dsimp only at hn
    split at hn
    · obtain ⟨h1, k⟩ := hn
      exact k_lrem hx hb hd h1 (k hB)
    · exact hn.elim
  | i2l =>
    obtain ⟨hd, rfl⟩ := hi
    unfold nxt at hn
    dsimp only at hn
    split at hn
    · obtain ⟨h1, k⟩ := hn
      exact k_i2l hx hb hd h1 (k hB)
    · exact hn.elim
  | ifCond cn off =>
    obtain ⟨⟨hd, rfl⟩, ht⟩ := hi
    unfold nxt at hn
    dsimp only at hn
    split at hn
    · exact k_ifCond hx hb hd ht hn.1 (cmpI_mono hn.2 (fun k => k hB) (fun k => k hB))
    · exact hn.elim
  | if_icmp cn off =>
    obtain ⟨⟨hd, rfl⟩, ht⟩ := hi
    unfold nxt at hn
    dsimp only at hn
    split at hn
    · exact k_if_icmp hx hb hd ht hn.1 hn.2.1 (cmpI_mono hn.2.2 (fun k => k hB) (fun k => k hB))
    · exact hn.elim
  | if_acmp cn off =>
    obtain ⟨⟨hd, rfl⟩, ht⟩ := hi
    unfold nxt at hn
    dsimp only at hn
    split at hn
    · cases cn with
      | eq => obtain ⟨rfl, k⟩ := hn; exact k_acmpE hw hx hb hd ht (k hB)
      | ne => obtain ⟨rfl, k⟩ := hn; exact k_acmpN hw hx hb hd ht (k hB)
    · exact hn.elim
  | ifnull off =>
    obtain ⟨⟨hd, rfl⟩, ht⟩ := hi
    unfold nxt at hn
    dsimp only at hn
    split at hn
    · exact k_ifnullN hx hb hd ht (hn hB)
    · exact k_ifnull hx hb hn.1 hd (hn.2 hB)
    · exact hn.elim
  | ifnonnull off =>
    obtain ⟨⟨hd, rfl⟩, ht⟩ := hi
    unfold nxt at hn
    dsimp only at hn
    split at hn
    · exact k_ifnonnullN hx hb hd (hn hB)
    · exact k_ifnonnull hx hb hn.1 hd ht (hn.2 hB)
    · exact hn.elim
  | goto off =>
    obtain ⟨⟨hd, rfl⟩, ht⟩ := hi
    exact k_goto hx hb hd ht (hn hB)
  | iinc n z =>
    obtain ⟨⟨hd, rfl⟩, hlt⟩ := hi
    unfold nxt at hn
    dsimp only at hn
    split at hn
    · rename_i hg
      exact k_iinc hw hx hb hd hlt hg (lset1_mono hn (fun l' k => k hB))
    · exact hn.elim
  | tableswitch df lo hi2 offs =>
    obtain ⟨⟨len, hd⟩, h1, h2, h3⟩ := hi
    unfold nxt at hn
    dsimp only at hn
    split at hn
    · exact k_tableswitch hx hb hd h1 h2 h3 hn.1 (tsw_mono hn.2 (fun n k => k hB))
    · exact hn.elim
  | dup =>
    obtain ⟨hd, rfl⟩ := hi
    unfold nxt at hn
    dsimp only at hn
    split at hn
    · exact k_dupi hx hb hd (hn hB)
    · exact k_dupr hw hx hb hd (hn hB)
    · exact hn.elim
  | dup_x1 =>
    obtain ⟨hd, rfl⟩ := hi
    unfold nxt at hn
    dsimp only at hn
    split at hn
    · exact k_dup_x1 hw hx hb hd hn.1 hn.2.1 (hn.2.2 hB)
    · exact hn.elim
  | dup2 =>
    obtain ⟨hd, rfl⟩ := hi
    unfold nxt at hn
    dsimp only at hn
    split at hn
    · exact k_dup2 hw hx hb hd hn.1 hn.2.1 (hn.2.2 hB)
    · exact hn.elim
  | pop =>
    obtain ⟨hd, rfl⟩ := hi
    unfold nxt at hn
    dsimp only at hn
    split at hn
    · exact k_pop hw hx hb hd hn.1 (hn.2 hB)
    · exact hn.elim
  | checkcast idx =>
    obtain ⟨⟨hd, rfl⟩, hz⟩ := hi
    unfold nxt at hn
    dsimp only at hn
    split at hn
    · exact k_checkcast hx hb hown hts hK hz hn.1 hd (hn.2 hB)
    · exact hn.elim
  | athrow =>
    obtain ⟨⟨hd, rfl⟩, hz⟩ := hi
    unfold nxt at hn
    dsimp only at hn
    split at hn
    · exact k_athrow hx hb hthr hz hn.1 hB.1 hB.2 hd hn.2
    · exact hn.elim
  | ireturn =>
    obtain ⟨⟨hd, rfl⟩, hz⟩ := hi
    unfold nxt at hn
    dsimp only at hn
    split at hn
    · exact E.1 _ _ _ _ _ _ _ hB.1 hB.2 hd hz hn.1 hn.2
    · exact hn.elim
  | lreturn =>
    obtain ⟨⟨hd, rfl⟩, hz⟩ := hi
    unfold nxt at hn
    dsimp only at hn
    split at hn
    · exact E.2.1 _ _ _ _ _ _ hB.1 hB.2 hd hz hn
    · exact hn.elim
  | areturn =>
    obtain ⟨⟨hd, rfl⟩, rt, h1, h2⟩ := hi
    unfold nxt at hn
    dsimp only at hn
    split at hn
    · exact E.2.2.1 _ _ _ _ _ _ rt hB.1 hB.2 hd h1 h2 hn
    · exact hn.elim
  | return_ =>
    obtain ⟨⟨hd, rfl⟩, hz⟩ := hi
    unfold nxt at hn
    dsimp only at hn
    split at hn
    · exact E.2.2.2 _ _ _ _ _ hB.1 hB.2 hd hz hn
    · exact hn.elim
  | _ => exact False.elim hn
end
