/-! THE ABSTRACT MACHINE: values, heaps, one instruction as a predicate transformer, contracts -/
abbrev AV : Type := Int ⊕ (Int64 ⊕ Option Nat)
abbrev vi (i : Int) : AV := Sum.inl i
abbrev vl (x : Int64) : AV := Sum.inr (Sum.inl x)
abbrev vr (r : Option Nat) : AV := Sum.inr (Sum.inr r)
abbrev vo (a : Nat) : AV := Sum.inr (Sum.inr (some a))
abbrev vnl : AV := Sum.inr (Sum.inr none)
/-- next index and the address at each index; ints; longs; references -/
abbrev AH : Type := (Nat × (Nat → Nat)) × (Nat → Int → Int) × (Nat → Int → Int64) × (Nat → Int → Option Nat)
abbrev hI (h : AH) : Nat → Int → Int := h.2.1
abbrev hL (h : AH) : Nat → Int → Int64 := h.2.2.1
abbrev hP (h : AH) : Nat → Int → Option Nat := h.2.2.2
abbrev hN (h : AH) : Nat := h.1.1
/-- what an address says: its tag, its length, its index -/
def tg (a : Nat) : Nat := a / 4096 % 64
def ln (a : Nat) : Nat := a % 4096
def ix (a : Nat) : Nat := a / 262144
def mk (i t n : Nat) : Nat := (i * 64 + t) * 4096 + n
def uI (f : Nat → Int → Int) (a : Nat) (k v : Int) : Nat → Int → Int := fun b m => if b = a ∧ m = k then v else f b m
def uL (f : Nat → Int → Int64) (a : Nat) (k : Int) (v : Int64) : Nat → Int → Int64 := fun b m => if b = a ∧ m = k then v else f b m
def uP (f : Nat → Int → Option Nat) (a : Nat) (k : Int) (v : Option Nat) : Nat → Int → Option Nat := fun b m => if b = a ∧ m = k then v else f b m
abbrev sI (h : AH) (a : Nat) (k v : Int) : AH := (h.1, uI h.2.1 a k v, h.2.2.1, h.2.2.2)
abbrev sL (h : AH) (a : Nat) (k : Int) (v : Int64) : AH := (h.1, h.2.1, uL h.2.2.1 a k v, h.2.2.2)
abbrev sP (h : AH) (a : Nat) (k : Int) (v : Option Nat) : AH := (h.1, h.2.1, h.2.2.1, uP h.2.2.2 a k v)
/-- a new cell of tag t and length n -/
def nwA (h : AH) (t n : Nat) : Nat := mk h.1.1 t n
def nwH (h : AH) (t n : Nat) : AH := ((h.1.1 + 1, fun i => if i = h.1.1 then mk h.1.1 t n else h.1.2 i), (fun b m => if b = mk h.1.1 t n then 0 else h.2.1 b m), (fun b m => if b = mk h.1.1 t n then 0 else h.2.2.1 b m), (fun b m => if b = mk h.1.1 t n then none else h.2.2.2 b m))
/-- n references of a from the start on, into b -/
def cpP (f : Nat → Int → Option Nat) (a b : Nat) (n : Int) : Nat → Int → Option Nat := fun c m => if c = b ∧ 0 ≤ m ∧ m < n then f a m else f c m
abbrev LVs : Type := List (Nat × AV)
def cat2 (v : AV) : Bool := match v with
  | .inr (.inl _) => true
  | _ => false
def lget (ls : LVs) (i : Nat) : Option AV := match ls with
  | [] => none
  | q :: r => cond (Nat.beq q.1 i) (some q.2) (lget r i)
/-- store at i (in order of the places), and go on -/
def linsK (ls : LVs) (i : Nat) (v : AV) (K : LVs → Prop) : Prop := match ls with
  | [] => K [(i, v)]
  | q :: r => cond (Nat.ble q.1 i) (linsK r i v (fun r' => K (q :: r'))) (K ((i, v) :: q :: r))
/-- a long that ends in i is spoilt -/
def lcutK (ls : LVs) (i : Nat) (K : LVs → Prop) : Prop := match ls with
  | [] => K []
  | q :: r => cond (Nat.beq (q.1 + 1) i && cat2 q.2) (lcutK r i K) (lcutK r i (fun r' => K (q :: r')))
def lremK (ls : LVs) (i : Nat) (K : LVs → Prop) : Prop := match ls with
  | [] => K []
  | q :: r => cond (Nat.beq q.1 i) (lremK r i K) (lremK r i (fun r' => K (q :: r')))
def lset1 (ls : LVs) (i : Nat) (v : AV) (K : LVs → Prop) : Prop := lcutK ls i (fun l1 => lremK l1 i (fun l2 => linsK l2 i v K))
def lset2 (ls : LVs) (i : Nat) (v : AV) (K : LVs → Prop) : Prop := lcutK ls i (fun l1 => lremK l1 (i + 1) (fun l2 => lremK l2 i (fun l3 => linsK l3 i v K)))
/-- only these locals -/
def lkeepK (ls : LVs) (is : List Nat) (K : LVs → Prop) : Prop := match ls with
  | [] => K []
  | q :: r => cond (is.any (fun i => Nat.beq i q.1)) (lkeepK r is (fun r' => K (q :: r'))) (lkeepK r is K)
def lent (as : List AV) (i : Nat) : LVs := match as with
  | [] => []
  | v :: r => (i, v) :: lent r (cond (cat2 v) (i + 2) (i + 1))
def iAnd (a b : Int) : Int := (Int32.ofInt a &&& Int32.ofInt b).toInt
def iOr (a b : Int) : Int := (Int32.ofInt a ||| Int32.ofInt b).toInt
def iShl (a b : Int) : Int := (Int32.ofInt a <<< (Int32.ofInt b &&& 31)).toInt
def iShr (a b : Int) : Int := (Int32.ofInt a >>> (Int32.ofInt b &&& 31)).toInt
def iUshr (a b : Int) : Int := ((Int32.ofInt a).toUInt32 >>> ((Int32.ofInt b).toUInt32 &&& Int32.toUInt32 31)).toInt32.toInt
def iB (a : Int) : Int := ((Int32.ofInt a).toInt8.toInt32).toInt
def iC (a : Int) : Int := ((Int32.ofInt a).toUInt32 % 65536).toInt32.toInt
def lShl (a : Int64) (b : Int) : Int64 := a <<< ((Int32.ofInt b).toInt64 &&& 63)
def lShr (a : Int64) (b : Int) : Int64 := a >>> ((Int32.ofInt b).toInt64 &&& 63)
def lUshr (a : Int64) (b : Int) : Int64 := (a.toUInt64 >>> ((Int32.ofInt b).toInt64.toUInt64 &&& Int64.toUInt64 63)).toInt64
def lCmp (x y : Int64) : Int := if y < x then 1 else if x = y then 0 else -1
def l2I (x : Int64) : Int := x.toInt32.toInt
/-- the answer (a value or none) or the thrown object -/
abbrev OUT : Type := Option AV ⊕ Nat
/-- instruction, next pc, target (or class, count ..), table -/
abbrev INS : Type := Instr × Nat × Nat × List (Int × Nat)
abbrev KT : Type := Nat → Nat → Nat → LVs → List AV → AH → Prop
/-- arguments off the stack: n of them, the last on top -/
def spop (n : Nat) (st : List AV) (acc : List AV) : Option (List AV × List AV) := match n with
  | 0 => some (acc, st)
  | n + 1 => match st with
    | [] => none
    | v :: r => spop n r (v :: acc)
def arrI (a : Nat) : Bool := Nat.beq (tg a) 0 || Nat.beq (tg a) 7
def arrB (a : Nat) : Bool := Nat.beq (tg a) 1 || Nat.beq (tg a) 2 || Nat.beq (tg a) 8
def arrP (a : Nat) : Bool := Nat.beq (tg a) 4 || Nat.beq (tg a) 5 || Nat.beq (tg a) 6 || Nat.beq (tg a) 9
def arrAny (a : Nat) : Bool := Nat.ble (tg a) 9
/-- a field's value: k its number, t its type (0 int, 1 long, 2 reference, 3 boolean) -/
def fget (h : AH) (a : Nat) (k : Int) (t : Nat) (K : AV → Prop) : Prop := match t with
  | 0 => ∃ v, hI h a k = v ∧ K (vi v)
  | 1 => ∃ v, hL h a k = v ∧ K (vl v)
  | 2 => ∃ v, hP h a k = v ∧ K (vr v)
  | _ => ∃ v, hI h a k = v ∧ K (vi v)
def fput (h : AH) (a : Nat) (k : Int) (t : Nat) (v : AV) (K : AH → Prop) : Prop := match t with
  | 0 => match v with
    | .inl i => K (sI h a k i)
    | _ => False
  | 1 => match v with
    | .inr (.inl x) => K (sL h a k x)
    | _ => False
  | 2 => match v with
    | .inr (.inr r) => K (sP h a k r)
    | _ => False
  | _ => match v with
    | .inl i => (i = 0 ∨ i = 1) ∧ K (sI h a k i)
    | _ => False
def tsw (tbl : List (Int × Nat)) (dflt : Nat) (x : Int) (K : Nat → Prop) : Prop := match tbl with
  | [] => K dflt
  | (z, p) :: r => (x = z → K p) ∧ (x ≠ z → tsw r dflt x K)
/-- which method a receiver of this tag runs -/
def pick (tbl : List (Int × Nat)) (a : Nat) (K : Nat → Prop) : Prop := match tbl with
  | [] => False
  | [(z, j)] => (tg a : Int) = z ∧ K j
  | (z, j) :: r => ((tg a : Int) = z ∧ K j) ∨ pick r a K
abbrev CTT : Type := Nat → Nat → Nat → List AV → AH → (OUT → AH → Prop) → Prop
/-- after a call: the answer on the stack; a thrown object: 0 leaves the method, 1 may not be, n + 2 the handler at n -/
def aft (Φ : OUT → AH → Prop) (hd : Nat) (k : LVs → List AV → AH → Nat → Prop) (nx : Nat) (ls : LVs) (r : List AV) : OUT → AH → Prop := fun o h1 => match o with
  | .inl none => k ls r h1 nx
  | .inl (some v) => k ls (v :: r) h1 nx
  | .inr q => match hd with
    | 0 => Φ (.inr q) h1
    | 1 => False
    | n + 2 => k ls [vo q] h1 n
def stw (r : List AV) : Nat := match r with
  | [] => 0
  | v :: q => cond (cat2 v) 2 1 + stw q
/-- a call of j, within the room -/
def ncall (C : CTT) (MC MS : Nat) (Φ : OUT → AH → Prop) (hd cu su : Nat) (nx : Nat) (ls : LVs) (r : List AV) (as : List AV) (h : AH) (k : KT) (j : Nat) : Prop :=
  Nat.ble (stw r) 8 = true ∧ (C 0 0 j as h (aft Φ hd (fun ls' st' h' pc' => k cu su pc' ls' st' h') nx ls r) ∨ ∃ mc ms : Nat, cu + mc ≤ MC ∧ su + ms ≤ MS ∧ C mc ms j as h (aft Φ hd (fun ls' st' h' pc' => k (cu + mc) (su + ms) pc' ls' st' h') nx ls r))
abbrev iR (a : Int) : Prop := -2147483648 ≤ a ∧ a ≤ 2147483647
def cmpI (c : ClassFile.Cond) (a b : Int) (T F : Prop) : Prop := match c with
  | .eq => (a = b → T) ∧ (a ≠ b → F)
  | .ne => (a ≠ b → T) ∧ (a = b → F)
  | .lt => (a < b → T) ∧ (b ≤ a → F)
  | .ge => (b ≤ a → T) ∧ (a < b → F)
  | .gt => (b < a → T) ∧ (a ≤ b → F)
  | .le => (a ≤ b → T) ∧ (b < a → F)
def nxt (C : CTT) (MC MS : Nat) (Φ : OUT → AH → Prop) (X : INS) (cu su : Nat) (ls : LVs) (st : List AV) (h : AH) (k : KT) : Prop := match X with | (i, nx, ax, tb) => match i with
  | .aload_n n => match lget ls n.val with
    | some (.inr (.inr r)) => k cu su nx ls (vr r :: st) h
    | _ => False
  | .iload_n n => match lget ls n.val with
    | some (.inl i) => k cu su nx ls (vi i :: st) h
    | _ => False
  | .lload_n n => match lget ls n.val with
    | some (.inr (.inl x)) => k cu su nx ls (vl x :: st) h
    | _ => False
  | .aload n => match lget ls n with
    | some (.inr (.inr r)) => k cu su nx ls (vr r :: st) h
    | _ => False
  | .iload n => match lget ls n with
    | some (.inl i) => k cu su nx ls (vi i :: st) h
    | _ => False
  | .lload n => match lget ls n with
    | some (.inr (.inl x)) => k cu su nx ls (vl x :: st) h
    | _ => False
  | .astore_n n => match st with
    | .inr (.inr r) :: q => lset1 ls n.val (vr r) (fun l => k cu su nx l q h)
    | _ => False
  | .istore_n n => match st with
    | .inl i :: q => lset1 ls n.val (vi i) (fun l => k cu su nx l q h)
    | _ => False
  | .lstore_n n => match st with
    | .inr (.inl x) :: q => lset2 ls n.val (vl x) (fun l => k cu su nx l q h)
    | _ => False
  | .astore n => match st with
    | .inr (.inr r) :: q => lset1 ls n (vr r) (fun l => k cu su nx l q h)
    | _ => False
  | .istore n => match st with
    | .inl i :: q => lset1 ls n (vi i) (fun l => k cu su nx l q h)
    | _ => False
  | .lstore n => match st with
    | .inr (.inl x) :: q => lset2 ls n (vl x) (fun l => k cu su nx l q h)
    | _ => False
  | .iconst i => k cu su nx ls (vi i :: st) h
  | .bipush i => k cu su nx ls (vi i :: st) h
  | .sipush i => k cu su nx ls (vi i :: st) h
  | .lconst i => k cu su nx ls (vl (Int64.ofInt i.val) :: st) h
  | .ldc _ => match tb with
    | [(z, b)] => match ax with
      | 0 => k cu su nx ls (vi z :: st) h
      | _ => k cu su nx ls (vo b :: st) h
    | _ => False
  | .ldc_w _ => match tb with
    | [(z, _)] => match ax with
      | 0 => k cu su nx ls (vi z :: st) h
      | _ => False
    | _ => False
  | .ldc2_w _ => match tb with
    | [(z, _)] => k cu su nx ls (vl (Int64.ofInt z) :: st) h
    | _ => False
  | .aconst_null => k cu su nx ls (vnl :: st) h
  | .getfield _ => match st with
    | .inr (.inr (some a)) :: r => match tb with
      | [(z, t)] => tg a = ax ∧ fget h a z t (fun v => k cu su nx ls (v :: r) h)
      | _ => False
    | _ => False
  | .putfield _ => match st with
    | v :: .inr (.inr (some a)) :: r => match tb with
      | [(z, t)] => tg a = ax ∧ fput h a z t v (fun h' => k cu su nx ls r h')
      | _ => False
    | _ => False
  | .getstatic _ => match tb with
    | [(z, b)] => match ax with
      | 0 => k cu su nx ls (vi z :: st) h
      | _ => k cu su nx ls (vo b :: st) h
    | _ => False
  | .invokestatic _ => match tb with
    | [(z, j), (_, hd)] => match z with
      | 0 => match spop ax st [] with
        | some (as, r) => ncall C MC MS Φ hd cu su nx ls r as h k j
        | none => False
      | _ => match st with
        | .inl n :: .inl d :: .inr (.inr (some b)) :: .inl s :: .inr (.inr (some a)) :: r => (tg a = 4 ∧ tg b = 4 ∧ s = 0 ∧ d = 0 ∧ 0 ≤ n ∧ n ≤ ln a ∧ n ≤ ln b ∧ a ≠ b ∧ Nat.ble (stw r) 8 = true ∧ (∀ i y, 0 ≤ i → i < n → hP h a i = some y → 16 ≤ tg y ∧ tg y ≤ 32)) ∧ k cu su nx ls r (h.1, h.2.1, h.2.2.1, cpP h.2.2.2 a b n)
        | _ => False
    | _ => False
  | .invokespecial _ => match tb with
    | [(z, j), (_, hd)] => match spop ax st [] with
      | some (as, .inr (.inr (some a)) :: r) => match z with
        | 0 => tg a ≠ 10 ∧ ncall C MC MS Φ hd cu su nx ls r (vo a :: as) h k j
        | _ => tg a ≠ 10 ∧ Nat.ble (stw r) 8 = true ∧ k cu su nx ls r h
      | _ => False
    | _ => False
  | .invokevirtual _ => match tb with
    | (z, hd) :: tbl => match spop ax st [] with
      | some (as, .inr (.inr (some a)) :: r) => match z with
        | 0 => pick tbl a (fun j => ncall C MC MS Φ hd cu su nx ls r (vo a :: as) h k j)
        | _ => tg a = 4 ∧ Nat.ble (stw r) 8 = true ∧ k cu su nx ls (vo hd :: r) h
      | _ => False
    | _ => False
  | .new _ => match tb with
    | [(_, n)] => Nat.ble (stw st) 8 = true ∧ cu + 1 ≤ MC ∧ su + n ≤ MS ∧ k (cu + 1) (su + n) nx ls (vo (nwA h ax 0) :: st) (nwH h ax 0)
    | _ => False
  | .newarray _ => match st with
    | .inl n :: r => 0 ≤ n ∧ n < 4096 ∧ cu + 1 ≤ MC ∧ su + n.toNat ≤ MS ∧ k (cu + 1) (su + n.toNat) nx ls (vo (nwA h ax n.toNat) :: r) (nwH h ax n.toNat)
    | _ => False
  | .anewarray _ => match st with
    | .inl n :: r => 0 ≤ n ∧ n < 4096 ∧ cu + 1 ≤ MC ∧ su + n.toNat ≤ MS ∧ k (cu + 1) (su + n.toNat) nx ls (vo (nwA h ax n.toNat) :: r) (nwH h ax n.toNat)
    | _ => False
  | .arraylength => match st with
    | .inr (.inr (some a)) :: r => arrAny a = true ∧ k cu su nx ls (vi (ln a) :: r) h
    | _ => False
  | .iaload => match st with
    | .inl i :: .inr (.inr (some a)) :: r => arrI a = true ∧ 0 ≤ i ∧ i < ln a ∧ ∃ v, hI h a i = v ∧ k cu su nx ls (vi v :: r) h
    | _ => False
  | .baload => match st with
    | .inl i :: .inr (.inr (some a)) :: r => arrB a = true ∧ 0 ≤ i ∧ i < ln a ∧ ∃ v, hI h a i = v ∧ k cu su nx ls (vi v :: r) h
    | _ => False
  | .laload => match st with
    | .inl i :: .inr (.inr (some a)) :: r => tg a = 3 ∧ 0 ≤ i ∧ i < ln a ∧ ∃ v, hL h a i = v ∧ k cu su nx ls (vl v :: r) h
    | _ => False
  | .aaload => match st with
    | .inl i :: .inr (.inr (some a)) :: r => arrP a = true ∧ 0 ≤ i ∧ i < ln a ∧ ∃ v, hP h a i = v ∧ k cu su nx ls (vr v :: r) h
    | _ => False
  | .iastore => match st with
    | .inl v :: .inl i :: .inr (.inr (some a)) :: r => tg a = 0 ∧ 0 ≤ i ∧ i < ln a ∧ k cu su nx ls r (sI h a i v)
    | _ => False
  | .bastore => match st with
    | .inl v :: .inl i :: .inr (.inr (some a)) :: r => ((tg a = 1 ∧ -128 ≤ v ∧ v ≤ 127) ∨ (tg a = 2 ∧ 0 ≤ v ∧ v ≤ 1)) ∧ 0 ≤ i ∧ i < ln a ∧ k cu su nx ls r (sI h a i v)
    | _ => False
  | .lastore => match st with
    | .inr (.inl v) :: .inl i :: .inr (.inr (some a)) :: r => tg a = 3 ∧ 0 ≤ i ∧ i < ln a ∧ k cu su nx ls r (sL h a i v)
    | _ => False
  | .aastore => match st with
    | .inr (.inr (some b)) :: .inl i :: .inr (.inr (some a)) :: r => ((tg a = 4 ∧ 16 ≤ tg b ∧ tg b ≤ 32) ∨ (tg a = 5 ∧ tg b = 19) ∨ (tg a = 6 ∧ tg b = 32)) ∧ 0 ≤ i ∧ i < ln a ∧ k cu su nx ls r (sP h a i (some b))
    | _ => False
  | .iadd => match st with
    | .inl b :: .inl a :: r => k cu su nx ls (vi (a + b) :: r) h
    | _ => False
  | .isub => match st with
    | .inl b :: .inl a :: r => k cu su nx ls (vi (a - b) :: r) h
    | _ => False
  | .imul => match st with
    | .inl b :: .inl a :: r => k cu su nx ls (vi (a * b) :: r) h
    | _ => False
  | .idiv => match st with
    | .inl b :: .inl a :: r => 0 ≤ a ∧ a ≤ 2147483647 ∧ 0 < b ∧ b ≤ 2147483647 ∧ k cu su nx ls (vi (a / b) :: r) h
    | _ => False
  | .irem => match st with
    | .inl b :: .inl a :: r => 0 ≤ a ∧ a ≤ 2147483647 ∧ 0 < b ∧ b ≤ 2147483647 ∧ k cu su nx ls (vi (a % b) :: r) h
    | _ => False
  | .iand => match st with
    | .inl b :: .inl a :: r => k cu su nx ls (vi (iAnd a b) :: r) h
    | _ => False
  | .ior => match st with
    | .inl b :: .inl a :: r => k cu su nx ls (vi (iOr a b) :: r) h
    | _ => False
  | .ishl => match st with
    | .inl b :: .inl a :: r => k cu su nx ls (vi (iShl a b) :: r) h
    | _ => False
  | .ishr => match st with
    | .inl b :: .inl a :: r => k cu su nx ls (vi (iShr a b) :: r) h
    | _ => False
  | .iushr => match st with
    | .inl b :: .inl a :: r => k cu su nx ls (vi (iUshr a b) :: r) h
    | _ => False
  | .ladd => match st with
    | .inr (.inl b) :: .inr (.inl a) :: r => k cu su nx ls (vl (a + b) :: r) h
    | _ => False
  | .lsub => match st with
    | .inr (.inl b) :: .inr (.inl a) :: r => k cu su nx ls (vl (a - b) :: r) h
    | _ => False
  | .lmul => match st with
    | .inr (.inl b) :: .inr (.inl a) :: r => k cu su nx ls (vl (a * b) :: r) h
    | _ => False
  | .ldiv => match st with
    | .inr (.inl b) :: .inr (.inl a) :: r => b ≠ 0 ∧ k cu su nx ls (vl (a / b) :: r) h
    | _ => False
  | .lrem => match st with
    | .inr (.inl b) :: .inr (.inl a) :: r => b ≠ 0 ∧ k cu su nx ls (vl (a - a / b * b) :: r) h
    | _ => False
  | .land => match st with
    | .inr (.inl b) :: .inr (.inl a) :: r => k cu su nx ls (vl (a &&& b) :: r) h
    | _ => False
  | .lor => match st with
    | .inr (.inl b) :: .inr (.inl a) :: r => k cu su nx ls (vl (a ||| b) :: r) h
    | _ => False
  | .lxor => match st with
    | .inr (.inl b) :: .inr (.inl a) :: r => k cu su nx ls (vl (a ^^^ b) :: r) h
    | _ => False
  | .lshl => match st with
    | .inl b :: .inr (.inl a) :: r => k cu su nx ls (vl (lShl a b) :: r) h
    | _ => False
  | .lshr => match st with
    | .inl b :: .inr (.inl a) :: r => k cu su nx ls (vl (lShr a b) :: r) h
    | _ => False
  | .lushr => match st with
    | .inl b :: .inr (.inl a) :: r => k cu su nx ls (vl (lUshr a b) :: r) h
    | _ => False
  | .i2l => match st with
    | .inl a :: r => iR a ∧ k cu su nx ls (vl (Int64.ofInt a) :: r) h
    | _ => False
  | .l2i => match st with
    | .inr (.inl a) :: r => k cu su nx ls (vi (l2I a) :: r) h
    | _ => False
  | .i2b => match st with
    | .inl a :: r => k cu su nx ls (vi (iB a) :: r) h
    | _ => False
  | .i2c => match st with
    | .inl a :: r => k cu su nx ls (vi (iC a) :: r) h
    | _ => False
  | .lcmp => match st with
    | .inr (.inl b) :: .inr (.inl a) :: r => k cu su nx ls (vi (lCmp a b) :: r) h
    | _ => False
  | .ifCond c _ => match st with
    | .inl a :: r => iR a ∧ cmpI c a 0 (k cu su ax ls r h) (k cu su nx ls r h)
    | _ => False
  | .if_icmp c _ => match st with
    | .inl b :: .inl a :: r => iR a ∧ iR b ∧ cmpI c a b (k cu su ax ls r h) (k cu su nx ls r h)
    | _ => False
  | .if_acmp c _ => match st with
    | .inr (.inr b) :: .inr (.inr a) :: r => match c with
      | .eq => a = b ∧ k cu su ax ls r h
      | .ne => a = b ∧ k cu su nx ls r h
    | _ => False
  | .ifnull _ => match st with
    | .inr (.inr none) :: r => k cu su ax ls r h
    | .inr (.inr (some a)) :: r => tg a ≠ 10 ∧ k cu su nx ls r h
    | _ => False
  | .ifnonnull _ => match st with
    | .inr (.inr none) :: r => k cu su nx ls r h
    | .inr (.inr (some a)) :: r => tg a ≠ 10 ∧ k cu su ax ls r h
    | _ => False
  | .goto _ => k cu su ax ls st h
  | .iinc n c => match lget ls n with
    | some (.inl i) => lset1 ls n (vi (i + c)) (fun l => k cu su nx l st h)
    | _ => False
  | .tableswitch _ _ _ _ => match st with
    | .inl x :: r => iR x ∧ tsw tb ax x (fun p => k cu su p ls r h)
    | _ => False
  | .dup => match st with
    | .inl i :: r => k cu su nx ls (vi i :: vi i :: r) h
    | .inr (.inr a) :: r => k cu su nx ls (vr a :: vr a :: r) h
    | _ => False
  | .dup_x1 => match st with
    | v :: w :: r => cat2 v = false ∧ cat2 w = false ∧ k cu su nx ls (v :: w :: v :: r) h
    | _ => False
  | .dup2 => match st with
    | v :: w :: r => cat2 v = false ∧ cat2 w = false ∧ k cu su nx ls (v :: w :: v :: w :: r) h
    | _ => False
  | .pop => match st with
    | v :: r => cat2 v = false ∧ k cu su nx ls r h
    | _ => False
  | .checkcast _ => match st with
    | .inr (.inr (some a)) :: r => tg a = ax ∧ k cu su nx ls (vo a :: r) h
    | _ => False
  | .athrow => match st with
    | .inr (.inr (some a)) :: _ => tg a = 20 ∧ Φ (.inr a) h
    | _ => False
  | .ireturn => match st with
    | [.inl i] => (match ax with
      | 0 => True
      | 1 => 0 ≤ i ∧ i ≤ 1
      | _ => 0 ≤ i ∧ i ≤ 65535) ∧ Φ (.inl (some (vi i))) h
    | _ => False
  | .lreturn => match st with
    | [.inr (.inl x)] => Φ (.inl (some (vl x))) h
    | _ => False
  | .areturn => match st with
    | [.inr (.inr r)] => Φ (.inl (some (vr r))) h
    | _ => False
  | .return_ => match st with
    | [] => Φ (.inl none) h
    | _ => False
  | _ => False
/-- the contracts at call depth d: from every k that is closed under steps (and under forgetting locals) k holds at the entry -/
def CTn (cd : Nat → Nat → INS) (mw : Nat → Nat) : Nat → CTT
  | 0 => fun _ _ _ _ _ _ => False
  | d + 1 => fun mc ms j as h Φ => Nat.ble (stw as) (mw j) = true ∧ ∀ k : KT, (∀ {cu su pc : Nat} {ls : LVs} {st : List AV} {h : AH}, nxt (CTn cd mw d) mc ms Φ (cd j pc) cu su ls st h k → k cu su pc ls st h) → (∀ {cu su pc : Nat} {ls : LVs} {st : List AV} {h : AH} (is : List Nat), lkeepK ls is (fun l => k cu su pc l st h) → k cu su pc ls st h) → k 0 0 0 (lent as 0) [] h
