-- NEEDS: 68 94 95 96
/-! THE COMPONENT: new things, what lies still -/
/-- what was there is as it was, but A and the object's own numbers B; there may be more -/
def NX (A : List Nat) (B : List Int) (h p : AH) : Prop := hN h ≤ hN p ∧ (∀ b, ix b < hN h → b ∉ A → b ≠ X → hI p b = hI h b) ∧ (∀ m, m ∉ B → hI p X m = hI h X m) ∧ (∀ b, ix b < hN h → b ∉ A → hP p b = hP h b) ∧ ∀ b, ix b < hN h → lb b ∉ A → hL p b = hL h b
theorem NX.rf {A : List Nat} {B : List Int} {h : AH} : NX A B h h := ⟨Nat.le_refl _, fun _ _ _ _ => rfl, fun _ _ => rfl, fun _ _ _ => rfl, fun _ _ _ => rfl⟩
theorem NX.tr {A : List Nat} {B : List Int} {h p q : AH} (x : NX A B h p) (y : NX A B p q) : NX A B h q := ⟨Nat.le_trans x.1 y.1, fun b hb n m => (y.2.1 b (Nat.lt_of_lt_of_le hb x.1) n m).trans (x.2.1 b hb n m), fun m hm => (y.2.2.1 m hm).trans (x.2.2.1 m hm), fun b hb n => (y.2.2.2.1 b (Nat.lt_of_lt_of_le hb x.1) n).trans (x.2.2.2.1 b hb n), fun b hb n => (y.2.2.2.2 b (Nat.lt_of_lt_of_le hb x.1) n).trans (x.2.2.2.2 b hb n)⟩
theorem NX.up {A A' : List Nat} {B B' : List Int} {h p : AH} (x : NX A B h p) (ha : ∀ a ∈ A, a ∈ A') (hb : ∀ m ∈ B, m ∈ B') : NX A' B' h p := ⟨x.1, fun b h1 n m => x.2.1 b h1 (fun z => n (ha _ z)) m, fun m n => x.2.2.1 m (fun z => n (hb _ z)), fun b h1 n => x.2.2.2.1 b h1 (fun z => n (ha _ z)), fun b h1 n => x.2.2.2.2 b h1 (fun z => n (ha _ z))⟩
theorem NX.of {A : List Nat} {B : List Int} {h p : AH} (x : TX A B h p) : NX A B h p := ⟨Nat.le_of_eq (congrArg (fun z => z.1) x.1).symm, fun b _ n m => x.2.2.2.1 b n m, fun m hm => x.2.2.2.2 m hm, fun b _ _ => congrFun x.2.1 b, fun b _ n => x.2.2.1 b n⟩
/-- only a's own changes -/
def WX (a : Nat) (h q : AH) : Prop := hN q = hN h ∧ (∀ b, b ≠ a → hI q b = hI h b) ∧ (∀ b, b ≠ a → hP q b = hP h b) ∧ ∀ b, hL q b = hL h b
theorem WX.rf {a : Nat} {h : AH} : WX a h h := ⟨rfl, fun _ _ => rfl, fun _ _ => rfl, fun _ => rfl⟩
theorem WX.tr {a : Nat} {h p q : AH} (x : WX a h p) (y : WX a p q) : WX a h q := ⟨y.1.trans x.1, fun b n => (y.2.1 b n).trans (x.2.1 b n), fun b n => (y.2.2.1 b n).trans (x.2.2.1 b n), fun b => (y.2.2.2 b).trans (x.2.2.2 b)⟩
theorem NX.w {A : List Nat} {B : List Int} {h p q : AH} {a : Nat} (x : NX A B h p) (y : WX a p q) (ha : a ∈ A ∨ hN h ≤ ix a) (aX : a ≠ X) : NX A B h q := by
  refine ⟨by rw [y.1]; exact x.1, fun b hb n m => ?_, fun m hm => ?_, fun b hb n => ?_, fun b hb n => ?_⟩
  · have ne : b ≠ a := fun z => ha.elim (fun u => n (z ▸ u)) (fun u => by rw [z] at hb; omega)
    exact (y.2.1 b ne).trans (x.2.1 b hb n m)
  · exact (congrFun (y.2.1 X (fun z => aX z.symm)) m).trans (x.2.2.1 m hm)
  · have ne : b ≠ a := fun z => ha.elim (fun u => n (z ▸ u)) (fun u => by rw [z] at hb; omega)
    exact (y.2.2.1 b ne).trans (x.2.2.2.1 b hb n)
  · exact (y.2.2.2 b).trans (x.2.2.2.2 b hb n)
theorem ix_mk3 {i t n : Nat} (ht : t < 64) (hn : n < 4096) : ix (mk i t n) = i ∧ tg (mk i t n) = t ∧ ln (mk i t n) = n := by
  unfold ix tg ln mk
  refine ⟨by omega, by omega, by omega⟩
theorem nw_ok {p q : AH} {t n a : Nat} (ea : nwA p t n = a) (eq : nwH p t n = q) (ht : t < 64) (hn : n < 4096) (h64 : 307 ≤ hN p) : ix a = hN p ∧ tg a = t ∧ ln a = n ∧ hN q = hN p + 1 ∧ (∀ m, hI q a m = 0) ∧ (∀ m, hP q a m = none) ∧ NX [] [] p q := by
  subst ea
  subst eq
  obtain ⟨e1, e2, e3⟩ := ix_mk3 (i := hN p) ht hn
  refine ⟨e1, e2, e3, rfl, fun m => if_pos rfl, fun m => if_pos rfl, Nat.le_succ _, fun b hb _ _ => ?_, fun m _ => ?_, fun b hb _ => ?_, fun b hb _ => ?_⟩
  · have ne : b ≠ mk p.1.1 t n := fun z => by rw [z, e1] at hb; exact Nat.lt_irrefl _ hb
    funext m
    exact if_neg ne
  · have ne : X ≠ mk p.1.1 t n := fun z => by
      have z2 := congrArg ix z
      rw [e1] at z2
      have : ix X = 64 := by decide
      omega
    exact if_neg ne
  · have ne : b ≠ mk p.1.1 t n := fun z => by rw [z, e1] at hb; exact Nat.lt_irrefl _ hb
    funext m
    exact if_neg ne
  · have ne : b ≠ mk p.1.1 t n := fun z => by rw [z, e1] at hb; exact Nat.lt_irrefl _ hb
    funext m
    exact if_neg ne
theorem wpI {P : AH → Prop} {h : AH} {a : Nat} {k v : Int} (H : ∀ q, WX a h q → (∀ m, hI q a m = if m = k then v else hI h a m) → (∀ m, hP q a m = hP h a m) → P q) : P (sI h a k v) := by
  refine H _ ⟨rfl, fun b n => hI_ne n, fun _ _ => rfl, fun _ => rfl⟩ (fun m => ?_) (fun _ => rfl)
  rw [hI_eq]
theorem wpP {P : AH → Prop} {h : AH} {a : Nat} {k : Int} {v : Option Nat} (H : ∀ q, WX a h q → (∀ m, hP q a m = if m = k then v else hP h a m) → (∀ m, hI q a m = hI h a m) → P q) : P (sP h a k v) := by
  refine H _ ⟨rfl, fun _ _ => rfl, fun b n => ?_, fun _ => rfl⟩ (fun m => ?_) (fun _ => rfl)
  · funext m
    show (if b = a ∧ m = k then v else h.2.2.2 b m) = h.2.2.2 b m
    rw [if_neg (fun z => n z.1)]
  · show (if a = a ∧ m = k then v else h.2.2.2 a m) = if m = k then v else h.2.2.2 a m
    simp only [true_and]
/-! the texts that stand from the start -/
def EXT (h : AH) : Prop := ∀ b, 1 ≤ ix b → ix b < 64 → (∀ k, hI h b k = (xB (ix b)).getD k.toNat 0) ∧ ∀ k, hP h b k = xP (ix b) k
theorem EXT.nx {A : List Nat} {B : List Int} {h p : AH} (H : EXT h) (N : NX A B h p) (hn : 64 ≤ hN h) (hA : ∀ a ∈ A, 64 ≤ ix a) : EXT p := by
  intro b b1 b2
  have nA : b ∉ A := fun z => by have := hA b z; omega
  have nX : b ≠ X := fun z => by
    have : ix X = 64 := by decide
    rw [z] at b2; omega
  rw [N.2.1 b (by omega) nA nX, N.2.2.2.1 b (by omega) nA]
  exact H b b1 b2
/-- text k of the table: its words' signs, and packed -/
def txW (k : Nat) (x : Int) : Int := (tB.getD k []).getD x.toNat 0
def txL (k : Nat) : Int := (tB.getD k []).length
def txN (k : Nat) : Nat := pkN (txW k) 0 (txL k).toNat
theorem tx_all : ∀ k : Fin 18, (ix (extAd (4 + 2 * k.val)) = 4 + 2 * k.val ∧ ix (extAd (5 + 2 * k.val)) = 5 + 2 * k.val ∧ tg (extAd (4 + 2 * k.val)) = 33 ∧ arrB (extAd (5 + 2 * k.val)) = true ∧ arrAny (extAd (5 + 2 * k.val)) = true ∧ ((ln (extAd (5 + 2 * k.val)) : Nat) : Int) = txL k.val) ∧ (1 ≤ txL k.val ∧ txL k.val ≤ 7) ∧ ∀ x : Fin 7, (x.val : Int) < txL k.val → 97 ≤ txW k.val x.val ∧ txW k.val x.val ≤ 122 := by decide +kernel
theorem STR_of {h : AH} (H : EXT h) {k : Nat} (hk : k < 18) : STR (hP h) h (extAd (4 + 2 * k)) (extAd (5 + 2 * k)) (txL k) (txW k) := by
  obtain ⟨⟨a1, a2, a3, a4, a5, a6⟩, a7, a8⟩ := tx_all ⟨k, hk⟩
  have a1 : ix (extAd (4 + 2 * k)) = 4 + 2 * k := a1
  have a2 : ix (extAd (5 + 2 * k)) = 5 + 2 * k := a2
  have a7 : 1 ≤ txL k ∧ txL k ≤ 7 := a7
  have e1 := (H (extAd (4 + 2 * k)) (by omega) (by omega)).2 0
  have e2 := (H (extAd (4 + 2 * k)) (by omega) (by omega)).1 1
  have e3 := (H (extAd (5 + 2 * k)) (by omega) (by omega)).1
  rw [a1] at e1 e2
  rw [a2] at e3
  refine ⟨a3, ?_, a4, a5, a6, ?_, a7, fun x x0 x1 => ⟨?_, ?_⟩⟩
  · rw [e1]
    unfold xP
    rw [if_neg (by omega), if_pos (by omega), if_pos rfl, show 4 + 2 * k + 1 = 5 + 2 * k by omega]
  · rw [e2]
    unfold xB
    rw [if_neg (by omega)]
    rfl
  · rw [e3]
    unfold xB txW
    rw [if_pos (by omega), show (5 + 2 * k - 5) / 2 = k by omega]
  · have := a8 ⟨x.toNat, by omega⟩ (by show ((x.toNat : Nat) : Int) < txL k; omega)
    rw [show (((⟨x.toNat, by omega⟩ : Fin 7).val : Nat) : Int) = x by simp; omega] at this
    exact this
/-- parser pa at i: m counted, dp deep, c clauses of w -/
def PY (sh pa : Nat) (h : AH) (T : Int → Int) (n i m dp c w : Int) : Prop := PX (hP h) sh pa h T n i ∧ (hI h pa 3 = m ∧ 0 ≤ m ∧ m ≤ 60) ∧ (hI h pa 2 = dp ∧ 0 ≤ dp ∧ dp ≤ 10) ∧ (hI h pa 4 = c ∧ hI h pa 5 = w ∧ 0 ≤ c ∧ c ≤ 40 ∧ 0 ≤ w ∧ w ≤ 40) ∧ hP h pa 0 = some A_NAMES ∧ (ix pa < hN h ∧ 307 ≤ hN h) ∧ EXT h
theorem PF.nx {pa : Nat} {h p : AH} (F : PF pa h p) : NX [pa] [] h p := NX.of F.1
theorem PY.pf {sh pa : Nat} {h p : AH} {T : Int → Int} {n i j m dp c w : Int} (H : PY sh pa h T n i m dp c w) (F : PF pa h p) (Hp : PX (hP h) sh pa p T n j) : PY sh pa p T n j m dp c w := by
  obtain ⟨a1, a2, a3, a4, a5, ⟨a6, a7⟩, a8⟩ := H
  have eN : hN p = hN h := congrArg (fun z => z.1) F.1.1
  have eP : hP p = hP h := F.1.2.1
  have d64 : ∀ a ∈ [pa], 64 ≤ ix a := fun a ha => by
    rw [List.mem_singleton.mp ha]
    have := a1.2.2.2.2.1
    omega
  refine ⟨by rw [eP]; exact Hp, by rw [F.2 3 (by omega)]; exact a2, by rw [F.2 2 (by omega)]; exact a3, by rw [F.2 4 (by omega), F.2 5 (by omega)]; exact a4, by rw [eP]; exact a5, by rw [eN]; exact ⟨a6, a7⟩, a8.nx F.nx (by omega) d64⟩
theorem pa_facts {sh pa : Nat} {h : AH} {T : Int → Int} {n i m dp c w : Int} (H : PY sh pa h T n i m dp c w) : pa ≠ X ∧ pa ≠ xTA ∧ pa ≠ xWR := by
  have d := H.1.2.2.2.2.1
  refine ⟨d.nX, fun z => ?_, fun z => ?_⟩ <;> (rw [z] at d; revert d; decide)
/-- more was made, and nothing that the parser looks at was touched -/
theorem PY.nx {sh pa : Nat} {h p : AH} {A : List Nat} {B : List Int} {T : Int → Int} {n i m dp c w : Int} (H : PY sh pa h T n i m dp c w) (N : NX A B h p) (hp : pa ∉ A) (hX : X ∉ A) (ht : xTA ∉ A) (h7 : 7 ∉ B) (hA : ∀ a ∈ A, 64 ≤ ix a) : PY sh pa p T n i m dp c w := by
  obtain ⟨nX, nT, -⟩ := pa_facts H
  obtain ⟨⟨-, b2, b3, b4, b5, b6, b7, b8, b9, c1, c2⟩, a2, a3, a4, a5, ⟨a6, a7⟩, a8⟩ := H
  have iX : ix X = 64 := by decide
  have iT : ix xTA = 91 := by decide
  have ep : hI p pa = hI h pa := N.2.1 pa a6 hp nX
  have eP : hP p pa = hP h pa := N.2.2.2.1 pa a6 hp
  have n1 := N.1
  refine ⟨⟨rfl, by rw [N.2.2.2.1 X (by omega) hX]; exact b2, b3, by rw [eP]; exact b4, b5, by rw [N.2.1 xTA (by omega) ht (by decide)]; exact b6, by rw [N.2.2.1 7 h7]; exact b7, by rw [ep]; exact b8, b9, c1, c2⟩, by rw [ep]; exact a2, by rw [ep]; exact a3, by rw [ep]; exact a4, by rw [eP]; exact a5, ⟨by omega, by omega⟩, a8.nx N (by omega) hA⟩
