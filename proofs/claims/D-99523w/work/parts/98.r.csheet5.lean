-- NEEDS: 73 77 81 97 98
/-! THE COMPONENT: sheet() -/
theorem NX.wX {A : List Nat} {B : List Int} {h p q : AH} (x : NX A B h p) (y : WX X p q) (hX : X ∈ A) (hi : ∀ m, hI q X m = hI p X m) : NX A B h q := by
  refine ⟨by rw [y.1]; exact x.1, fun b hb n m => (y.2.1 b m).trans (x.2.1 b hb n m), fun m hm => (hi m).trans (x.2.2.1 m hm), fun b hb n => ?_, fun b hb n => (y.2.2.2 b).trans (x.2.2.2.2 b hb n)⟩
  exact (y.2.2.1 b (fun z => n (by rw [z]; exact hX))).trans (x.2.2.2.1 b hb n)
theorem nts_fix {A : List Nat} (hA : ∀ b ∈ A, ¬ DYS b) : NTS A := fun a ha d => absurd d (hA a ha)
theorem SHT.to {h : AH} {sh gl ld dy el : Nat} {Lg : List Nat} {r s : Int → Int} (H : SHT h sh gl ld dy el Lg r) (r5 : r 2 ≤ 5) (e : ∀ m, 0 ≤ m → m < 145 → s m = r m) : SHT h sh gl ld dy el Lg s := by
  obtain ⟨a, b, c, d, f, g, k, l, l2, go, s3, s4, s5⟩ := H
  refine ⟨a, b, c, d, f, g, k, l, by rw [e 2 (by omega) (by omega)]; exact l2, fun x y hk => ?_, by rw [e 1 (by omega) (by omega)]; exact s3, fun x x0 x1 => ?_, s5.to (fun x x0 x1 => e _ (by omega) (by omega))⟩
  · have kl : x < Lg.length := by
      rcases Nat.lt_or_ge x Lg.length with z | z
      · exact z
      · rw [List.getElem?_eq_none z] at hk; cases hk
    rw [e (90 + 3 * x) (by omega) (by omega), e (90 + 3 * x + 1) (by omega) (by omega), e (90 + 3 * x + 2) (by omega) (by omega)]
    exact go x y hk
  · rw [e (105 + x) (by omega) (by omega), e (86 + x) (by omega) (by omega)]
    exact s4 x x0 x1
theorem SHT.tl {h : AH} {sh gl ld dy el : Nat} {Lg : List Nat} {s : Int → Int} (H : SHT h sh gl ld dy el Lg s) : TL (hP h) h s sh gl ld := by
  obtain ⟨a, b, c, d, f, g, k, l, l2, go, s3, s4, s5⟩ := H
  obtain ⟨l1, l3, l4, l5, l6, l7⟩ := l
  refine ⟨⟨el, l4, by unfold arrP; rw [l5]; rfl, by omega, fun x x0 x1 => ?_⟩, fun e e0 e1 => (s4 e e0 e1).1, s5⟩
  obtain ⟨y, hy⟩ : ∃ y, Lg[x.toNat]? = some y := by
    have : x.toNat < Lg.length := by omega
    exact ⟨_, List.getElem?_eq_getElem this⟩
  have v := (l7 _ y hy).1
  obtain ⟨q1, q2, q3, q4, q5, q6⟩ := go _ y hy
  rw [show ((x.toNat : Nat) : Int) = x by omega] at v q4 q5 q6
  exact ⟨y, v, q1, q2, q4, q5, q6⟩
theorem SHT.shi {h : AH} {sh gl ld dy el : Nat} {Lg : List Nat} {s : Int → Int} (H : SHT h sh gl ld dy el Lg s) : SHI h s sh gl dy := by
  obtain ⟨a, b, c, d, f, g, k, l, l2, go, s3, s4, s5⟩ := H
  exact ⟨s3, l.2.1.trans l2, fun e e0 e1 => (s4 e e0 e1).2⟩
theorem SHT.crx {h : AH} {sh gl ld dy el : Nat} {Lg : List Nat} {s : Int → Int} (H : SHT h sh gl ld dy el Lg s) (fX : hP h X = XP sh) (fs : hP h sOB = SPs) (fk : hP h kOB = SPk) : CRX (hP h) sh gl ld dy := by
  obtain ⟨a, b, c, d, f, g, k, l, l2, go, s3, s4, s5⟩ := H
  exact ⟨fX, fs, fk, ⟨a.1, b⟩, l.1, ⟨by unfold arrI; rw [f.1]; rfl, f.2.1⟩, ⟨by unfold arrI; rw [g.1]; rfl, g.2.1⟩, a.2.1, c.1, f.2.2.1, g.2.2.1⟩
theorem XP_up {sh0 sh : Nat} {f : Int → Option Nat} (hf : ∀ m, f m = if m = 0 then some sh else XP sh0 m) : f = XP sh := by
  funext m
  rw [hf m]
  by_cases z : m = 0
  · rw [if_pos z, z]
    rfl
  · rw [if_neg z]
    unfold XP
    split <;> first | rfl | omega
set_option maxHeartbeats 1000000 in
theorem x_sheet {d : Nat} {h : AH} {Φ : OUT → AH → Prop} {sh0 : Nat} {T : Int → Int} {n : Int} (H : CRD h sh0 T n) (fs : hP h sOB = SPs) (fk : hP h kOB = SPk)
    (K0 : ∀ e, sheS T n = .inl e → ∀ p, hI p X 7 = 0 → NX [xWR] [7] h p → Φ (.inl (some (vi (-2 - e)))) p)
    (K : ∀ c r, sheS T n = .inr (c, r) → RDO r → ∀ p sh gl ld dy el Lg, SHT p sh gl ld dy el Lg r → RSs p (begP r 86) → hP p X = XP sh → hI p X 7 = 0 → hI p X 11 = 0 → hI p X 15 = 0 → NX (X :: AAs) [7, 11, 15] h p → (hN h ≤ ix sh ∧ hN h ≤ ix gl ∧ hN h ≤ ix ld ∧ hN h ≤ ix dy ∧ hN h ≤ ix el) → Φ (.inl (some (vi (r 2)))) p) : CT (d + 62) 411 1707 J_X0_sheet [vo X] h Φ := by
  refine e_X0_sheet ?_; intro k step keep
  have h307 := H.1
  refine step ?_
  refine step ?_
  refine And.intro rfl ?_
  refine And.intro (by omega) ?_
  refine And.intro (by omega) ?_
  generalize ea : nwA h 22 0 = pa
  generalize eq : nwH h 22 0 = p1
  obtain ⟨o1, o2, o3, o4, o5, o6, o7⟩ := nw_ok ea eq (by decide) (by decide) H.1
  have dp := nw_dy o1 H.1
  have tp : ((tg pa : Nat) : Int) = 22 := by omega
  have tn : tg pa ≠ 10 := by omega
  refine step ?_
  refine step ?_
  refine step ?_
  refine step ?_
  refine step ?_
  refine And.intro tn ?_
  refine And.intro rfl ?_
  refine Or.inl (c_X5init o2 (fun q W e6 e0 e5 ei => ?_))
  obtain ⟨HP, N2⟩ := PY_new H o1 o2 o4 o5 o7 W e6 e0 e5 ei (by decide) (by decide)
  have ni : hN q = hN h + 1 := by rw [W.1]; exact o4
  refine step ?_
  refine And.intro tp ?_
  refine And.intro rfl ?_
  refine Or.inr ⟨410, 1700, by omega, by omega, cp_sheet HP (fun e he p w N => ?_) (fun c r he hr p sh gl ld dy el Lg HS N hnew => ?_)⟩
  · have N3 : NX [xWR] [7] h p := N2.new N (fun a ha => by
      have ha2 : a = pa ∨ a = xWR := by simpa using ha
      rcases ha2 with z | z
      · right; rw [z]; omega
      · left; rw [z]; simp) (by simp)
    refine step ?_
    refine step ?_
    refine step ?_
    refine step ?_
    refine And.intro rfl ?_
    refine Exists.intro _ (And.intro w ?_)
    refine step ?_
    refine step ?_
    refine step ?_
    refine step ?_
    refine step ?_
    refine And.intro rfl ?_
    refine wxM (fun p2 w2 T2 => ?_)
    refine step ?_
    refine step ?_
    refine And.intro trivial ?_
    exact K0 e he p2 w2 (N3.wM T2 (by simp))
  · have N3 : NX [] [] h p := N2.new N (fun a ha => by
      right; rw [List.mem_singleton.mp ha]; omega) (by simp)
    have iX : ix X = 64 := by decide
    have iS : ix sOB = 70 := by decide
    have iK : ix kOB = 79 := by decide
    have hr2 := hr.2.2.2.1
    refine step ?_
    refine And.intro rfl ?_
    refine wpP (fun p4 W4 g4 i4 => ?_)
    have fX : hP p4 X = XP sh := XP_up (fun m => by rw [g4 m, N3.2.2.2.1 X (by omega) (by simp), H.2.1])
    have fs4 : hP p4 sOB = SPs := by rw [W4.2.2.1 sOB (by decide), N3.2.2.2.1 sOB (by omega) (by simp)]; exact fs
    have fk4 : hP p4 kOB = SPk := by rw [W4.2.2.1 kOB (by decide), N3.2.2.2.1 kOB (by omega) (by simp)]; exact fk
    have N4 : NX (X :: AAs) [7, 11, 15] h p4 := (N3.up (by simp) (by simp)).wX W4 (by simp) i4
    have S4 : SHT p4 sh gl ld dy el Lg r := HS.nx ((NX.rf (A := [X]) (B := [])).wX W4 (by simp) i4) (nts_fix (by decide))
    have hC := S4.crx fX fs4 fk4
    have x1 : hP p4 X 1 = some sOB := by rw [fX]; rfl
    have x0 : hP p4 X 0 = some sh := by rw [fX]; rfl
    refine step ?_
    refine step ?_
    refine And.intro rfl ?_
    refine Exists.intro _ (And.intro x1 ?_)
    refine step ?_
    refine step ?_
    refine And.intro rfl ?_
    refine Exists.intro _ (And.intro x0 ?_)
    refine step ?_
    refine And.intro rfl ?_
    refine And.intro rfl ?_
    refine Or.inl (c_begins rfl hC S4.tl S4.shi.2.1 hr2 (fun p5 R5 T5 => ?_))
    have S5 := S4.nx (NX.of T5) (nts_fix (by decide))
    refine step ?_
    refine step ?_
    refine step ?_
    refine And.intro rfl ?_
    refine wxM (fun p6 w6 T6 => ?_)
    refine step ?_
    refine step ?_
    refine step ?_
    refine And.intro rfl ?_
    refine wxM (fun p7 w7 T7 => ?_)
    have S7 := (S5.nx (NX.of T6) (nts_fix (by decide))).nx (NX.of T7) (nts_fix (by decide))
    have fX7 : hP p7 X = XP sh := by rw [T7.2.1, T6.2.1, T5.2.1]; exact fX
    have x7 : hP p7 X 0 = some sh := by rw [fX7]; rfl
    refine step ?_
    refine step ?_
    refine And.intro rfl ?_
    refine Exists.intro _ (And.intro x7 ?_)
    have tsh2 : ((tg sh : Nat) : Int) = 17 := by have := S7.1.1; omega
    refine step ?_
    refine And.intro tsh2 ?_
    refine And.intro rfl ?_
    refine Or.inl (c_goersT S7.1.1 S7.2.1.1 S7.2.2.2.2.2.2.2.1.1 ?_)
    rw [S7.shi.2.1]
    refine step ?_
    refine step ?_
    refine step ?_
    refine step ?_
    refine And.intro rfl ?_
    refine wxM (fun p8 w8 T8 => ?_)
    refine step ?_
    refine step ?_
    refine And.intro trivial ?_
    have T58 := ((T5.up (A' := AAs) (B' := [7, 11, 15]) (by decide) (by decide)).tr (T6.up (by decide) (by decide))).tr ((T7.up (A' := AAs) (B' := [7, 11, 15]) (by decide) (by decide)).tr (T8.up (by decide) (by decide)))
    have nh := N2.1
    refine K c r he hr p8 sh gl ld dy el Lg (S7.nx (NX.of T8) (nts_fix (by decide))) (((R5.go T6 (by decide)).go T7 (by decide)).go T8 (by decide)) (by rw [T8.2.1]; exact fX7) w8 (by rw [T8.f (by decide), T7.f (by decide)]; exact w6) (by rw [T8.f (by decide)]; exact w7) (N4.tr ((NX.of T58).up (fun a ha => List.mem_cons_of_mem _ ha) (fun _ z => z))) ⟨by omega, by omega, by omega, by omega, by omega⟩
