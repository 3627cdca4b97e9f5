-- NEEDS: 73 97 98
/-! THE COMPONENT: rule() -/
theorem c_X5init {d : Nat} {h : AH} {Φ : OUT → AH → Prop} {pa x nm : Nat} {w : Int} (tp : tg pa = 22) (K : ∀ q, WX pa h q → hP q pa 6 = some x → hP q pa 0 = some nm → hI q pa 5 = w → (∀ m, m ≠ 5 → hI q pa m = hI h pa m) → Φ (.inl none) q) : CT (d + 1) 0 0 J_X5_init [vo pa, vo x, vo nm, vi w] h Φ := by
  refine e_X5_init ?_; intro k step keep
  have tn : tg pa ≠ 10 := by omega
  refine step ?_
  refine step ?_
  refine step ?_
  refine And.intro tp ?_
  refine wpP (fun q1 W1 e1 g1 => ?_)
  refine step ?_
  refine step ?_
  refine And.intro tn ?_
  refine And.intro rfl ?_
  refine step ?_
  refine step ?_
  refine step ?_
  refine And.intro tp ?_
  refine wpP (fun q2 W2 e2 g2 => ?_)
  refine step ?_
  refine step ?_
  refine step ?_
  refine And.intro tp ?_
  refine wpI (fun q3 W3 e3 g3 => ?_)
  refine step ?_
  exact K q3 ((W1.tr W2).tr W3) (by rw [g3, e2, if_neg (by decide), e1, if_pos rfl]) (by rw [g3, e2, if_pos rfl]) (by rw [e3, if_pos rfl]) (fun m hm => by rw [e3, if_neg hm, g2, g1])
/-- what the reader needs of the heap -/
def CRD (h : AH) (sh : Nat) (T : Int → Int) (n : Int) : Prop := 307 ≤ hN h ∧ hP h X = XP sh ∧ hI h xTA = T ∧ hI h X 7 = n ∧ (0 ≤ n ∧ n ≤ 400) ∧ TB T ∧ EXT h
theorem PY_new {sh pa : Nat} {h p q : AH} {T : Int → Int} {n w : Int} (H : CRD h sh T n) (ip : ix pa = hN h) (tp : tg pa = 22) (hp : hN p = hN h + 1) (zi : ∀ m, hI p pa m = 0) (N : NX [] [] h p) (W : WX pa p q) (e6 : hP q pa 6 = some X) (e0 : hP q pa 0 = some A_NAMES) (e5 : hI q pa 5 = w) (ei : ∀ m, m ≠ 5 → hI q pa m = hI p pa m) (w0 : 0 ≤ w) (w1 : w ≤ 40) : PY sh pa q T n 0 0 0 0 w ∧ NX [] [] h q := by
  obtain ⟨a1, a2, a3, a4, a5, a6, a7⟩ := H
  have dp := nw_dy ip a1
  have iX : ix X = 64 := by decide
  have iT : ix xTA = 91 := by decide
  have pX : X ≠ pa := fun z => by rw [← z] at ip; omega
  have pT : xTA ≠ pa := fun z => by rw [← z] at ip; omega
  have N2 : NX [] [] h q := N.w W (Or.inr (by omega)) dp.nX
  have z : ∀ m, m ≠ 5 → hI q pa m = 0 := fun m hm => by rw [ei m hm]; exact zi m
  exact ⟨⟨⟨rfl, by rw [N2.2.2.2.1 X (by omega) (by simp)]; exact a2, tp, e6, dp, by rw [N2.2.1 xTA (by omega) (by simp) (by decide)]; exact a3, by rw [N2.2.2.1 7 (by simp)]; exact a4, z 1 (by decide), ⟨by decide, a5.1⟩, a5.2, a6⟩, ⟨z 3 (by decide), by decide, by decide⟩, ⟨z 2 (by decide), by decide, by decide⟩, ⟨z 4 (by decide), e5, by decide, by decide, w0, w1⟩, e0, ⟨by rw [W.1]; omega, by rw [W.1]; omega⟩, a7.nx N2 (by omega) (by simp)⟩, N2⟩
/-- frame without what is new -/
theorem NX.new {A A' : List Nat} {B B' : List Int} {h p q : AH} (x : NX [] [] h p) (y : NX A' B' p q) (hA : ∀ a ∈ A', a ∈ A ∨ hN h ≤ ix a) (hB : ∀ b ∈ B', b ∈ B) : NX A B h q := by
  have n1 := x.1
  refine ⟨Nat.le_trans x.1 y.1, fun b hb nb bX => ?_, fun m hm => ?_, fun b hb nb => ?_, fun b hb nb => ?_⟩
  · rw [y.2.1 b (by omega) (fun z => (hA b z).elim nb (fun u => by omega)) bX]; exact x.2.1 b hb (by simp) bX
  · rw [y.2.2.1 m (fun z => hm (hB m z))]; exact x.2.2.1 m (by simp)
  · rw [y.2.2.2.1 b (by omega) (fun z => (hA b z).elim nb (fun u => by omega))]; exact x.2.2.2.1 b hb (by simp)
  · have lx := ix_lb b
    rw [y.2.2.2.2 b (by omega) (fun z => (hA _ z).elim nb (fun u => by omega))]; exact x.2.2.2.2 b hb (by simp)
theorem NX.wM {A : List Nat} {B : List Int} {h p q : AH} {k : Int} (x : NX A B h p) (T : TX [] [k] p q) (hk : k ∈ B) : NX A B h q := x.tr ((NX.of T).up (by simp) (fun m hm => by rw [List.mem_singleton.mp hm]; exact hk))
set_option maxHeartbeats 1000000 in
theorem x_rule {d : Nat} {h : AH} {Φ : OUT → AH → Prop} {sh elR : Nat} {T : Int → Int} {n nr : Int} {ρ : Int → RLE} (H : CRD h sh T n) (HR : RUS h ρ nr elR)
    (K6 : nr = 6 → Φ (.inl (some (vi (-1)))) h)
    (K0 : nr < 6 → ∀ e, rulS T n = .inl e → ∀ p, hI p X 7 = 0 → NX [xWR] [7] h p → Φ (.inl (some (vi (-2 - e)))) p)
    (K : nr < 6 → ∀ m acc, rulS T n = .inr (m, acc) → acc.length ≤ 12 → ∀ p el2, RUS p (upR ρ nr acc) (nr + 1) el2 → (el2 = elR ∨ hN h ≤ ix el2) → hI p X 7 = 0 → NX [xRU, elR] [7] h p → Φ (.inl (some (vi nr))) p) : CT (d + 62) 411 1707 J_X0_rule [vo X] h Φ := by
  refine e_X0_rule ?_; intro k step keep
  obtain ⟨Lr, l1, l2, l3, l4, l5⟩ := id HR
  have e2 : hI h xRU 2 = nr := by rw [l1.2.1]; omega
  have eX : hP h X 3 = some xRU := by rw [H.2.1]; rfl
  have ilr := l4.2
  have h307 := H.1
  refine step ?_
  refine step ?_
  refine And.intro rfl ?_
  refine Exists.intro _ (And.intro eX ?_)
  refine step ?_
  refine And.intro rfl ?_
  refine And.intro rfl ?_
  refine Or.inl (c_size rfl ?_)
  rw [e2]
  refine step ?_
  refine step ?_
  refine And.intro (by omega) ?_
  refine And.intro (by omega) ?_
  refine And.intro (fun hz => ?_) (fun hz => ?_)
  · have r6 : nr < 6 := by omega
    refine step ?_
    refine And.intro rfl ?_
    refine And.intro (by omega) ?_
    refine And.intro (by omega) ?_
    generalize ea : nwA h 22 0 = pa
    generalize eq : nwH h 22 0 = p1
    obtain ⟨o1, o2, o3, o4, o5, o6, o7⟩ := nw_ok ea eq (by decide) (by decide) H.1
    have dp := nw_dy o1 H.1
    have tp : ((tg pa : Nat) : Int) = 22 := by omega
    have tn : tg pa ≠ 10 := by omega
    refine step ?_
    refine step ?_
    refine step ?_
    refine step ?_
    refine step ?_
    refine And.intro tn ?_
    refine And.intro rfl ?_
    refine Or.inl (c_X5init o2 (fun q W e6 e0 e5 ei => ?_))
    obtain ⟨HP, N2⟩ := PY_new H o1 o2 o4 o5 o7 W e6 e0 e5 ei (by decide) (by decide)
    have ni : hN q = hN h + 1 := by rw [W.1]; exact o4
    have RU2 := HR.nx N2 (fun a ha => by cases ha) H.1
    refine step ?_
    refine And.intro tp ?_
    refine And.intro rfl ?_
    refine Or.inr ⟨410, 1700, by omega, by omega, cp_rule HP RU2 r6 (fun e he p w N => ?_) (fun m acc he a12 p el2 R2 hel N => ?_)⟩
    · have N3 : NX [xWR] [7] h p := N2.new N (fun a ha => by
        have ha2 : a = pa ∨ a = xWR := by simpa using ha
        rcases ha2 with z | z
        · right; rw [z]; omega
        · left; rw [z]; simp) (by simp)
      refine step ?_
      refine step ?_
      refine step ?_
      refine step ?_
      refine And.intro rfl ?_
      refine Exists.intro _ (And.intro w ?_)
      refine step ?_
      refine step ?_
      refine step ?_
      refine step ?_
      refine step ?_
      refine And.intro rfl ?_
      refine wxM (fun p2 w2 T2 => ?_)
      refine step ?_
      refine step ?_
      refine And.intro trivial ?_
      exact K0 r6 e he p2 w2 (N3.wM T2 (by simp))
    · have N3 : NX [xRU, elR] [7] h p := N2.new N (fun a ha => by
        have ha2 : a = pa ∨ a = xRU ∨ a = elR := by simpa using ha
        rcases ha2 with z | z | z
        · right; rw [z]; omega
        · left; rw [z]; simp
        · left; rw [z]; simp) (by simp)
      have np := N3.1
      refine step ?_
      refine step ?_
      refine step ?_
      refine step ?_
      refine And.intro rfl ?_
      refine wxM (fun p2 w2 T2 => ?_)
      refine step ?_
      refine step ?_
      refine And.intro trivial ?_
      exact K r6 m acc he a12 p2 el2 (R2.nx (NX.of T2) (fun a ha => by cases ha) (by omega)) (hel.elim Or.inl (fun z => Or.inr (by omega))) w2 (N3.wM T2 (by simp))
  · refine step ?_
    refine step ?_
    refine And.intro trivial ?_
    exact K6 hz
