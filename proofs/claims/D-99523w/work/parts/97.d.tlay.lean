-- NEEDS: 97
/-! THE TWIN'S READER: what is open is laid down -/
def OPN (a : Int → Int) : List Int → Prop
  | [] => True
  | s :: r => a r.length = s ∧ OPN a r
def nb : List Int → Nat
  | [] => 0
  | s :: r => nb r + (if s = 12 ∨ s = 13 then 1 else 0)
def OKS (S : List Int) : Prop := ∀ s ∈ S, s = 11 ∨ s = 12 ∨ s = 13 ∨ s = 91
theorem OPN_up {a : Int → Int} {v : Int} : ∀ (S : List Int) (k : Int), (S.length : Int) ≤ k → OPN a S → OPN (upF a k v) S := by
  intro S
  induction S with
  | nil => intro k _ _; trivial
  | cons s r ih =>
    intro k hk h
    have hl : ((s :: r).length : Int) = r.length + 1 := by simp
    refine ⟨?_, ih k (by omega) h.2⟩
    show (if (r.length : Int) = k then v else a r.length) = s
    rw [if_neg (by omega)]
    exact h.1
theorem OPN_mem {a : Int → Int} : ∀ (S : List Int), OPN a S → ((∃ x : Int, 0 ≤ x ∧ x < S.length ∧ a x = 91) ↔ 91 ∈ S) := by
  intro S
  induction S with
  | nil => intro _; exact ⟨fun ⟨x, h0, h1, _⟩ => by simp at h1; omega, fun h => by cases h⟩
  | cons s r ih =>
    intro h
    have hl : ((s :: r).length : Int) = r.length + 1 := by simp
    constructor
    · rintro ⟨x, x0, x1, xv⟩
      by_cases hx : x = r.length
      · rw [hx, h.1] at xv
        rw [xv]; exact List.mem_cons_self
      · exact List.mem_cons_of_mem _ ((ih h.2).mp ⟨x, x0, by omega, xv⟩)
    · intro hm
      rcases List.mem_cons.mp hm with z | z
      · exact ⟨r.length, by omega, by omega, by rw [h.1, z]⟩
      · obtain ⟨x, x0, x1, xv⟩ := (ih h.2).mpr z
        exact ⟨x, x0, by omega, xv⟩
theorem OPN_r {a : Int → Int} : ∀ (S : List Int), OPN a S → OKS S → ∀ x : Int, 0 ≤ x → x < S.length → iR (a x) := by
  intro S
  induction S with
  | nil => intro _ _ x x0 x1; simp at x1; omega
  | cons s r ih =>
    intro h ho x x0 x1
    have hl : ((s :: r).length : Int) = r.length + 1 := by simp
    by_cases hx : x = r.length
    · rw [hx, h.1]
      have := ho s List.mem_cons_self
      omega
    · exact ih h.2 (fun s hs => ho s (List.mem_cons_of_mem _ hs)) x x0 (by omega)
/-- what is open: the list, its top ahead -/
def TSS (p : AH) (S : List Int) : Prop := hI p M 16 = S.length ∧ (hI p M 13 = nd S ∧ 0 ≤ nd S ∧ nd S ≤ 10) ∧ OPN (hI p mOPEN) S ∧ OKS S
theorem TSS.go {A : List Nat} {B : List Int} {h p : AH} {S : List Int} (H : TSS h S) (X : TA A B h p) (hA : mOPEN ∉ A) (h16 : 16 ∉ B) (h13 : 13 ∉ B) : TSS p S := by
  unfold TSS
  rw [X.f h16, X.f h13, X.i hA (by decide)]
  exact H
def ldn (lst : Int) : List Int → List FN → List Int × List FN
  | [], F => ([], F)
  | s :: S, F => if lst ≤ strF s then ldn lst S (apS s F) else (s :: S, F)
abbrev OA : List Nat := [mSIGN, mLENG, mOPEN]
abbrev OB : List Int := [8, 9, 10, 12, 13, 16]
theorem nd_nn : ∀ S, 0 ≤ nd S := fun S => by
  induction S with
  | nil => exact Int.le_refl _
  | cons a b ih => unfold nd; split <;> omega
theorem nb_i {s : Int} {S : List Int} (h : s = 12 ∨ s = 13) : nb (s :: S) = nb S + 1 := by
  show nb S + (if s = 12 ∨ s = 13 then 1 else 0) = nb S + 1
  rw [if_pos h]
theorem nb_o {s : Int} {S : List Int} (h : ¬ (s = 12 ∨ s = 13)) : nb (s :: S) = nb S := by
  show nb S + (if s = 12 ∨ s = 13 then 1 else 0) = nb S
  rw [if_neg h]
  omega
theorem apS_b {s : Int} {a b : FN} {F : List FN} (h : s = 12 ∨ s = 13) : apS s (b :: a :: F) = (fun w => oneS s (a w) (b w)) :: F := by
  unfold apS
  rw [if_neg (by omega)]
theorem stS_not {w : Int → Int64} {a : FN} {F : List FN} : stS (11 + 16 * 0) w ((a :: F).map (fun f => f w)) = some (((fun w => 1 - a w) :: F).map (fun f => f w)) := by
  unfold stS
  rw [if_neg (by omega), if_neg (by omega), if_pos (by omega)]
  rfl
theorem strF_v : strF 11 = 3 ∧ strF 12 = 2 ∧ strF 13 = 1 ∧ strF 91 = 0 := by decide
theorem t_layDown {d : Nat} {h : AH} {Φ : OUT → AH → Prop} {T : Int → Int} {n i m t l0 l lst e : Int} {S : List Int} {F : List FN} (H : PS h T n i m t l0 l (S.length + e) F) (he : 0 ≤ e) (HS : TSS h S) (hb : F.length = nb S + 1) (hl1 : 1 ≤ lst) (hl3 : lst ≤ 3)
    (K : ∀ p l2, l ≤ l2 → PS p T n i m t l0 l2 ((ldn lst S F).1.length + e) (ldn lst S F).2 → TSS p (ldn lst S F).1 → (ldn lst S F).2.length = nb (ldn lst S F).1 + 1 → FR OA OB t l h p → Φ (.inl none) p) : CT (d + 2) 0 0 J_X4_layDown [vo M, vi lst] h Φ := by
  refine e_X4_layDown ?_; intro k step keep
  have loop : ∀ (S : List Int) (F : List FN) (p : AH) (l2 : Int), l ≤ l2 → PS p T n i m t l0 l2 (S.length + e) F → TSS p S → F.length = nb S + 1 → FR OA OB t l h p → (∀ p l2, l ≤ l2 → PS p T n i m t l0 l2 ((ldn lst S F).1.length + e) (ldn lst S F).2 → TSS p (ldn lst S F).1 → (ldn lst S F).2.length = nb (ldn lst S F).1 + 1 → FR OA OB t l h p → Φ (.inl none) p) → k 0 0 0 [(0, vo M), (1, vi lst)] [] p := by
    intro S
    induction S with
    | nil =>
      intro F p l2 hl P HS hb f K
      obtain ⟨s1, -, -, -⟩ := id HS
      have s1 : hI p M 16 = 0 := s1
      have hM := P.1.1
      repeat (first | refine wtA (by decide) ?_ | refine wtM ?_ | refine wtL ?_ | refine step ?_ | refine Exists.intro _ (And.intro (congrFun hM _) ?_) | refine Exists.intro _ (And.intro rfl ?_) | refine And.intro rfl ?_ | refine And.intro trivial ?_ | (refine And.intro (by intro hz; exfalso; omega) ?_; intro hz9) | refine And.intro (by omega) ?_ | refine And.intro (by simp only [lnM_TAPE, lnM_SIGN, lnM_LENG, lnM_CLAU, lnM_CLSS, lnM_READ, lnM_OPEN, lnM_STCK, lnM_WORD, lnM_SAID, lnM_WASS, lnM_KEPT, lnM_FAR, lnM_WASI, lnM_OUTO, lnM_HASB, lnM_WHER, lnM_ISFI, lnM_CELT, lnM_IMGS, lnM_IMGF, lnM_IMGX, lnM_ISMA]; omega) ?_ | (refine And.intro ?_ (by intro hz; exfalso; omega); intro hz9))
      exact K p l2 hl P HS hb f
    | cons s S ih =>
      intro F p l2 hl P HS hb f K
      obtain ⟨s1, ⟨s2, s3, s4⟩, s5, s6⟩ := id HS
      obtain ⟨hX, ⟨b1, b2, b3⟩, ⟨d1, d2, d3⟩, ⟨e1, e2, e3, e4, e5⟩, fl, -, -⟩ := id P
      obtain ⟨hM, -, -, -, ⟨i0, i1⟩, n1, hB, -⟩ := id hX
      have s1 : hI p M 16 = S.length + 1 := by rw [s1]; simp
      have e5 : l2 + (S.length + 1 + e) ≤ i := by simpa using e5
      have sv : hI p mOPEN (hI p M 16 - 1) = s := by rw [s1, show (S.length : Int) + 1 - 1 = S.length by omega]; exact s5.1
      have so := s6 s List.mem_cons_self
      have sr : iR s := by omega
      have str : strF s = 0 ∨ strF s = 1 ∨ strF s = 2 ∨ strF s = 3 := by
        have := strF_v
        rcases so with z | z | z | z <;> rw [z] <;> omega
      unfold ldn at K
      refine step ?_
      repeat (first | refine wtA (by decide) ?_ | refine wtM ?_ | refine wtL ?_ | refine step ?_ | refine Exists.intro _ (And.intro (congrFun hM _) ?_) | refine Exists.intro _ (And.intro rfl ?_) | refine And.intro rfl ?_ | refine And.intro trivial ?_ | (refine And.intro (by intro hz; exfalso; omega) ?_; intro hz9) | refine And.intro (by omega) ?_ | refine And.intro (by simp only [lnM_TAPE, lnM_SIGN, lnM_LENG, lnM_CLAU, lnM_CLSS, lnM_READ, lnM_OPEN, lnM_STCK, lnM_WORD, lnM_SAID, lnM_WASS, lnM_KEPT, lnM_FAR, lnM_WASI, lnM_OUTO, lnM_HASB, lnM_WHER, lnM_ISFI, lnM_CELT, lnM_IMGS, lnM_IMGF, lnM_IMGX, lnM_ISMA]; omega) ?_ | (refine And.intro ?_ (by intro hz; exfalso; omega); intro hz9))
      rw [sv]
      refine Or.inl (t_strength sr ?_)
      repeat (first | refine wtA (by decide) ?_ | refine wtM ?_ | refine wtL ?_ | refine step ?_ | refine Exists.intro _ (And.intro (congrFun hM _) ?_) | refine Exists.intro _ (And.intro rfl ?_) | refine And.intro rfl ?_ | refine And.intro trivial ?_ | (refine And.intro (by intro hz; exfalso; omega) ?_; intro hz9) | refine And.intro (by omega) ?_ | refine And.intro (by simp only [lnM_TAPE, lnM_SIGN, lnM_LENG, lnM_CLAU, lnM_CLSS, lnM_READ, lnM_OPEN, lnM_STCK, lnM_WORD, lnM_SAID, lnM_WASS, lnM_KEPT, lnM_FAR, lnM_WASI, lnM_OUTO, lnM_HASB, lnM_WHER, lnM_ISFI, lnM_CELT, lnM_IMGS, lnM_IMGF, lnM_IMGX, lnM_ISMA]; omega) ?_ | (refine And.intro ?_ (by intro hz; exfalso; omega); intro hz9))
      refine And.intro (fun hc => ?_) (fun hc => ?_)
      · rw [if_neg (by omega)] at K
        repeat (first | refine wtA (by decide) ?_ | refine wtM ?_ | refine wtL ?_ | refine step ?_ | refine Exists.intro _ (And.intro (congrFun hM _) ?_) | refine Exists.intro _ (And.intro rfl ?_) | refine And.intro rfl ?_ | refine And.intro trivial ?_ | (refine And.intro (by intro hz; exfalso; omega) ?_; intro hz9) | refine And.intro (by omega) ?_ | refine And.intro (by simp only [lnM_TAPE, lnM_SIGN, lnM_LENG, lnM_CLAU, lnM_CLSS, lnM_READ, lnM_OPEN, lnM_STCK, lnM_WORD, lnM_SAID, lnM_WASS, lnM_KEPT, lnM_FAR, lnM_WASI, lnM_OUTO, lnM_HASB, lnM_WHER, lnM_ISFI, lnM_CELT, lnM_IMGS, lnM_IMGF, lnM_IMGX, lnM_ISMA]; omega) ?_ | (refine And.intro ?_ (by intro hz; exfalso; omega); intro hz9))
        exact K p l2 hl P HS hb f
      · rw [if_pos (by omega)] at K
        have s91 : s ≠ 91 := fun z => by rw [z, strF_v.2.2.2] at hc; omega
        repeat (first | refine wtA (by decide) ?_ | refine wtM ?_ | refine wtL ?_ | refine step ?_ | refine Exists.intro _ (And.intro (congrFun hM _) ?_) | refine Exists.intro _ (And.intro rfl ?_) | refine And.intro rfl ?_ | refine And.intro trivial ?_ | (refine And.intro (by intro hz; exfalso; omega) ?_; intro hz9) | refine And.intro (by omega) ?_ | refine And.intro (by simp only [lnM_TAPE, lnM_SIGN, lnM_LENG, lnM_CLAU, lnM_CLSS, lnM_READ, lnM_OPEN, lnM_STCK, lnM_WORD, lnM_SAID, lnM_WASS, lnM_KEPT, lnM_FAR, lnM_WASI, lnM_OUTO, lnM_HASB, lnM_WHER, lnM_ISFI, lnM_CELT, lnM_IMGS, lnM_IMGF, lnM_IMGX, lnM_ISMA]; omega) ?_ | (refine And.intro ?_ (by intro hz; exfalso; omega); intro hz9))
        intro p1 o1 T1
        rw [s1, show (S.length : Int) + 1 - 1 = S.length by omega] at o1
        have hM := T1.m hM
        have v1 : hI p1 mOPEN (hI p1 M 16) = s := by rw [o1, T1.i (by decide) (by decide)]; exact s5.1
        have H1 : RX p1 T n i := hX.to T1 (by decide) (by decide) (by decide) (by rw [T1.f (by decide)]; exact hX.2.2.2.1) i0 i1
        have P1 : PS p1 T n i m t l0 l2 (S.length + 1 + e) F := P.mv T1 (by decide) (by decide) (by decide) H1 (by rw [T1.f (by decide)]; exact b1) (Int.le_refl _) b3 (by omega) (by omega)
        repeat (first | refine wtA (by decide) ?_ | refine wtM ?_ | refine wtL ?_ | refine step ?_ | refine Exists.intro _ (And.intro (congrFun hM _) ?_) | refine Exists.intro _ (And.intro rfl ?_) | refine And.intro rfl ?_ | refine And.intro trivial ?_ | (refine And.intro (by intro hz; exfalso; omega) ?_; intro hz9) | refine And.intro (by omega) ?_ | refine And.intro (by simp only [lnM_TAPE, lnM_SIGN, lnM_LENG, lnM_CLAU, lnM_CLSS, lnM_READ, lnM_OPEN, lnM_STCK, lnM_WORD, lnM_SAID, lnM_WASS, lnM_KEPT, lnM_FAR, lnM_WASI, lnM_OUTO, lnM_HASB, lnM_WHER, lnM_ISFI, lnM_CELT, lnM_IMGS, lnM_IMGF, lnM_IMGX, lnM_ISMA]; omega) ?_ | (refine And.intro ?_ (by intro hz; exfalso; omega); intro hz9))
        rw [v1]
        refine Or.inl (t_puts hM P1.2.2.1.1 d2 d3 P1.2.2.2.1.1 (by omega) (by omega) (fun p2 hM q1 q2 T2 => ?_))
        have f2 : FR OA OB t l h p2 := f.tr (l2 := l2) ⟨(T1.up (by decide) (by decide)).tr (T2.up (by decide) (by decide)), fun x hx => by
          rw [q1]
          show (if x = 400 * t + l2 then _ else _) = _
          rw [if_neg (by omega), T1.i (by decide) (by decide)]⟩ hl
        have v2 : hI p2 mOPEN (hI p2 M 16) = s := by rw [T2.f (by decide), T2.i (by decide) (by decide)]; exact v1
        have o2 : hI p2 M 16 = S.length := by rw [T2.f (by decide)]; exact o1
        have o3 : hI p2 M 13 = nd (s :: S) := by rw [T2.f (by decide), T1.f (by decide)]; exact s2
        have op : OPN (hI p2 mOPEN) S := by rw [T2.i (by decide) (by decide), T1.i (by decide) (by decide)]; exact s5.2
        have ok : OKS S := fun z hz => s6 z (List.mem_cons_of_mem _ hz)
        have PP : PS p2 T n i m t l0 (l2 + 1) (S.length + e) (apS s F) ∧ (apS s F).length = nb S + 1 := by
          by_cases h11 : s = 11
          · subst h11
            rw [nb_o (by decide)] at hb
            match F, hb, fl, P1 with
            | a :: r, hb, fl, P1 =>
              refine ⟨P1.put (c2 := S.length + e) T2 q1 q2 (by omega) (by omega) (by omega) (by omega) ?_ (fun w => stS_not), ?_⟩
              · show (((fun w => 1 - a w) :: r).length : Int) ≤ m
                simpa using fl
              · show ((fun w => 1 - a w) :: r : List FN).length = nb S + 1
                simpa using hb
          · have hs2 : s = 12 ∨ s = 13 := by omega
            rw [nb_i hs2] at hb
            match F, hb, fl, P1 with
            | b :: a :: r, hb, fl, P1 =>
              rw [apS_b hs2]
              refine ⟨P1.put (c2 := S.length + e) T2 q1 q2 (by omega) (by omega) (by omega) (by omega) ?_ (fun w => stS_op (s := s) (w := w) (a := a) (b := b) (F := r) (by omega)), ?_⟩
              · simp at fl ⊢; omega
              · simp at hb ⊢; omega
        have ge : nd (s :: S) = nd S + (if s = 11 ∨ s = 91 then 1 else 0) := rfl
        repeat (first | refine wtA (by decide) ?_ | refine wtM ?_ | refine wtL ?_ | refine step ?_ | refine Exists.intro _ (And.intro (congrFun hM _) ?_) | refine Exists.intro _ (And.intro rfl ?_) | refine And.intro rfl ?_ | refine And.intro trivial ?_ | (refine And.intro (by intro hz; exfalso; omega) ?_; intro hz9) | refine And.intro (by omega) ?_ | refine And.intro (by simp only [lnM_TAPE, lnM_SIGN, lnM_LENG, lnM_CLAU, lnM_CLSS, lnM_READ, lnM_OPEN, lnM_STCK, lnM_WORD, lnM_SAID, lnM_WASS, lnM_KEPT, lnM_FAR, lnM_WASI, lnM_OUTO, lnM_HASB, lnM_WHER, lnM_ISFI, lnM_CELT, lnM_IMGS, lnM_IMGF, lnM_IMGX, lnM_ISMA]; omega) ?_ | (refine And.intro ?_ (by intro hz; exfalso; omega); intro hz9))
        rw [v2]
        refine And.intro (fun hd => ?_) (fun hd => ?_)
        · rw [if_neg (by omega)] at ge
          exact ih (apS s F) p2 (l2 + 1) (by omega) PP.1 ⟨o2, ⟨by omega, by omega, by omega⟩, op, ok⟩ PP.2 f2 K
        · rw [if_pos (by omega)] at ge
          repeat (first | refine wtA (by decide) ?_ | refine wtM ?_ | refine wtL ?_ | refine step ?_ | refine Exists.intro _ (And.intro (congrFun hM _) ?_) | refine Exists.intro _ (And.intro rfl ?_) | refine And.intro rfl ?_ | refine And.intro trivial ?_ | (refine And.intro (by intro hz; exfalso; omega) ?_; intro hz9) | refine And.intro (by omega) ?_ | refine And.intro (by simp only [lnM_TAPE, lnM_SIGN, lnM_LENG, lnM_CLAU, lnM_CLSS, lnM_READ, lnM_OPEN, lnM_STCK, lnM_WORD, lnM_SAID, lnM_WASS, lnM_KEPT, lnM_FAR, lnM_WASI, lnM_OUTO, lnM_HASB, lnM_WHER, lnM_ISFI, lnM_CELT, lnM_IMGS, lnM_IMGF, lnM_IMGX, lnM_ISMA]; omega) ?_ | (refine And.intro ?_ (by intro hz; exfalso; omega); intro hz9))
          intro p3 o13 T3
          rw [o3] at o13
          have H3 : RX p3 T n i := PP.1.1.to T3 (by decide) (by decide) (by decide) (by rw [T3.f (by decide)]; exact PP.1.1.2.2.2.1) i0 i1
          have P3 : PS p3 T n i m t l0 (l2 + 1) (S.length + e) (apS s F) := PP.1.mv T3 (by decide) (by decide) (by decide) H3 (by rw [T3.f (by decide)]; exact PP.1.2.1.1) (Int.le_refl _) b3 (by omega) (by omega)
          have nn := nd_nn S
          repeat (first | (exact ih (apS s F) p3 (l2 + 1) (by omega) P3 ⟨by rw [T3.f (by decide)]; exact o2, ⟨by omega, nn, by omega⟩, by rw [T3.i (by decide) (by decide)]; exact op, ok⟩ PP.2 (f2.tr (FR.of T3 (by decide) (by decide) (by decide) : FR OA OB t l p2 p3) (Int.le_refl _)) K) | refine wtA (by decide) ?_ | refine wtM ?_ | refine wtL ?_ | refine step ?_ | refine Exists.intro _ (And.intro (congrFun hM _) ?_) | refine Exists.intro _ (And.intro rfl ?_) | refine And.intro rfl ?_ | refine And.intro trivial ?_ | (refine And.intro (by intro hz; exfalso; omega) ?_; intro hz9) | refine And.intro (by omega) ?_ | refine And.intro (by simp only [lnM_TAPE, lnM_SIGN, lnM_LENG, lnM_CLAU, lnM_CLSS, lnM_READ, lnM_OPEN, lnM_STCK, lnM_WORD, lnM_SAID, lnM_WASS, lnM_KEPT, lnM_FAR, lnM_WASI, lnM_OUTO, lnM_HASB, lnM_WHER, lnM_ISFI, lnM_CELT, lnM_IMGS, lnM_IMGF, lnM_IMGX, lnM_ISMA]; omega) ?_ | (refine And.intro ?_ (by intro hz; exfalso; omega); intro hz9))
  exact loop S F h l (Int.le_refl _) H HS hb FR.rf K
/-! laying down is what the small machine does -/
theorem lay_gen {T : Int → Int} {n i m lst : Int} {r : PRS} (Q : List Int → Prop) (step : ∀ s S F, lst ≤ strF s → Q (s :: S) → stp T n (1, i, m, s :: S, F) = .inl (1, i, m, S, apS s F) ∧ Q S) : ∀ (S : List Int) (F : List FN), Q S → ENDS T n (1, i, m, S, F) r → ENDS T n (1, i, m, (ldn lst S F).1, (ldn lst S F).2) r ∧ Q (ldn lst S F).1 ∧ ∀ s S', (ldn lst S F).1 = s :: S' → strF s < lst := by
  intro S
  induction S with
  | nil => intro F q e; exact ⟨e, q, fun s S' z => by cases z⟩
  | cons s S ih =>
    intro F q e
    unfold ldn
    by_cases h : lst ≤ strF s
    · obtain ⟨h1, h2⟩ := step s S F h q
      rw [if_pos h]
      exact ih (apS s F) h2 ((ends_stp h1).mp e)
    · rw [if_neg h]
      refine ⟨e, q, fun s' S' z => ?_⟩
      have z : s :: S = s' :: S' := z
      injection z with z1 z2
      rw [← z1]; omega
theorem OKS.tl {s : Int} {S : List Int} (h : OKS (s :: S)) : OKS S := fun z hz => h z (List.mem_cons_of_mem _ hz)
theorem str_1 {s : Int} (h : s = 11 ∨ s = 12 ∨ s = 13 ∨ s = 91) (z : 1 ≤ strF s) : s = 11 ∨ s = 12 ∨ s = 13 := by
  have := strF_v
  rcases h with q | q | q | q <;> rw [q] at z ⊢ <;> omega
theorem lay3 {T : Int → Int} {n i m : Int} {r : PRS} (S : List Int) (F : List FN) (ho : OKS S) (h : ENDS T n (1, i, m, S, F) r) : ENDS T n (1, i, m, (ldn 3 S F).1, (ldn 3 S F).2) r ∧ OKS (ldn 3 S F).1 ∧ ∀ s S', (ldn 3 S F).1 = s :: S' → strF s < 3 := by
  refine lay_gen OKS (fun s S F hs q => ⟨?_, q.tl⟩) S F ho h
  have s11 : s = 11 := by
    have := strF_v
    rcases q s List.mem_cons_self with z | z | z | z <;> rw [z] at hs <;> omega
  subst s11
  rw [stp1, if_pos (by simp)]
  rfl
theorem lay1c {T : Int → Int} {n i m : Int} {r : PRS} (hc : byF T n (skp T n i) = 93) (S : List Int) (F : List FN) (ho : OKS S) (hm : 91 ∈ S) (h : ENDS T n (1, i, m, S, F) r) : ENDS T n (1, i, m, (ldn 1 S F).1, (ldn 1 S F).2) r ∧ (OKS (ldn 1 S F).1 ∧ 91 ∈ (ldn 1 S F).1) ∧ ∀ s S', (ldn 1 S F).1 = s :: S' → strF s < 1 := by
  refine lay_gen (fun S => OKS S ∧ 91 ∈ S) (fun s S F hs q => ?_) S F ⟨ho, hm⟩ h
  have s3 := str_1 (q.1 s List.mem_cons_self) hs
  have m2 : 91 ∈ S := by
    rcases List.mem_cons.mp q.2 with z | z
    · omega
    · exact z
  refine ⟨?_, q.1.tl, m2⟩
  rw [stp1]
  by_cases h11 : s = 11
  · subst h11; rw [if_pos (by simp)]; rfl
  · rw [if_neg (by simpa using h11), if_pos ⟨hc, q.2⟩, if_neg (by simp; omega)]
    rfl
theorem lay2 {T : Int → Int} {n i m : Int} {r : PRS} (hc : byF T n (skp T n i) ≠ 93) (hA : wdB T n (skp T n i) wAND = true) (S : List Int) (F : List FN) (ho : OKS S) (h : ENDS T n (1, i, m, S, F) r) : ENDS T n (1, i, m, (ldn 2 S F).1, (ldn 2 S F).2) r ∧ OKS (ldn 2 S F).1 ∧ ∀ s S', (ldn 2 S F).1 = s :: S' → strF s < 2 := by
  refine lay_gen OKS (fun s S F hs q => ⟨?_, q.tl⟩) S F ho h
  have s11 : s = 11 ∨ s = 12 := by
    have := strF_v
    rcases q s List.mem_cons_self with z | z | z | z <;> rw [z] at hs ⊢ <;> omega
  rw [stp1]
  rcases s11 with z | z <;> subst z
  · rw [if_pos (by simp)]; rfl
  · rw [if_neg (by simp), if_neg (fun z => hc z.1), if_pos hA, if_pos (by simp)]
    rfl
theorem lay1o {T : Int → Int} {n i m : Int} {r : PRS} (hc : byF T n (skp T n i) ≠ 93) (hA : noW T n i wAND) (hO : wdB T n (skp T n i) wOR = true) (S : List Int) (F : List FN) (ho : OKS S) (h : ENDS T n (1, i, m, S, F) r) : ENDS T n (1, i, m, (ldn 1 S F).1, (ldn 1 S F).2) r ∧ OKS (ldn 1 S F).1 ∧ ∀ s S', (ldn 1 S F).1 = s :: S' → strF s < 1 := by
  refine lay_gen OKS (fun s S F hs q => ⟨?_, q.tl⟩) S F ho h
  have s3 := str_1 (q s List.mem_cons_self) hs
  rw [stp1]
  by_cases h11 : s = 11
  · subst h11; rw [if_pos (by simp)]; rfl
  · rw [if_neg (by simpa using h11), if_neg (fun z => hc z.1), if_neg hA, if_pos hO, if_pos (by simp; omega)]
    rfl
theorem lay1e {T : Int → Int} {n i m : Int} {r : PRS} (hA : noW T n i wAND) (hO : noW T n i wOR) (S : List Int) (F : List FN) (ho : OKS S) (hm : 91 ∉ S) (h : ENDS T n (1, i, m, S, F) r) : ENDS T n (1, i, m, (ldn 1 S F).1, (ldn 1 S F).2) r ∧ (OKS (ldn 1 S F).1 ∧ 91 ∉ (ldn 1 S F).1) ∧ ∀ s S', (ldn 1 S F).1 = s :: S' → strF s < 1 := by
  refine lay_gen (fun S => OKS S ∧ 91 ∉ S) (fun s S F hs q => ?_) S F ⟨ho, hm⟩ h
  have s3 := str_1 (q.1 s List.mem_cons_self) hs
  refine ⟨?_, q.1.tl, fun z => q.2 (List.mem_cons_of_mem _ z)⟩
  rw [stp1]
  by_cases h11 : s = 11
  · subst h11; rw [if_pos (by simp)]; rfl
  · rw [if_neg (by simpa using h11), if_neg (fun z => q.2 z.2), if_neg hA, if_neg hO, if_neg q.2, if_neg (by simp)]
    rfl
