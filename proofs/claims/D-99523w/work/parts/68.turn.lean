/-! THE TWIN: a rule's turns -/
abbrev RLE : Type := List (((Int → Int64) → Int64) × ((Int → Int64) → Int64))
def ruF : RLE → (Int → Int64) → Int64
  | [], _ => 0
  | c :: r, w => if c.2 w = 1 then c.1 w else ruF r w
/-- clause c of rule r computes f where t is 1 -/
def CLS (sg cl : Int → Int) (r c : Int) (f t : (Int → Int64) → Int64) : Prop :=
  ((0 ≤ cl (48 * r + 4 * c) ∧ cl (48 * r + 4 * c) ≤ cl (48 * r + 4 * c + 1) ∧ cl (48 * r + 4 * c + 1) ≤ 400) ∧ (∀ x, cl (48 * r + 4 * c) ≤ x → x < cl (48 * r + 4 * c + 1) → 0 ≤ sg (400 * r + x) ∧ sg (400 * r + x) < 2147483648) ∧ ∀ w, runS (fun x => sg (400 * r + x)) w (cl (48 * r + 4 * c + 1) - cl (48 * r + 4 * c)).toNat (cl (48 * r + 4 * c)) [] = some [f w]) ∧
  ((cl (48 * r + 4 * c + 2) = -1 ∧ ∀ w, t w = 1) ∨ ((0 ≤ cl (48 * r + 4 * c + 2) ∧ cl (48 * r + 4 * c + 2) ≤ cl (48 * r + 4 * c + 3) ∧ cl (48 * r + 4 * c + 3) ≤ 400) ∧ (∀ x, cl (48 * r + 4 * c + 2) ≤ x → x < cl (48 * r + 4 * c + 3) → 0 ≤ sg (400 * r + x) ∧ sg (400 * r + x) < 2147483648) ∧ ∀ w, runS (fun x => sg (400 * r + x)) w (cl (48 * r + 4 * c + 3) - cl (48 * r + 4 * c + 2)).toNat (cl (48 * r + 4 * c + 2)) [] = some [t w]))
def RT (sg cl cs : Int → Int) (r : Int) (L : RLE) : Prop := cs r = L.length ∧ L.length ≤ 12 ∧ ∀ (c : Nat) q, L[c]? = some q → CLS sg cl r c q.1 q.2
theorem lCmp_1 (x : Int64) : lCmp x 1 = 0 ↔ x = 1 := by
  unfold lCmp
  constructor
  · intro h
    by_cases c : (1 : Int64) < x
    · rw [if_pos c] at h; omega
    · rw [if_neg c] at h
      by_cases c2 : x = 1
      · exact c2
      · rw [if_neg c2] at h; omega
  · intro h
    rw [h]
    decide
theorem t_summedBy {d : Nat} {h : AH} {Φ : OUT → AH → Prop} {r : Int} {L : RLE} {w : Int → Int64} (hM : hP h M = MP) (r0 : 0 ≤ r) (r1 : r ≤ 5) (hR : RT (hI h mSIGN) (hI h mCLAU) (hI h mCLSS) r L) (hw : ∀ x, 0 ≤ x → x ≤ 10 → hL h mWORD x = w x)
    (K : ∀ p, hP p M = MP → TA [mSTCK] [18] h p → Φ (.inl (some (vl (ruF L w)))) p) : CT (d + 3) 0 0 J_X4_summedBy [vo M, vi r] h Φ := by
  refine e_X4_summedBy ?_; intro k step keep
  obtain ⟨hl, h12, hC⟩ := hR
  have loop : ∀ (n c : Nat) (p : AH), c + n = L.length → hP p M = MP → TA [mSTCK] [18] h p → (∀ p, hP p M = MP → TA [mSTCK] [18] h p → Φ (.inl (some (vl (ruF (L.drop c) w)))) p) → k 0 0 2 [(0, vo M), (1, vi r), (2, vi c)] [] p := by
    intro n
    induction n with
    | zero =>
      intro c p hn hM T K
      have ec : hI p mCLSS r = L.length := by rw [T.i (by decide) (by decide)]; exact hl
      rw [List.drop_eq_nil_of_le (by omega)] at K
      repeat (first | refine wtA (by decide) ?_ | refine wtM ?_ | refine wtL ?_ | refine step ?_ | refine Exists.intro _ (And.intro (congrFun hM _) ?_) | refine Exists.intro _ (And.intro rfl ?_) | refine And.intro rfl ?_ | refine And.intro trivial ?_ | (refine And.intro (by intro hz; exfalso; omega) ?_; intro hz9) | refine And.intro (by omega) ?_ | refine And.intro (by simp only [lnM_TAPE, lnM_SIGN, lnM_LENG, lnM_CLAU, lnM_CLSS, lnM_READ, lnM_OPEN, lnM_STCK, lnM_WORD, lnM_SAID, lnM_WASS, lnM_KEPT, lnM_FAR, lnM_WASI, lnM_OUTO, lnM_HASB, lnM_WHER, lnM_ISFI, lnM_CELT, lnM_IMGS, lnM_IMGF, lnM_IMGX, lnM_ISMA]; omega) ?_ | (refine And.intro ?_ (by intro hz; exfalso; omega); intro hz9))
      exact K p hM T
    | succ n ih =>
      intro c p hn hM T K
      have ec : hI p mCLSS r = L.length := by rw [T.i (by decide) (by decide)]; exact hl
      have e1 : hI p mCLAU = hI h mCLAU := T.i (by decide) (by decide)
      have e2 : hI p mSIGN = hI h mSIGN := T.i (by decide) (by decide)
      have e3 : hL p mWORD = hL h mWORD := T.2.2.1 mWORD (by decide)
      have hlt : c < L.length := by omega
      have hd : L.drop c = L[c] :: L.drop (c + 1) := List.drop_eq_getElem_cons hlt
      obtain ⟨⟨⟨a1, a2, a3⟩, a4, a5⟩, tt⟩ := hC c L[c] (List.getElem?_eq_getElem hlt)
      rw [← e1] at a1 a2 a3 a4 a5 tt
      rw [← e2] at a4 a5 tt
      rw [← e3] at hw
      rw [hd] at K
      have fin : (L[c].2 w = 1) → ∀ p2, hP p2 M = MP → TA [mSTCK] [18] p p2 → k 0 0 58 [(0, vo M), (1, vi r), (2, vi c), (3, vi (48 * r + 4 * c))] [] p2 := by
        intro ht p2 hM T2
        have e4 : hI p2 mCLAU = hI p mCLAU := T2.i (by decide) (by decide)
        have e5 : hI p2 mSIGN = hI p mSIGN := T2.i (by decide) (by decide)
        have e6 : hL p2 mWORD = hL p mWORD := T2.2.2.1 mWORD (by decide)
        repeat (first | refine wtA (by decide) ?_ | refine wtM ?_ | refine wtL ?_ | refine step ?_ | refine Exists.intro _ (And.intro (congrFun hM _) ?_) | refine Exists.intro _ (And.intro rfl ?_) | refine And.intro rfl ?_ | refine And.intro trivial ?_ | (refine And.intro (by intro hz; exfalso; omega) ?_; intro hz9) | refine And.intro (by omega) ?_ | refine And.intro (by simp only [lnM_TAPE, lnM_SIGN, lnM_LENG, lnM_CLAU, lnM_CLSS, lnM_READ, lnM_OPEN, lnM_STCK, lnM_WORD, lnM_SAID, lnM_WASS, lnM_KEPT, lnM_FAR, lnM_WASI, lnM_OUTO, lnM_HASB, lnM_WHER, lnM_ISFI, lnM_CELT, lnM_IMGS, lnM_IMGF, lnM_IMGX, lnM_ISMA]; omega) ?_ | (refine And.intro ?_ (by intro hz; exfalso; omega); intro hz9))
        rw [e4]
        refine Or.inl (t_reckons (sg := fun x => hI p mSIGN (400 * r + x)) (w := w) (v := L[c].1 w) hM r0 r1 a1 a2 a3 (fun x x0 x1 => ⟨by rw [e5], a4 x x0 x1⟩) (by rw [e6]; exact hw) (a5 w) (fun p3 hM T3 => ?_))
        repeat (first | refine wtA (by decide) ?_ | refine wtM ?_ | refine wtL ?_ | refine step ?_ | refine Exists.intro _ (And.intro (congrFun hM _) ?_) | refine Exists.intro _ (And.intro rfl ?_) | refine And.intro rfl ?_ | refine And.intro trivial ?_ | (refine And.intro (by intro hz; exfalso; omega) ?_; intro hz9) | refine And.intro (by omega) ?_ | refine And.intro (by simp only [lnM_TAPE, lnM_SIGN, lnM_LENG, lnM_CLAU, lnM_CLSS, lnM_READ, lnM_OPEN, lnM_STCK, lnM_WORD, lnM_SAID, lnM_WASS, lnM_KEPT, lnM_FAR, lnM_WASI, lnM_OUTO, lnM_HASB, lnM_WHER, lnM_ISFI, lnM_CELT, lnM_IMGS, lnM_IMGF, lnM_IMGX, lnM_ISMA]; omega) ?_ | (refine And.intro ?_ (by intro hz; exfalso; omega); intro hz9))
        have K2 := K p3 hM ((T.tr T2).tr T3)
        rw [show ruF (L[c] :: L.drop (c + 1)) w = L[c].1 w from if_pos ht] at K2
        exact K2
      refine step ?_
      repeat (first | refine wtA (by decide) ?_ | refine wtM ?_ | refine wtL ?_ | refine step ?_ | refine Exists.intro _ (And.intro (congrFun hM _) ?_) | refine Exists.intro _ (And.intro rfl ?_) | refine And.intro rfl ?_ | refine And.intro trivial ?_ | (refine And.intro (by intro hz; exfalso; omega) ?_; intro hz9) | refine And.intro (by omega) ?_ | refine And.intro (by simp only [lnM_TAPE, lnM_SIGN, lnM_LENG, lnM_CLAU, lnM_CLSS, lnM_READ, lnM_OPEN, lnM_STCK, lnM_WORD, lnM_SAID, lnM_WASS, lnM_KEPT, lnM_FAR, lnM_WASI, lnM_OUTO, lnM_HASB, lnM_WHER, lnM_ISFI, lnM_CELT, lnM_IMGS, lnM_IMGF, lnM_IMGX, lnM_ISMA]; omega) ?_ | (refine And.intro ?_ (by intro hz; exfalso; omega); intro hz9))
      rcases tt with ⟨t1, t2⟩ | ⟨⟨t1, t2, t3⟩, t4, t5⟩
      · repeat (first | (exact fin (t2 w) p hM TA.rf) | refine wtA (by decide) ?_ | refine wtM ?_ | refine wtL ?_ | refine step ?_ | refine Exists.intro _ (And.intro (congrFun hM _) ?_) | refine Exists.intro _ (And.intro rfl ?_) | refine And.intro rfl ?_ | refine And.intro trivial ?_ | (refine And.intro (by intro hz; exfalso; omega) ?_; intro hz9) | refine And.intro (by omega) ?_ | refine And.intro (by simp only [lnM_TAPE, lnM_SIGN, lnM_LENG, lnM_CLAU, lnM_CLSS, lnM_READ, lnM_OPEN, lnM_STCK, lnM_WORD, lnM_SAID, lnM_WASS, lnM_KEPT, lnM_FAR, lnM_WASI, lnM_OUTO, lnM_HASB, lnM_WHER, lnM_ISFI, lnM_CELT, lnM_IMGS, lnM_IMGF, lnM_IMGX, lnM_ISMA]; omega) ?_ | (refine And.intro ?_ (by intro hz; exfalso; omega); intro hz9))
      · repeat (first | refine wtA (by decide) ?_ | refine wtM ?_ | refine wtL ?_ | refine step ?_ | refine Exists.intro _ (And.intro (congrFun hM _) ?_) | refine Exists.intro _ (And.intro rfl ?_) | refine And.intro rfl ?_ | refine And.intro trivial ?_ | (refine And.intro (by intro hz; exfalso; omega) ?_; intro hz9) | refine And.intro (by omega) ?_ | refine And.intro (by simp only [lnM_TAPE, lnM_SIGN, lnM_LENG, lnM_CLAU, lnM_CLSS, lnM_READ, lnM_OPEN, lnM_STCK, lnM_WORD, lnM_SAID, lnM_WASS, lnM_KEPT, lnM_FAR, lnM_WASI, lnM_OUTO, lnM_HASB, lnM_WHER, lnM_ISFI, lnM_CELT, lnM_IMGS, lnM_IMGF, lnM_IMGX, lnM_ISMA]; omega) ?_ | (refine And.intro ?_ (by intro hz; exfalso; omega); intro hz9))
        refine Or.inl (t_reckons (sg := fun x => hI p mSIGN (400 * r + x)) (w := w) (v := L[c].2 w) hM r0 r1 t1 t2 t3 (fun x x0 x1 => ⟨rfl, t4 x x0 x1⟩) hw (t5 w) (fun p3 hM T3 => ?_))
        have lr := lCmp_r (L[c].2 w) 1
        refine step ?_
        refine step ?_
        refine step ?_
        refine And.intro lr ?_
        refine And.intro (fun hz => ?_) (fun hz => ?_)
        · have hne : L[c].2 w ≠ 1 := fun z => hz ((lCmp_1 _).mpr z)
          rw [show ruF (L[c] :: L.drop (c + 1)) w = ruF (L.drop (c + 1)) w from if_neg hne] at K
          repeat (first | (exact keep [0, 1, 2] (ih (c + 1) p3 (by omega) hM (T.tr T3) K)) | refine wtA (by decide) ?_ | refine wtM ?_ | refine wtL ?_ | refine step ?_ | refine Exists.intro _ (And.intro (congrFun hM _) ?_) | refine Exists.intro _ (And.intro rfl ?_) | refine And.intro rfl ?_ | refine And.intro trivial ?_ | (refine And.intro (by intro hz; exfalso; omega) ?_; intro hz9) | refine And.intro (by omega) ?_ | refine And.intro (by simp only [lnM_TAPE, lnM_SIGN, lnM_LENG, lnM_CLAU, lnM_CLSS, lnM_READ, lnM_OPEN, lnM_STCK, lnM_WORD, lnM_SAID, lnM_WASS, lnM_KEPT, lnM_FAR, lnM_WASI, lnM_OUTO, lnM_HASB, lnM_WHER, lnM_ISFI, lnM_CELT, lnM_IMGS, lnM_IMGF, lnM_IMGX, lnM_ISMA]; omega) ?_ | (refine And.intro ?_ (by intro hz; exfalso; omega); intro hz9))
        · exact fin ((lCmp_1 _).mp hz) p3 hM T3
  repeat (first | (exact loop L.length 0 h (by omega) hM TA.rf K) | refine wtA (by decide) ?_ | refine wtM ?_ | refine wtL ?_ | refine step ?_ | refine Exists.intro _ (And.intro (congrFun hM _) ?_) | refine Exists.intro _ (And.intro rfl ?_) | refine And.intro rfl ?_ | refine And.intro trivial ?_ | (refine And.intro (by intro hz; exfalso; omega) ?_; intro hz9) | refine And.intro (by omega) ?_ | refine And.intro (by simp only [lnM_TAPE, lnM_SIGN, lnM_LENG, lnM_CLAU, lnM_CLSS, lnM_READ, lnM_OPEN, lnM_STCK, lnM_WORD, lnM_SAID, lnM_WASS, lnM_KEPT, lnM_FAR, lnM_WASI, lnM_OUTO, lnM_HASB, lnM_WHER, lnM_ISFI, lnM_CELT, lnM_IMGS, lnM_IMGF, lnM_IMGX, lnM_ISMA]; omega) ?_ | (refine And.intro ?_ (by intro hz; exfalso; omega); intro hz9))
def hrF (s : Int → Int) (g c : Int) : Nat → Int → Int → Int
  | 0, _, a => a
  | n + 1, o, a => hrF s g c n (o + 1) (a + (if o ≠ g ∧ s (11 + 7 * o + 3) = 0 ∧ s (11 + 7 * o) = c then 1 else 0))
def wiF (s : Int → Int) (g k : Int) : Int := if k = 0 then g else if k = 1 then s (11 + 7 * g) else if k = 2 then s (11 + 7 * g) / s 1 else if k = 3 then s (11 + 7 * g) % s 1 else if k = 4 then s (11 + 7 * g + 1) else if k = 5 then s (11 + 7 * g + 2) else if k = 6 then margF (s 1) (s (11 + 7 * g)) (s (11 + 7 * g + 1)) else if k = 7 then (if 0 ≤ nextF (s 1) (s (11 + 7 * g)) (s (11 + 7 * g + 1)) ∧ s (50 + nextF (s 1) (s (11 + 7 * g)) (s (11 + 7 * g + 1))) = 1 then 1 else 0) else if k = 8 then hrF s g (s (11 + 7 * g)) (s 2).toNat 0 0 else if k = 9 then s (11 + 7 * g + 6) else s 10
def wdF (s : Int → Int) (g k : Int) : Int64 := Int64.ofInt (wiF s g k)
def qF (ρ : Int → RLE) (f : Int) (s : Int → Int) (g : Int) : Int := if f < 0 then 0 else l2I (ruF (ρ f) (wdF s g) &&& 3)
theorem and3 (x : Int64) : 0 ≤ l2I (x &&& 3) ∧ l2I (x &&& 3) ≤ 3 := by
  have e : (x &&& 3).toBitVec = x.toBitVec &&& 3#64 := rfl
  have n : (x &&& 3).toBitVec.toNat < 4 := by
    rw [e, BitVec.toNat_and, show (3#64).toNat = 2 ^ 2 - 1 from rfl, Nat.and_two_pow_sub_one_eq_mod]
    omega
  have t : (x &&& 3).toInt = ((x &&& 3).toBitVec.toNat : Int) := BitVec.toInt_eq_toNat_of_lt (by omega)
  have l : l2I (x &&& 3) = (x &&& 3).toInt := by
    have := l_2i (a := (x &&& 3).toInt) (by omega)
    rw [Int64.ofInt_toInt] at this
    exact this
  omega
theorem qF_ok (ρ : Int → RLE) (f : Int) : QOK (qF ρ f) := fun s g => by
  unfold qF
  split
  · omega
  · exact and3 _
theorem hrF_ok {s : Int → Int} {g c : Int} : ∀ (n : Nat) (o a : Int), a ≤ hrF s g c n o a ∧ hrF s g c n o a ≤ a + n := by
  intro n
  induction n with
  | zero => intro o a; exact ⟨by unfold hrF; omega, by unfold hrF; omega⟩
  | succ n ih =>
    intro o a
    unfold hrF
    have := ih (o + 1) (a + (if o ≠ g ∧ s (11 + 7 * o + 3) = 0 ∧ s (11 + 7 * o) = c then 1 else 0))
    split at this <;> split <;> omega
theorem t_quartersOf {d : Nat} {p : AH} {Ψ : OUT → AH → Prop} {b g f : Int} {ρ : Int → RLE} (hM : hP p M = MP) (hf : hI p M 21 = f) (hfr : iR f) (hR : 0 ≤ f → f ≤ 5 ∧ RT (hI p mSIGN) (hI p mCLAU) (hI p mCLSS) f (ρ f)) (hS : GS (hI p mSAID)) (hG : ∀ x, 0 ≤ x → x < 5 → GG b (hI p mSAID) x) (hb : b ≤ 200000) (g0 : 0 ≤ g) (g1 : g < (hI p mSAID) 2)
    (K : ∀ p2, TA [mWORD, mSTCK] [18] p p2 → Ψ (.inl (some (vi (qF ρ f (hI p mSAID) g)))) p2) : CT (d + 6) 0 0 J_X4_quartersOf [vo M, vi g] p Ψ := by
  refine e_X4_quartersOf ?_; intro k step keep
  obtain ⟨⟨a1, a2⟩, ⟨s0, s5⟩, ⟨a3, a4⟩, -, a5, a6⟩ := id hS
  obtain ⟨⟨c0, c1⟩, ⟨f0, f1⟩, ⟨d0, d1⟩, -, -, -, ⟨b0, b1⟩⟩ := hG g g0 (by omega)
  have sq := sq_le a1 a2
  have mg := margF_ok (f := (hI p mSAID) (11 + 7 * g + 1)) a1 a2 c0 c1
  have nx := nextF_ok a1 a2 c0 c1 f0 f1
  have hr := hrF_ok (s := (hI p mSAID)) (g := g) (c := (hI p mSAID) (11 + 7 * g)) ((hI p mSAID) 2).toNat 0 0
  have dv : 0 ≤ (hI p mSAID) (11 + 7 * g) / (hI p mSAID) 1 ∧ (hI p mSAID) (11 + 7 * g) / (hI p mSAID) 1 ≤ (hI p mSAID) (11 + 7 * g) := ⟨Int.ediv_nonneg c0 (by omega), Int.ediv_le_self _ c0⟩
  have r1 := Int.emod_nonneg ((hI p mSAID) (11 + 7 * g)) (show (hI p mSAID) 1 ≠ 0 by omega)
  have r2 := Int.emod_lt_of_pos ((hI p mSAID) (11 + 7 * g)) (show 0 < (hI p mSAID) 1 by omega)
  unfold qF at K
  repeat (first | refine wtA (by decide) ?_ | refine wtM ?_ | refine wtL ?_ | refine step ?_ | refine Exists.intro _ (And.intro (congrFun hM _) ?_) | refine Exists.intro _ (And.intro rfl ?_) | refine And.intro rfl ?_ | refine And.intro trivial ?_ | (refine And.intro (by intro hz; exfalso; omega) ?_; intro hz9) | refine And.intro (by omega) ?_ | refine And.intro (by simp only [lnM_TAPE, lnM_SIGN, lnM_LENG, lnM_CLAU, lnM_CLSS, lnM_READ, lnM_OPEN, lnM_STCK, lnM_WORD, lnM_SAID, lnM_WASS, lnM_KEPT, lnM_FAR, lnM_WASI, lnM_OUTO, lnM_HASB, lnM_WHER, lnM_ISFI, lnM_CELT, lnM_IMGS, lnM_IMGF, lnM_IMGX, lnM_ISMA]; omega) ?_ | (refine And.intro ?_ (by intro hz; exfalso; omega); intro hz9))
  refine And.intro (fun hc => ?_) (fun hc => ?_)
  · obtain ⟨f5, hR⟩ := hR (by omega)
    rw [if_neg (by omega)] at K
    repeat (first | refine wtA (by decide) ?_ | refine wtM ?_ | refine wtL ?_ | refine step ?_ | refine Exists.intro _ (And.intro (congrFun hM _) ?_) | refine Exists.intro _ (And.intro rfl ?_) | refine And.intro rfl ?_ | refine And.intro trivial ?_ | (refine And.intro (by intro hz; exfalso; omega) ?_; intro hz9) | refine And.intro (by omega) ?_ | refine And.intro (by simp only [lnM_TAPE, lnM_SIGN, lnM_LENG, lnM_CLAU, lnM_CLSS, lnM_READ, lnM_OPEN, lnM_STCK, lnM_WORD, lnM_SAID, lnM_WASS, lnM_KEPT, lnM_FAR, lnM_WASI, lnM_OUTO, lnM_HASB, lnM_WHER, lnM_ISFI, lnM_CELT, lnM_IMGS, lnM_IMGF, lnM_IMGX, lnM_ISMA]; omega) ?_ | (refine And.intro ?_ (by intro hz; exfalso; omega); intro hz9))
    refine Or.inl (t_cellOf hM g0 (by omega) ?_)
    repeat (first | refine wtA (by decide) ?_ | refine wtM ?_ | refine wtL ?_ | refine step ?_ | refine Exists.intro _ (And.intro (congrFun hM _) ?_) | refine Exists.intro _ (And.intro rfl ?_) | refine And.intro rfl ?_ | refine And.intro trivial ?_ | (refine And.intro (by intro hz; exfalso; omega) ?_; intro hz9) | refine And.intro (by omega) ?_ | refine And.intro (by simp only [lnM_TAPE, lnM_SIGN, lnM_LENG, lnM_CLAU, lnM_CLSS, lnM_READ, lnM_OPEN, lnM_STCK, lnM_WORD, lnM_SAID, lnM_WASS, lnM_KEPT, lnM_FAR, lnM_WASI, lnM_OUTO, lnM_HASB, lnM_WHER, lnM_ISFI, lnM_CELT, lnM_IMGS, lnM_IMGF, lnM_IMGX, lnM_ISMA]; omega) ?_ | (refine And.intro ?_ (by intro hz; exfalso; omega); intro hz9))
    refine Or.inl (t_facesOf hM g0 (by omega) ?_)
    repeat (first | refine wtA (by decide) ?_ | refine wtM ?_ | refine wtL ?_ | refine step ?_ | refine Exists.intro _ (And.intro (congrFun hM _) ?_) | refine Exists.intro _ (And.intro rfl ?_) | refine And.intro rfl ?_ | refine And.intro trivial ?_ | (refine And.intro (by intro hz; exfalso; omega) ?_; intro hz9) | refine And.intro (by omega) ?_ | refine And.intro (by simp only [lnM_TAPE, lnM_SIGN, lnM_LENG, lnM_CLAU, lnM_CLSS, lnM_READ, lnM_OPEN, lnM_STCK, lnM_WORD, lnM_SAID, lnM_WASS, lnM_KEPT, lnM_FAR, lnM_WASI, lnM_OUTO, lnM_HASB, lnM_WHER, lnM_ISFI, lnM_CELT, lnM_IMGS, lnM_IMGF, lnM_IMGX, lnM_ISMA]; omega) ?_ | (refine And.intro ?_ (by intro hz; exfalso; omega); intro hz9))
    refine Or.inl (t_nextOf hM c0 (by omega) a1 a2 (by omega) (by omega) (fun r hr0 => ?_))
    rw [← hr0] at nx
    have tail : ∀ hh, hh = hrF (hI p mSAID) g ((hI p mSAID) (11 + 7 * g)) ((hI p mSAID) 2).toNat 0 0 → k 0 0 84 [(0, vo M), (1, vi g), (2, vi ((hI p mSAID) (11 + 7 * g))), (3, vi r), (4, vi hh)] [] p := by
      intro hh ehh
      rw [← ehh] at hr
      repeat (first | refine wtA (by decide) ?_ | refine wtM ?_ | refine wtL ?_ | refine step ?_ | refine Exists.intro _ (And.intro (congrFun hM _) ?_) | refine Exists.intro _ (And.intro rfl ?_) | refine And.intro rfl ?_ | refine And.intro trivial ?_ | (refine And.intro (by intro hz; exfalso; omega) ?_; intro hz9) | refine And.intro (by omega) ?_ | refine And.intro (by simp only [lnM_TAPE, lnM_SIGN, lnM_LENG, lnM_CLAU, lnM_CLSS, lnM_READ, lnM_OPEN, lnM_STCK, lnM_WORD, lnM_SAID, lnM_WASS, lnM_KEPT, lnM_FAR, lnM_WASI, lnM_OUTO, lnM_HASB, lnM_WHER, lnM_ISFI, lnM_CELT, lnM_IMGS, lnM_IMGF, lnM_IMGX, lnM_ISMA]; omega) ?_ | (refine And.intro ?_ (by intro hz; exfalso; omega); intro hz9))
      intro p0 e0 T0
      have hM := T0.m hM
      repeat (first | refine wtA (by decide) ?_ | refine wtM ?_ | refine wtL ?_ | refine step ?_ | refine Exists.intro _ (And.intro (congrFun hM _) ?_) | refine Exists.intro _ (And.intro rfl ?_) | refine And.intro rfl ?_ | refine And.intro trivial ?_ | (refine And.intro (by intro hz; exfalso; omega) ?_; intro hz9) | refine And.intro (by omega) ?_ | refine And.intro (by simp only [lnM_TAPE, lnM_SIGN, lnM_LENG, lnM_CLAU, lnM_CLSS, lnM_READ, lnM_OPEN, lnM_STCK, lnM_WORD, lnM_SAID, lnM_WASS, lnM_KEPT, lnM_FAR, lnM_WASI, lnM_OUTO, lnM_HASB, lnM_WHER, lnM_ISFI, lnM_CELT, lnM_IMGS, lnM_IMGF, lnM_IMGX, lnM_ISMA]; omega) ?_ | (refine And.intro ?_ (by intro hz; exfalso; omega); intro hz9))
      intro p1 e1 T1
      have hM := T1.m hM
      have z1 := congrFun (T1.i (b := mSAID) (by decide) (by decide)) 1
      have z0 := congrFun (T0.i (b := mSAID) (by decide) (by decide)) 1
      have z01 := z1.trans z0
      have dv1 : 0 ≤ (hI p mSAID) (11 + 7 * g) / (hI p1 mSAID) 1 ∧ (hI p mSAID) (11 + 7 * g) / (hI p1 mSAID) 1 ≤ (hI p mSAID) (11 + 7 * g) := by rw [z01]; exact dv
      repeat (first | refine wtA (by decide) ?_ | refine wtM ?_ | refine wtL ?_ | refine step ?_ | refine Exists.intro _ (And.intro (congrFun hM _) ?_) | refine Exists.intro _ (And.intro rfl ?_) | refine And.intro rfl ?_ | refine And.intro trivial ?_ | (refine And.intro (by intro hz; exfalso; omega) ?_; intro hz9) | refine And.intro (by omega) ?_ | refine And.intro (by simp only [lnM_TAPE, lnM_SIGN, lnM_LENG, lnM_CLAU, lnM_CLSS, lnM_READ, lnM_OPEN, lnM_STCK, lnM_WORD, lnM_SAID, lnM_WASS, lnM_KEPT, lnM_FAR, lnM_WASI, lnM_OUTO, lnM_HASB, lnM_WHER, lnM_ISFI, lnM_CELT, lnM_IMGS, lnM_IMGF, lnM_IMGX, lnM_ISMA]; omega) ?_ | (refine And.intro ?_ (by intro hz; exfalso; omega); intro hz9))
      intro p2 e2 T2
      have hM := T2.m hM
      have es2 : (hI p2 mSAID) = (hI p mSAID) := by rw [T2.i (by decide) (by decide), T1.i (by decide) (by decide), T0.i (by decide) (by decide)]
      have es2' := congrFun es2 1
      have dv2 : 0 ≤ (hI p mSAID) (11 + 7 * g) % (hI p2 mSAID) 1 ∧ (hI p mSAID) (11 + 7 * g) % (hI p2 mSAID) 1 < (hI p mSAID) 1 := by rw [es2']; exact ⟨r1, r2⟩
      repeat (first | refine wtA (by decide) ?_ | refine wtM ?_ | refine wtL ?_ | refine step ?_ | refine Exists.intro _ (And.intro (congrFun hM _) ?_) | refine Exists.intro _ (And.intro rfl ?_) | refine And.intro rfl ?_ | refine And.intro trivial ?_ | (refine And.intro (by intro hz; exfalso; omega) ?_; intro hz9) | refine And.intro (by omega) ?_ | refine And.intro (by simp only [lnM_TAPE, lnM_SIGN, lnM_LENG, lnM_CLAU, lnM_CLSS, lnM_READ, lnM_OPEN, lnM_STCK, lnM_WORD, lnM_SAID, lnM_WASS, lnM_KEPT, lnM_FAR, lnM_WASI, lnM_OUTO, lnM_HASB, lnM_WHER, lnM_ISFI, lnM_CELT, lnM_IMGS, lnM_IMGF, lnM_IMGX, lnM_ISMA]; omega) ?_ | (refine And.intro ?_ (by intro hz; exfalso; omega); intro hz9))
      intro p3 e3 T3
      have hM := T3.m hM
      have es3 : (hI p3 mSAID) = (hI p mSAID) := by rw [T3.i (by decide) (by decide)]; exact es2
      have q3 := congrFun es3 (11 + 7 * g + 1)
      repeat (first | refine wtA (by decide) ?_ | refine wtM ?_ | refine wtL ?_ | refine step ?_ | refine Exists.intro _ (And.intro (congrFun hM _) ?_) | refine Exists.intro _ (And.intro rfl ?_) | refine And.intro rfl ?_ | refine And.intro trivial ?_ | (refine And.intro (by intro hz; exfalso; omega) ?_; intro hz9) | refine And.intro (by omega) ?_ | refine And.intro (by simp only [lnM_TAPE, lnM_SIGN, lnM_LENG, lnM_CLAU, lnM_CLSS, lnM_READ, lnM_OPEN, lnM_STCK, lnM_WORD, lnM_SAID, lnM_WASS, lnM_KEPT, lnM_FAR, lnM_WASI, lnM_OUTO, lnM_HASB, lnM_WHER, lnM_ISFI, lnM_CELT, lnM_IMGS, lnM_IMGF, lnM_IMGX, lnM_ISMA]; omega) ?_ | (refine And.intro ?_ (by intro hz; exfalso; omega); intro hz9))
      refine Or.inl (t_facesOf hM g0 (by omega) ?_)
      rw [q3]
      repeat (first | refine wtA (by decide) ?_ | refine wtM ?_ | refine wtL ?_ | refine step ?_ | refine Exists.intro _ (And.intro (congrFun hM _) ?_) | refine Exists.intro _ (And.intro rfl ?_) | refine And.intro rfl ?_ | refine And.intro trivial ?_ | (refine And.intro (by intro hz; exfalso; omega) ?_; intro hz9) | refine And.intro (by omega) ?_ | refine And.intro (by simp only [lnM_TAPE, lnM_SIGN, lnM_LENG, lnM_CLAU, lnM_CLSS, lnM_READ, lnM_OPEN, lnM_STCK, lnM_WORD, lnM_SAID, lnM_WASS, lnM_KEPT, lnM_FAR, lnM_WASI, lnM_OUTO, lnM_HASB, lnM_WHER, lnM_ISFI, lnM_CELT, lnM_IMGS, lnM_IMGF, lnM_IMGX, lnM_ISMA]; omega) ?_ | (refine And.intro ?_ (by intro hz; exfalso; omega); intro hz9))
      intro p4 e4 T4
      have hM := T4.m hM
      have es4 : (hI p4 mSAID) = (hI p mSAID) := by rw [T4.i (by decide) (by decide)]; exact es3
      have q4 := congrFun es4 (11 + 7 * g + 2)
      repeat (first | refine wtA (by decide) ?_ | refine wtM ?_ | refine wtL ?_ | refine step ?_ | refine Exists.intro _ (And.intro (congrFun hM _) ?_) | refine Exists.intro _ (And.intro rfl ?_) | refine And.intro rfl ?_ | refine And.intro trivial ?_ | (refine And.intro (by intro hz; exfalso; omega) ?_; intro hz9) | refine And.intro (by omega) ?_ | refine And.intro (by simp only [lnM_TAPE, lnM_SIGN, lnM_LENG, lnM_CLAU, lnM_CLSS, lnM_READ, lnM_OPEN, lnM_STCK, lnM_WORD, lnM_SAID, lnM_WASS, lnM_KEPT, lnM_FAR, lnM_WASI, lnM_OUTO, lnM_HASB, lnM_WHER, lnM_ISFI, lnM_CELT, lnM_IMGS, lnM_IMGF, lnM_IMGX, lnM_ISMA]; omega) ?_ | (refine And.intro ?_ (by intro hz; exfalso; omega); intro hz9))
      refine Or.inl (t_foodOf hM g0 (by omega) ?_)
      rw [q4]
      repeat (first | refine wtA (by decide) ?_ | refine wtM ?_ | refine wtL ?_ | refine step ?_ | refine Exists.intro _ (And.intro (congrFun hM _) ?_) | refine Exists.intro _ (And.intro rfl ?_) | refine And.intro rfl ?_ | refine And.intro trivial ?_ | (refine And.intro (by intro hz; exfalso; omega) ?_; intro hz9) | refine And.intro (by omega) ?_ | refine And.intro (by simp only [lnM_TAPE, lnM_SIGN, lnM_LENG, lnM_CLAU, lnM_CLSS, lnM_READ, lnM_OPEN, lnM_STCK, lnM_WORD, lnM_SAID, lnM_WASS, lnM_KEPT, lnM_FAR, lnM_WASI, lnM_OUTO, lnM_HASB, lnM_WHER, lnM_ISFI, lnM_CELT, lnM_IMGS, lnM_IMGF, lnM_IMGX, lnM_ISMA]; omega) ?_ | (refine And.intro ?_ (by intro hz; exfalso; omega); intro hz9))
      intro p5 e5 T5
      have hM := T5.m hM
      have es5 : (hI p5 mSAID) = (hI p mSAID) := by rw [T5.i (by decide) (by decide)]; exact es4
      have q5 := congrFun es5 (11 + 7 * g + 1)
      have q51 := congrFun es5 1
      repeat (first | refine wtA (by decide) ?_ | refine wtM ?_ | refine wtL ?_ | refine step ?_ | refine Exists.intro _ (And.intro (congrFun hM _) ?_) | refine Exists.intro _ (And.intro rfl ?_) | refine And.intro rfl ?_ | refine And.intro trivial ?_ | (refine And.intro (by intro hz; exfalso; omega) ?_; intro hz9) | refine And.intro (by omega) ?_ | refine And.intro (by simp only [lnM_TAPE, lnM_SIGN, lnM_LENG, lnM_CLAU, lnM_CLSS, lnM_READ, lnM_OPEN, lnM_STCK, lnM_WORD, lnM_SAID, lnM_WASS, lnM_KEPT, lnM_FAR, lnM_WASI, lnM_OUTO, lnM_HASB, lnM_WHER, lnM_ISFI, lnM_CELT, lnM_IMGS, lnM_IMGF, lnM_IMGX, lnM_ISMA]; omega) ?_ | (refine And.intro ?_ (by intro hz; exfalso; omega); intro hz9))
      refine Or.inl (t_facesOf hM g0 (by omega) ?_)
      rw [q5]
      repeat (first | refine wtA (by decide) ?_ | refine wtM ?_ | refine wtL ?_ | refine step ?_ | refine Exists.intro _ (And.intro (congrFun hM _) ?_) | refine Exists.intro _ (And.intro rfl ?_) | refine And.intro rfl ?_ | refine And.intro trivial ?_ | (refine And.intro (by intro hz; exfalso; omega) ?_; intro hz9) | refine And.intro (by omega) ?_ | refine And.intro (by simp only [lnM_TAPE, lnM_SIGN, lnM_LENG, lnM_CLAU, lnM_CLSS, lnM_READ, lnM_OPEN, lnM_STCK, lnM_WORD, lnM_SAID, lnM_WASS, lnM_KEPT, lnM_FAR, lnM_WASI, lnM_OUTO, lnM_HASB, lnM_WHER, lnM_ISFI, lnM_CELT, lnM_IMGS, lnM_IMGF, lnM_IMGX, lnM_ISMA]; omega) ?_ | (refine And.intro ?_ (by intro hz; exfalso; omega); intro hz9))
      refine Or.inl (t_marginOf hM c0 (by omega) (by omega) (by omega) (by omega) (fun r6 hr6 => ?_))
      rw [q51] at hr6
      rw [← hr6] at mg
      repeat (first | refine wtA (by decide) ?_ | refine wtM ?_ | refine wtL ?_ | refine step ?_ | refine Exists.intro _ (And.intro (congrFun hM _) ?_) | refine Exists.intro _ (And.intro rfl ?_) | refine And.intro rfl ?_ | refine And.intro trivial ?_ | (refine And.intro (by intro hz; exfalso; omega) ?_; intro hz9) | refine And.intro (by omega) ?_ | refine And.intro (by simp only [lnM_TAPE, lnM_SIGN, lnM_LENG, lnM_CLAU, lnM_CLSS, lnM_READ, lnM_OPEN, lnM_STCK, lnM_WORD, lnM_SAID, lnM_WASS, lnM_KEPT, lnM_FAR, lnM_WASI, lnM_OUTO, lnM_HASB, lnM_WHER, lnM_ISFI, lnM_CELT, lnM_IMGS, lnM_IMGF, lnM_IMGX, lnM_ISMA]; omega) ?_ | (refine And.intro ?_ (by intro hz; exfalso; omega); intro hz9))
      intro p6 e6 T6
      have hM := T6.m hM
      have es6 : (hI p6 mSAID) = (hI p mSAID) := by rw [T6.i (by decide) (by decide)]; exact es5
      have fin : ∀ v, v = (if 0 ≤ r ∧ (hI p mSAID) (50 + r) = 1 then 1 else 0) → k 0 0 195 [(0, vo M), (1, vi g), (2, vi ((hI p mSAID) (11 + 7 * g))), (3, vi r), (4, vi hh)] [vl (Int64.ofInt v), vi 7, vo mWORD] p6 := by
        intro v hv
        repeat (first | refine wtA (by decide) ?_ | refine wtM ?_ | refine wtL ?_ | refine step ?_ | refine Exists.intro _ (And.intro (congrFun hM _) ?_) | refine Exists.intro _ (And.intro rfl ?_) | refine And.intro rfl ?_ | refine And.intro trivial ?_ | (refine And.intro (by intro hz; exfalso; omega) ?_; intro hz9) | refine And.intro (by omega) ?_ | refine And.intro (by simp only [lnM_TAPE, lnM_SIGN, lnM_LENG, lnM_CLAU, lnM_CLSS, lnM_READ, lnM_OPEN, lnM_STCK, lnM_WORD, lnM_SAID, lnM_WASS, lnM_KEPT, lnM_FAR, lnM_WASI, lnM_OUTO, lnM_HASB, lnM_WHER, lnM_ISFI, lnM_CELT, lnM_IMGS, lnM_IMGF, lnM_IMGX, lnM_ISMA]; omega) ?_ | (refine And.intro ?_ (by intro hz; exfalso; omega); intro hz9))
        intro p7 e7 T7
        have hM := T7.m hM
        repeat (first | refine wtA (by decide) ?_ | refine wtM ?_ | refine wtL ?_ | refine step ?_ | refine Exists.intro _ (And.intro (congrFun hM _) ?_) | refine Exists.intro _ (And.intro rfl ?_) | refine And.intro rfl ?_ | refine And.intro trivial ?_ | (refine And.intro (by intro hz; exfalso; omega) ?_; intro hz9) | refine And.intro (by omega) ?_ | refine And.intro (by simp only [lnM_TAPE, lnM_SIGN, lnM_LENG, lnM_CLAU, lnM_CLSS, lnM_READ, lnM_OPEN, lnM_STCK, lnM_WORD, lnM_SAID, lnM_WASS, lnM_KEPT, lnM_FAR, lnM_WASI, lnM_OUTO, lnM_HASB, lnM_WHER, lnM_ISFI, lnM_CELT, lnM_IMGS, lnM_IMGF, lnM_IMGX, lnM_ISMA]; omega) ?_ | (refine And.intro ?_ (by intro hz; exfalso; omega); intro hz9))
        intro p8 e8 T8
        have hM := T8.m hM
        have es8 : (hI p8 mSAID) = (hI p mSAID) := by rw [T8.i (by decide) (by decide), T7.i (by decide) (by decide)]; exact es6
        have q8 := congrFun es8 (11 + 7 * g + 6)
        repeat (first | refine wtA (by decide) ?_ | refine wtM ?_ | refine wtL ?_ | refine step ?_ | refine Exists.intro _ (And.intro (congrFun hM _) ?_) | refine Exists.intro _ (And.intro rfl ?_) | refine And.intro rfl ?_ | refine And.intro trivial ?_ | (refine And.intro (by intro hz; exfalso; omega) ?_; intro hz9) | refine And.intro (by omega) ?_ | refine And.intro (by simp only [lnM_TAPE, lnM_SIGN, lnM_LENG, lnM_CLAU, lnM_CLSS, lnM_READ, lnM_OPEN, lnM_STCK, lnM_WORD, lnM_SAID, lnM_WASS, lnM_KEPT, lnM_FAR, lnM_WASI, lnM_OUTO, lnM_HASB, lnM_WHER, lnM_ISFI, lnM_CELT, lnM_IMGS, lnM_IMGF, lnM_IMGX, lnM_ISMA]; omega) ?_ | (refine And.intro ?_ (by intro hz; exfalso; omega); intro hz9))
        intro p9 e9 T9
        have hM := T9.m hM
        have es9 : (hI p9 mSAID) = (hI p mSAID) := by rw [T9.i (by decide) (by decide)]; exact es8
        have q9 := congrFun es9 10
        repeat (first | refine wtA (by decide) ?_ | refine wtM ?_ | refine wtL ?_ | refine step ?_ | refine Exists.intro _ (And.intro (congrFun hM _) ?_) | refine Exists.intro _ (And.intro rfl ?_) | refine And.intro rfl ?_ | refine And.intro trivial ?_ | (refine And.intro (by intro hz; exfalso; omega) ?_; intro hz9) | refine And.intro (by omega) ?_ | refine And.intro (by simp only [lnM_TAPE, lnM_SIGN, lnM_LENG, lnM_CLAU, lnM_CLSS, lnM_READ, lnM_OPEN, lnM_STCK, lnM_WORD, lnM_SAID, lnM_WASS, lnM_KEPT, lnM_FAR, lnM_WASI, lnM_OUTO, lnM_HASB, lnM_WHER, lnM_ISFI, lnM_CELT, lnM_IMGS, lnM_IMGF, lnM_IMGX, lnM_ISMA]; omega) ?_ | (refine And.intro ?_ (by intro hz; exfalso; omega); intro hz9))
        intro p10 e10 T10
        have hM := T10.m hM
        have TT := (((((((((T0.tr T1).tr T2).tr T3).tr T4).tr T5).tr T6).tr T7).tr T8).tr T9).tr T10
        have hw : ∀ x, 0 ≤ x → x ≤ 10 → hL p10 mWORD x = wdF (hI p mSAID) g x := by
          intro x x0 x1
          unfold wdF wiF
          rw [← hr6, ← hr0, ← ehh, ← hv]
          rw [e10, e9, e8, e7, e6, e5, e4, e3, e2, e1, e0, q8, q9, z01, es2']
          show (if x = 10 then _ else if x = 9 then _ else if x = 8 then _ else if x = 7 then _ else if x = 6 then _ else if x = 5 then _ else if x = 4 then _ else if x = 3 then _ else if x = 2 then _ else if x = 1 then _ else if x = 0 then _ else _) = _
          rcases (by omega : x = 0 ∨ x = 1 ∨ x = 2 ∨ x = 3 ∨ x = 4 ∨ x = 5 ∨ x = 6 ∨ x = 7 ∨ x = 8 ∨ x = 9 ∨ x = 10) with z | z | z | z | z | z | z | z | z | z | z <;> subst z <;> rfl
        have hR2 : RT (hI p10 mSIGN) (hI p10 mCLAU) (hI p10 mCLSS) f (ρ f) := by
          rw [TT.i (by decide) (by decide), TT.i (b := mCLAU) (by decide) (by decide), TT.i (b := mCLSS) (by decide) (by decide)]
          exact hR
        have f21 : hI p10 M 21 = f := by rw [TT.f (by decide)]; exact hf
        repeat (first | refine wtA (by decide) ?_ | refine wtM ?_ | refine wtL ?_ | refine step ?_ | refine Exists.intro _ (And.intro (congrFun hM _) ?_) | refine Exists.intro _ (And.intro rfl ?_) | refine And.intro rfl ?_ | refine And.intro trivial ?_ | (refine And.intro (by intro hz; exfalso; omega) ?_; intro hz9) | refine And.intro (by omega) ?_ | refine And.intro (by simp only [lnM_TAPE, lnM_SIGN, lnM_LENG, lnM_CLAU, lnM_CLSS, lnM_READ, lnM_OPEN, lnM_STCK, lnM_WORD, lnM_SAID, lnM_WASS, lnM_KEPT, lnM_FAR, lnM_WASI, lnM_OUTO, lnM_HASB, lnM_WHER, lnM_ISFI, lnM_CELT, lnM_IMGS, lnM_IMGF, lnM_IMGX, lnM_ISMA]; omega) ?_ | (refine And.intro ?_ (by intro hz; exfalso; omega); intro hz9))
        rw [f21]
        refine Or.inl (t_summedBy (L := ρ f) (w := wdF (hI p mSAID) g) hM (by omega) f5 hR2 hw (fun p11 hM T11 => ?_))
        repeat (first | refine wtA (by decide) ?_ | refine wtM ?_ | refine wtL ?_ | refine step ?_ | refine Exists.intro _ (And.intro (congrFun hM _) ?_) | refine Exists.intro _ (And.intro rfl ?_) | refine And.intro rfl ?_ | refine And.intro trivial ?_ | (refine And.intro (by intro hz; exfalso; omega) ?_; intro hz9) | refine And.intro (by omega) ?_ | refine And.intro (by simp only [lnM_TAPE, lnM_SIGN, lnM_LENG, lnM_CLAU, lnM_CLSS, lnM_READ, lnM_OPEN, lnM_STCK, lnM_WORD, lnM_SAID, lnM_WASS, lnM_KEPT, lnM_FAR, lnM_WASI, lnM_OUTO, lnM_HASB, lnM_WHER, lnM_ISFI, lnM_CELT, lnM_IMGS, lnM_IMGF, lnM_IMGX, lnM_ISMA]; omega) ?_ | (refine And.intro ?_ (by intro hz; exfalso; omega); intro hz9))
        exact K p11 ((TT.up (by decide) (by decide)).tr (T11.up (by decide) (by decide)))
      repeat (first | refine wtA (by decide) ?_ | refine wtM ?_ | refine wtL ?_ | refine step ?_ | refine Exists.intro _ (And.intro (congrFun hM _) ?_) | refine Exists.intro _ (And.intro rfl ?_) | refine And.intro rfl ?_ | refine And.intro trivial ?_ | (refine And.intro (by intro hz; exfalso; omega) ?_; intro hz9) | refine And.intro (by omega) ?_ | refine And.intro (by simp only [lnM_TAPE, lnM_SIGN, lnM_LENG, lnM_CLAU, lnM_CLSS, lnM_READ, lnM_OPEN, lnM_STCK, lnM_WORD, lnM_SAID, lnM_WASS, lnM_KEPT, lnM_FAR, lnM_WASI, lnM_OUTO, lnM_HASB, lnM_WHER, lnM_ISFI, lnM_CELT, lnM_IMGS, lnM_IMGF, lnM_IMGX, lnM_ISMA]; omega) ?_ | (refine And.intro ?_ (by intro hz; exfalso; omega); intro hz9))
      refine And.intro (fun hz => ?_) (fun hz => ?_)
      · repeat (first | (exact fin 0 (by rw [if_neg (by omega)])) | refine wtA (by decide) ?_ | refine wtM ?_ | refine wtL ?_ | refine step ?_ | refine Exists.intro _ (And.intro (congrFun hM _) ?_) | refine Exists.intro _ (And.intro rfl ?_) | refine And.intro rfl ?_ | refine And.intro trivial ?_ | (refine And.intro (by intro hz; exfalso; omega) ?_; intro hz9) | refine And.intro (by omega) ?_ | refine And.intro (by simp only [lnM_TAPE, lnM_SIGN, lnM_LENG, lnM_CLAU, lnM_CLSS, lnM_READ, lnM_OPEN, lnM_STCK, lnM_WORD, lnM_SAID, lnM_WASS, lnM_KEPT, lnM_FAR, lnM_WASI, lnM_OUTO, lnM_HASB, lnM_WHER, lnM_ISFI, lnM_CELT, lnM_IMGS, lnM_IMGF, lnM_IMGX, lnM_ISMA]; omega) ?_ | (refine And.intro ?_ (by intro hz; exfalso; omega); intro hz9))
      · have st := a5 r (by omega) (by omega)
        rw [← es6] at st
        repeat (first | refine wtA (by decide) ?_ | refine wtM ?_ | refine wtL ?_ | refine step ?_ | refine Exists.intro _ (And.intro (congrFun hM _) ?_) | refine Exists.intro _ (And.intro rfl ?_) | refine And.intro rfl ?_ | refine And.intro trivial ?_ | (refine And.intro (by intro hz; exfalso; omega) ?_; intro hz9) | refine And.intro (by omega) ?_ | refine And.intro (by simp only [lnM_TAPE, lnM_SIGN, lnM_LENG, lnM_CLAU, lnM_CLSS, lnM_READ, lnM_OPEN, lnM_STCK, lnM_WORD, lnM_SAID, lnM_WASS, lnM_KEPT, lnM_FAR, lnM_WASI, lnM_OUTO, lnM_HASB, lnM_WHER, lnM_ISFI, lnM_CELT, lnM_IMGS, lnM_IMGF, lnM_IMGX, lnM_ISMA]; omega) ?_ | (refine And.intro ?_ (by intro hz; exfalso; omega); intro hz9))
        refine Or.inl (t_isStone hM (by omega) (by omega) st ?_)
        rw [es6] at st ⊢
        repeat (first | refine wtA (by decide) ?_ | refine wtM ?_ | refine wtL ?_ | refine step ?_ | refine Exists.intro _ (And.intro (congrFun hM _) ?_) | refine Exists.intro _ (And.intro rfl ?_) | refine And.intro rfl ?_ | refine And.intro trivial ?_ | (refine And.intro (by intro hz; exfalso; omega) ?_; intro hz9) | refine And.intro (by omega) ?_ | refine And.intro (by simp only [lnM_TAPE, lnM_SIGN, lnM_LENG, lnM_CLAU, lnM_CLSS, lnM_READ, lnM_OPEN, lnM_STCK, lnM_WORD, lnM_SAID, lnM_WASS, lnM_KEPT, lnM_FAR, lnM_WASI, lnM_OUTO, lnM_HASB, lnM_WHER, lnM_ISFI, lnM_CELT, lnM_IMGS, lnM_IMGF, lnM_IMGX, lnM_ISMA]; omega) ?_ | (refine And.intro ?_ (by intro hz; exfalso; omega); intro hz9))
        refine And.intro (fun hy => ?_) (fun hy => ?_)
        · repeat (first | (exact fin 0 (by rw [if_neg (by omega)])) | refine wtA (by decide) ?_ | refine wtM ?_ | refine wtL ?_ | refine step ?_ | refine Exists.intro _ (And.intro (congrFun hM _) ?_) | refine Exists.intro _ (And.intro rfl ?_) | refine And.intro rfl ?_ | refine And.intro trivial ?_ | (refine And.intro (by intro hz; exfalso; omega) ?_; intro hz9) | refine And.intro (by omega) ?_ | refine And.intro (by simp only [lnM_TAPE, lnM_SIGN, lnM_LENG, lnM_CLAU, lnM_CLSS, lnM_READ, lnM_OPEN, lnM_STCK, lnM_WORD, lnM_SAID, lnM_WASS, lnM_KEPT, lnM_FAR, lnM_WASI, lnM_OUTO, lnM_HASB, lnM_WHER, lnM_ISFI, lnM_CELT, lnM_IMGS, lnM_IMGF, lnM_IMGX, lnM_ISMA]; omega) ?_ | (refine And.intro ?_ (by intro hz; exfalso; omega); intro hz9))
        · repeat (first | (exact fin 1 (by rw [if_pos (by omega)])) | refine wtA (by decide) ?_ | refine wtM ?_ | refine wtL ?_ | refine step ?_ | refine Exists.intro _ (And.intro (congrFun hM _) ?_) | refine Exists.intro _ (And.intro rfl ?_) | refine And.intro rfl ?_ | refine And.intro trivial ?_ | (refine And.intro (by intro hz; exfalso; omega) ?_; intro hz9) | refine And.intro (by omega) ?_ | refine And.intro (by simp only [lnM_TAPE, lnM_SIGN, lnM_LENG, lnM_CLAU, lnM_CLSS, lnM_READ, lnM_OPEN, lnM_STCK, lnM_WORD, lnM_SAID, lnM_WASS, lnM_KEPT, lnM_FAR, lnM_WASI, lnM_OUTO, lnM_HASB, lnM_WHER, lnM_ISFI, lnM_CELT, lnM_IMGS, lnM_IMGF, lnM_IMGX, lnM_ISMA]; omega) ?_ | (refine And.intro ?_ (by intro hz; exfalso; omega); intro hz9))
    have loop : ∀ (n : Nat) (o a : Int), 0 ≤ o → o + n = (hI p mSAID) 2 → hrF (hI p mSAID) g ((hI p mSAID) (11 + 7 * g)) ((hI p mSAID) 2).toNat 0 0 = hrF (hI p mSAID) g ((hI p mSAID) (11 + 7 * g)) n o a → k 0 0 32 [(0, vo M), (1, vi g), (2, vi ((hI p mSAID) (11 + 7 * g))), (3, vi r), (4, vi a), (5, vi o)] [] p := by
      generalize hrF (hI p mSAID) g ((hI p mSAID) (11 + 7 * g)) ((hI p mSAID) 2).toNat 0 0 = X at *
      intro n
      induction n with
      | zero =>
        intro o a o0 hn e
        repeat (first | (exact keep [0, 1, 2, 3, 4] (tail a e.symm)) | refine wtA (by decide) ?_ | refine wtM ?_ | refine wtL ?_ | refine step ?_ | refine Exists.intro _ (And.intro (congrFun hM _) ?_) | refine Exists.intro _ (And.intro rfl ?_) | refine And.intro rfl ?_ | refine And.intro trivial ?_ | (refine And.intro (by intro hz; exfalso; omega) ?_; intro hz9) | refine And.intro (by omega) ?_ | refine And.intro (by simp only [lnM_TAPE, lnM_SIGN, lnM_LENG, lnM_CLAU, lnM_CLSS, lnM_READ, lnM_OPEN, lnM_STCK, lnM_WORD, lnM_SAID, lnM_WASS, lnM_KEPT, lnM_FAR, lnM_WASI, lnM_OUTO, lnM_HASB, lnM_WHER, lnM_ISFI, lnM_CELT, lnM_IMGS, lnM_IMGF, lnM_IMGX, lnM_ISMA]; omega) ?_ | (refine And.intro ?_ (by intro hz; exfalso; omega); intro hz9))
      | succ n ih =>
        intro o a o0 hn e
        unfold hrF at e
        obtain ⟨⟨x0, x1⟩, -, -, ⟨t0, t1⟩, -⟩ := hG o o0 (by omega)
        refine step ?_
        repeat (first | refine wtA (by decide) ?_ | refine wtM ?_ | refine wtL ?_ | refine step ?_ | refine Exists.intro _ (And.intro (congrFun hM _) ?_) | refine Exists.intro _ (And.intro rfl ?_) | refine And.intro rfl ?_ | refine And.intro trivial ?_ | (refine And.intro (by intro hz; exfalso; omega) ?_; intro hz9) | refine And.intro (by omega) ?_ | refine And.intro (by simp only [lnM_TAPE, lnM_SIGN, lnM_LENG, lnM_CLAU, lnM_CLSS, lnM_READ, lnM_OPEN, lnM_STCK, lnM_WORD, lnM_SAID, lnM_WASS, lnM_KEPT, lnM_FAR, lnM_WASI, lnM_OUTO, lnM_HASB, lnM_WHER, lnM_ISFI, lnM_CELT, lnM_IMGS, lnM_IMGF, lnM_IMGX, lnM_ISMA]; omega) ?_ | (refine And.intro ?_ (by intro hz; exfalso; omega); intro hz9))
        refine And.intro (fun h1 => ?_) (fun h1 => ?_)
        · rw [if_neg (by omega)] at e
          repeat (first | (exact ih _ _ (by omega) (by omega) e) | refine wtA (by decide) ?_ | refine wtM ?_ | refine wtL ?_ | refine step ?_ | refine Exists.intro _ (And.intro (congrFun hM _) ?_) | refine Exists.intro _ (And.intro rfl ?_) | refine And.intro rfl ?_ | refine And.intro trivial ?_ | (refine And.intro (by intro hz; exfalso; omega) ?_; intro hz9) | refine And.intro (by omega) ?_ | refine And.intro (by simp only [lnM_TAPE, lnM_SIGN, lnM_LENG, lnM_CLAU, lnM_CLSS, lnM_READ, lnM_OPEN, lnM_STCK, lnM_WORD, lnM_SAID, lnM_WASS, lnM_KEPT, lnM_FAR, lnM_WASI, lnM_OUTO, lnM_HASB, lnM_WHER, lnM_ISFI, lnM_CELT, lnM_IMGS, lnM_IMGF, lnM_IMGX, lnM_ISMA]; omega) ?_ | (refine And.intro ?_ (by intro hz; exfalso; omega); intro hz9))
        · repeat (first | refine wtA (by decide) ?_ | refine wtM ?_ | refine wtL ?_ | refine step ?_ | refine Exists.intro _ (And.intro (congrFun hM _) ?_) | refine Exists.intro _ (And.intro rfl ?_) | refine And.intro rfl ?_ | refine And.intro trivial ?_ | (refine And.intro (by intro hz; exfalso; omega) ?_; intro hz9) | refine And.intro (by omega) ?_ | refine And.intro (by simp only [lnM_TAPE, lnM_SIGN, lnM_LENG, lnM_CLAU, lnM_CLSS, lnM_READ, lnM_OPEN, lnM_STCK, lnM_WORD, lnM_SAID, lnM_WASS, lnM_KEPT, lnM_FAR, lnM_WASI, lnM_OUTO, lnM_HASB, lnM_WHER, lnM_ISFI, lnM_CELT, lnM_IMGS, lnM_IMGF, lnM_IMGX, lnM_ISMA]; omega) ?_ | (refine And.intro ?_ (by intro hz; exfalso; omega); intro hz9))
          refine Or.inl (t_isOn hM o0 (by omega) (by omega) ?_)
          by_cases h2 : (hI p mSAID) (11 + 7 * o + 3) = 0
          · rw [if_pos h2]
            repeat (first | refine wtA (by decide) ?_ | refine wtM ?_ | refine wtL ?_ | refine step ?_ | refine Exists.intro _ (And.intro (congrFun hM _) ?_) | refine Exists.intro _ (And.intro rfl ?_) | refine And.intro rfl ?_ | refine And.intro trivial ?_ | (refine And.intro (by intro hz; exfalso; omega) ?_; intro hz9) | refine And.intro (by omega) ?_ | refine And.intro (by simp only [lnM_TAPE, lnM_SIGN, lnM_LENG, lnM_CLAU, lnM_CLSS, lnM_READ, lnM_OPEN, lnM_STCK, lnM_WORD, lnM_SAID, lnM_WASS, lnM_KEPT, lnM_FAR, lnM_WASI, lnM_OUTO, lnM_HASB, lnM_WHER, lnM_ISFI, lnM_CELT, lnM_IMGS, lnM_IMGF, lnM_IMGX, lnM_ISMA]; omega) ?_ | (refine And.intro ?_ (by intro hz; exfalso; omega); intro hz9))
            refine Or.inl (t_cellOf hM o0 (by omega) ?_)
            repeat (first | refine wtA (by decide) ?_ | refine wtM ?_ | refine wtL ?_ | refine step ?_ | refine Exists.intro _ (And.intro (congrFun hM _) ?_) | refine Exists.intro _ (And.intro rfl ?_) | refine And.intro rfl ?_ | refine And.intro trivial ?_ | (refine And.intro (by intro hz; exfalso; omega) ?_; intro hz9) | refine And.intro (by omega) ?_ | refine And.intro (by simp only [lnM_TAPE, lnM_SIGN, lnM_LENG, lnM_CLAU, lnM_CLSS, lnM_READ, lnM_OPEN, lnM_STCK, lnM_WORD, lnM_SAID, lnM_WASS, lnM_KEPT, lnM_FAR, lnM_WASI, lnM_OUTO, lnM_HASB, lnM_WHER, lnM_ISFI, lnM_CELT, lnM_IMGS, lnM_IMGF, lnM_IMGX, lnM_ISMA]; omega) ?_ | (refine And.intro ?_ (by intro hz; exfalso; omega); intro hz9))
            refine And.intro (fun h3 => ?_) (fun h3 => ?_)
            · rw [if_neg (by omega)] at e
              repeat (first | (exact ih _ _ (by omega) (by omega) e) | refine wtA (by decide) ?_ | refine wtM ?_ | refine wtL ?_ | refine step ?_ | refine Exists.intro _ (And.intro (congrFun hM _) ?_) | refine Exists.intro _ (And.intro rfl ?_) | refine And.intro rfl ?_ | refine And.intro trivial ?_ | (refine And.intro (by intro hz; exfalso; omega) ?_; intro hz9) | refine And.intro (by omega) ?_ | refine And.intro (by simp only [lnM_TAPE, lnM_SIGN, lnM_LENG, lnM_CLAU, lnM_CLSS, lnM_READ, lnM_OPEN, lnM_STCK, lnM_WORD, lnM_SAID, lnM_WASS, lnM_KEPT, lnM_FAR, lnM_WASI, lnM_OUTO, lnM_HASB, lnM_WHER, lnM_ISFI, lnM_CELT, lnM_IMGS, lnM_IMGF, lnM_IMGX, lnM_ISMA]; omega) ?_ | (refine And.intro ?_ (by intro hz; exfalso; omega); intro hz9))
            · rw [if_pos (by omega)] at e
              repeat (first | (exact ih _ _ (by omega) (by omega) e) | refine wtA (by decide) ?_ | refine wtM ?_ | refine wtL ?_ | refine step ?_ | refine Exists.intro _ (And.intro (congrFun hM _) ?_) | refine Exists.intro _ (And.intro rfl ?_) | refine And.intro rfl ?_ | refine And.intro trivial ?_ | (refine And.intro (by intro hz; exfalso; omega) ?_; intro hz9) | refine And.intro (by omega) ?_ | refine And.intro (by simp only [lnM_TAPE, lnM_SIGN, lnM_LENG, lnM_CLAU, lnM_CLSS, lnM_READ, lnM_OPEN, lnM_STCK, lnM_WORD, lnM_SAID, lnM_WASS, lnM_KEPT, lnM_FAR, lnM_WASI, lnM_OUTO, lnM_HASB, lnM_WHER, lnM_ISFI, lnM_CELT, lnM_IMGS, lnM_IMGF, lnM_IMGX, lnM_ISMA]; omega) ?_ | (refine And.intro ?_ (by intro hz; exfalso; omega); intro hz9))
          · rw [if_neg h2]
            rw [if_neg (by omega)] at e
            repeat (first | (exact ih _ _ (by omega) (by omega) e) | refine wtA (by decide) ?_ | refine wtM ?_ | refine wtL ?_ | refine step ?_ | refine Exists.intro _ (And.intro (congrFun hM _) ?_) | refine Exists.intro _ (And.intro rfl ?_) | refine And.intro rfl ?_ | refine And.intro trivial ?_ | (refine And.intro (by intro hz; exfalso; omega) ?_; intro hz9) | refine And.intro (by omega) ?_ | refine And.intro (by simp only [lnM_TAPE, lnM_SIGN, lnM_LENG, lnM_CLAU, lnM_CLSS, lnM_READ, lnM_OPEN, lnM_STCK, lnM_WORD, lnM_SAID, lnM_WASS, lnM_KEPT, lnM_FAR, lnM_WASI, lnM_OUTO, lnM_HASB, lnM_WHER, lnM_ISFI, lnM_CELT, lnM_IMGS, lnM_IMGF, lnM_IMGX, lnM_ISMA]; omega) ?_ | (refine And.intro ?_ (by intro hz; exfalso; omega); intro hz9))
    repeat (first | (exact loop ((hI p mSAID) 2).toNat 0 0 (by omega) (by omega) rfl) | refine wtA (by decide) ?_ | refine wtM ?_ | refine wtL ?_ | refine step ?_ | refine Exists.intro _ (And.intro (congrFun hM _) ?_) | refine Exists.intro _ (And.intro rfl ?_) | refine And.intro rfl ?_ | refine And.intro trivial ?_ | (refine And.intro (by intro hz; exfalso; omega) ?_; intro hz9) | refine And.intro (by omega) ?_ | refine And.intro (by simp only [lnM_TAPE, lnM_SIGN, lnM_LENG, lnM_CLAU, lnM_CLSS, lnM_READ, lnM_OPEN, lnM_STCK, lnM_WORD, lnM_SAID, lnM_WASS, lnM_KEPT, lnM_FAR, lnM_WASI, lnM_OUTO, lnM_HASB, lnM_WHER, lnM_ISFI, lnM_CELT, lnM_IMGS, lnM_IMGF, lnM_IMGX, lnM_ISMA]; omega) ?_ | (refine And.intro ?_ (by intro hz; exfalso; omega); intro hz9))
  · rw [if_pos (by omega)] at K
    repeat (first | refine wtA (by decide) ?_ | refine wtM ?_ | refine wtL ?_ | refine step ?_ | refine Exists.intro _ (And.intro (congrFun hM _) ?_) | refine Exists.intro _ (And.intro rfl ?_) | refine And.intro rfl ?_ | refine And.intro trivial ?_ | (refine And.intro (by intro hz; exfalso; omega) ?_; intro hz9) | refine And.intro (by omega) ?_ | refine And.intro (by simp only [lnM_TAPE, lnM_SIGN, lnM_LENG, lnM_CLAU, lnM_CLSS, lnM_READ, lnM_OPEN, lnM_STCK, lnM_WORD, lnM_SAID, lnM_WASS, lnM_KEPT, lnM_FAR, lnM_WASI, lnM_OUTO, lnM_HASB, lnM_WHER, lnM_ISFI, lnM_CELT, lnM_IMGS, lnM_IMGF, lnM_IMGX, lnM_ISMA]; omega) ?_ | (refine And.intro ?_ (by intro hz; exfalso; omega); intro hz9))
    exact K p TA.rf
/-- every force: its turns -/
theorem HQr_of {h : AH} {ρ : Int → RLE} (hM : hP h M = MP) (h2 : 0 ≤ hI h M 2 ∧ hI h M 2 ≤ 6) (hR : ∀ r, 0 ≤ r → r < hI h M 2 → RT (hI h mSIGN) (hI h mCLAU) (hI h mCLSS) r (ρ r)) : HQr (qF ρ) h := by
  refine ⟨qF_ok ρ, fun p f T hf f0 f1 d p2 T2 => ?_⟩
  intro p3 b g hb T3 hS hG g0 g1 _ Ψ K
  have TT := (T.tr (T2.up (A' := QA) (B' := 21 :: QB) (by decide) (by decide))).tr (T3.up (by decide) (by decide))
  have f21 : hI p3 M 21 = f := by rw [T3.f (by decide), T2.f (by decide)]; exact hf
  refine t_quartersOf (b := b) (ρ := ρ) (TT.m hM) f21 (by omega) (fun z => ⟨by omega, ?_⟩) hS hG hb g0 g1 K
  rw [TT.i (by decide) (by decide), TT.i (b := mCLAU) (by decide) (by decide), TT.i (b := mCLSS) (by decide) (by decide)]
  exact hR f z f1
