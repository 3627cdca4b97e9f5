-- NEEDS: 70
/-! THE COMPONENT: a state copied -/
def SQ (d0 d1 d2 d3 d4 d5 d6 d7 : Nat) (k : Int) : Option Nat := match k with
  | 0 => some d0
  | 1 => some d1
  | 2 => some d2
  | 3 => some d3
  | 4 => some d4
  | 5 => some d5
  | 6 => some d6
  | 7 => some d7
  | _ => none
def OKA (j dO d0 d1 d2 d3 d4 d5 d6 d7 : Nat) : Prop := (ix dO = j ∧ tg dO = 19) ∧ (ix d0 = j + 1 ∧ tg d0 = 0 ∧ arrI d0 = true ∧ ((ln d0 : Nat) : Int) = 5) ∧ (ix d1 = j + 2 ∧ tg d1 = 0 ∧ arrI d1 = true ∧ ((ln d1 : Nat) : Int) = 5) ∧ (ix d2 = j + 3 ∧ tg d2 = 0 ∧ arrI d2 = true ∧ ((ln d2 : Nat) : Int) = 5) ∧ (ix d3 = j + 4 ∧ tg d3 = 0 ∧ arrI d3 = true ∧ ((ln d3 : Nat) : Int) = 5) ∧ (ix d4 = j + 5 ∧ tg d4 = 0 ∧ arrI d4 = true ∧ ((ln d4 : Nat) : Int) = 5) ∧ (ix d5 = j + 6 ∧ tg d5 = 0 ∧ arrI d5 = true ∧ ((ln d5 : Nat) : Int) = 5) ∧ (ix d6 = j + 7 ∧ tg d6 = 0 ∧ arrI d6 = true ∧ ((ln d6 : Nat) : Int) = 5) ∧ (ix d7 = j + 8 ∧ tg d7 = 0 ∧ arrI d7 = true ∧ ((ln d7 : Nat) : Int) = 4)
def CPY (h p : AH) (dO d0 d1 d2 d3 d4 d5 d6 d7 sO s0 s1 s2 s3 s4 s5 s6 s7 : Nat) : Prop := (∀ x, 0 ≤ x → x < 5 → hI p d0 x = hI h s0 x ∧ hI p d1 x = hI h s1 x ∧ hI p d2 x = hI h s2 x ∧ hI p d3 x = hI h s3 x ∧ hI p d4 x = hI h s4 x ∧ hI p d5 x = hI h s5 x ∧ hI p d6 x = hI h s6 x) ∧ (∀ x, 0 ≤ x → x < 4 → hI p d7 x = hI h s7 x) ∧ hI p dO 8 = hI h sO 8 ∧ hL p dO 9 = hL h sO 9
abbrev AD (dO d0 d1 d2 d3 d4 d5 d6 d7 : Nat) : List Nat := [lb dO, dO, d0, d1, d2, d3, d4, d5, d6, d7]
theorem cyd {j m n a b : Nat} (ha : ix a = j + m) (hb : ix b = j + n) (h : m ≠ n) : a ∉ [b] := fun z => by
  have z := congrArg ix (List.mem_singleton.mp z)
  omega
theorem cys {i j m n a b : Nat} (H : j + 9 ≤ i ∨ i + 9 ≤ j) (ha : ix a = i + m) (hb : ix b = j + n) (hm : m ≤ 8) (hn : n ≤ 8) : a ∉ [b] := fun z => by
  have z := congrArg ix (List.mem_singleton.mp z)
  omega
theorem cyX {j m a : Nat} (ha : ix a = j + m) (hj : 64 < j) : a ≠ X := fun z => by
  have z := congrArg ix z
  rw [show ix X = 64 from rfl] at z
  omega
theorem cyL {b c t : Nat} (hb : tg b = t) (ht : t ≠ 63) : lb c ∉ [b] := fun z => by
  have z := congrArg tg (List.mem_singleton.mp z)
  rw [tg_lb] at z
  omega
theorem cyT {b c t : Nat} (hb : tg b = t) (ht : t ≠ 63) : b ∉ [lb c] := fun z => by
  have z := congrArg tg (List.mem_singleton.mp z)
  rw [tg_lb] at z
  omega
theorem cyN {g N : Int} {n : Nat} (h : g + ((n + 1 : Nat) : Int) = N) : g + 1 + (n : Int) = N := by omega
theorem cyLt {g N : Int} {n : Nat} (h : g + ((n + 1 : Nat) : Int) = N) : g < N := by omega
theorem cyEq {g N : Int} (h : g + ((0 : Nat) : Int) = N) : g = N := by omega
theorem cyR {g N : Int} (h0 : 0 ≤ g) (h1 : g < N) (hN : N ≤ 100) : iR g := by omega
theorem cyLn {g N : Int} {a : Nat} (h : ((ln a : Nat) : Int) = N) (hg : g < N) : g < ((ln a : Nat) : Int) := by rw [h]; exact hg
theorem cyS {x g : Int} (h : x < g + 1) (hx : x ≠ g) : x < g := by omega
theorem cyU {f r : Int → Int} {g v x : Int} (hx : x < g + 1) (hv : v = r g) (hf : x < g → f x = r x) : upF f g v x = r x := by
  show (if x = g then v else f x) = r x
  by_cases h : x = g
  · rw [if_pos h, h]; exact hv
  · rw [if_neg h]; exact hf (cyS hx h)
set_option maxHeartbeats 4000000 in
theorem c_copyFrom {d : Nat} {h : AH} {Φ : OUT → AH → Prop} {R : Nat → Int → Option Nat} {i j dO d0 d1 d2 d3 d4 d5 d6 d7 sO s0 s1 s2 s3 s4 s5 s6 s7 : Nat} (hR : hP h = R) (fs : R dO = SQ d0 d1 d2 d3 d4 d5 d6 d7) (fk : R sO = SQ s0 s1 s2 s3 s4 s5 s6 s7) (hd : OKA j dO d0 d1 d2 d3 d4 d5 d6 d7) (hs : OKA i sO s0 s1 s2 s3 s4 s5 s6 s7) (hij : j + 9 ≤ i ∨ i + 9 ≤ j) (j64 : 64 < j) (i64 : 64 < i)
    (K : ∀ p, CPY h p dO d0 d1 d2 d3 d4 d5 d6 d7 sO s0 s1 s2 s3 s4 s5 s6 s7 → TX (AD dO d0 d1 d2 d3 d4 d5 d6 d7) [] h p → Φ (.inl none) p) : CT (d + 1) 0 0 J_X2_copyFrom [vo dO, vo sO] h Φ := by
  refine e_X2_copyFrom ?_; intro k step keep
  obtain ⟨⟨xdO0, tdO⟩, ⟨xd0, td0, ad0, nd0⟩, ⟨xd1, td1, ad1, nd1⟩, ⟨xd2, td2, ad2, nd2⟩, ⟨xd3, td3, ad3, nd3⟩, ⟨xd4, td4, ad4, nd4⟩, ⟨xd5, td5, ad5, nd5⟩, ⟨xd6, td6, ad6, nd6⟩, ⟨xd7, td7, ad7, nd7⟩⟩ := hd
  obtain ⟨⟨xsO0, tsO⟩, ⟨xs0, ts0, as0, ns0⟩, ⟨xs1, ts1, as1, ns1⟩, ⟨xs2, ts2, as2, ns2⟩, ⟨xs3, ts3, as3, ns3⟩, ⟨xs4, ts4, as4, ns4⟩, ⟨xs5, ts5, as5, ns5⟩, ⟨xs6, ts6, as6, ns6⟩, ⟨xs7, ts7, as7, ns7⟩⟩ := hs
  have xdO : ix dO = j + 0 := xdO0
  have xsO : ix sO = i + 0 := xsO0
  have L2 : ∀ (n : Nat) (g : Int) (p : AH), hP p = R → 0 ≤ g → g + n = 4 → (∀ x, 0 ≤ x → x < 5 → hI p d0 x = hI h s0 x ∧ hI p d1 x = hI h s1 x ∧ hI p d2 x = hI h s2 x ∧ hI p d3 x = hI h s3 x ∧ hI p d4 x = hI h s4 x ∧ hI p d5 x = hI h s5 x ∧ hI p d6 x = hI h s6 x) → (∀ x, 0 ≤ x → x < g → hI p d7 x = hI h s7 x) → hI p s7 = hI h s7 → hI p sO = hI h sO → hL p sO = hL h sO → TX (AD dO d0 d1 d2 d3 d4 d5 d6 d7) [] h p → k 0 0 99 [(0, vo dO), (1, vo sO), (2, vi g)] [] p := by
    intro n
    induction n with
    | zero =>
      intro g p hR g0 hn hc h7 y7 yO yL T
      have hg : g = 4 := cyEq hn
      subst hg
      refine step ?_; refine step ?_; refine step ?_; refine And.intro (by decide) ?_; refine And.intro (by decide) ?_; refine And.intro ?_ (fun hz => absurd hz (by decide)); intro _
      refine step ?_; refine step ?_; refine step ?_; refine And.intro tsO ?_; refine Exists.intro _ (And.intro rfl ?_); refine step ?_; refine And.intro tdO ?_; refine wxA (cyX xdO j64) ?_
      intro p1 e1 T1
      have zL : hL p1 sO = hL h sO := by rw [T1.2.2.1 sO (cyL tdO (by decide))]; exact yL
      rw [yO] at e1
      refine step ?_; refine step ?_; refine step ?_; refine And.intro tsO ?_; refine Exists.intro _ (And.intro rfl ?_); refine step ?_; refine And.intro tdO ?_; refine wxL ?_
      intro p2 e2 T2
      rw [zL] at e2
      refine step ?_
      refine K p2 ⟨fun x x0 x1 => ?_, fun x x0 x1 => ?_, ?_, ?_⟩ ((T.tr (T1.up (A' := AD dO d0 d1 d2 d3 d4 d5 d6 d7) (B' := []) (fun b hb => by rw [List.mem_singleton.mp hb]; simp) (fun m hm => by cases hm))).tr (T2.up (A' := AD dO d0 d1 d2 d3 d4 d5 d6 d7) (B' := []) (fun b hb => by rw [List.mem_singleton.mp hb]; simp) (fun m hm => by cases hm)))
      · rw [T2.i (b := d0) (cyT td0 (by decide)) (cyX xd0 j64), T1.i (b := d0) (cyd xd0 xdO (by decide)) (cyX xd0 j64), T2.i (b := d1) (cyT td1 (by decide)) (cyX xd1 j64), T1.i (b := d1) (cyd xd1 xdO (by decide)) (cyX xd1 j64), T2.i (b := d2) (cyT td2 (by decide)) (cyX xd2 j64), T1.i (b := d2) (cyd xd2 xdO (by decide)) (cyX xd2 j64), T2.i (b := d3) (cyT td3 (by decide)) (cyX xd3 j64), T1.i (b := d3) (cyd xd3 xdO (by decide)) (cyX xd3 j64), T2.i (b := d4) (cyT td4 (by decide)) (cyX xd4 j64), T1.i (b := d4) (cyd xd4 xdO (by decide)) (cyX xd4 j64), T2.i (b := d5) (cyT td5 (by decide)) (cyX xd5 j64), T1.i (b := d5) (cyd xd5 xdO (by decide)) (cyX xd5 j64), T2.i (b := d6) (cyT td6 (by decide)) (cyX xd6 j64), T1.i (b := d6) (cyd xd6 xdO (by decide)) (cyX xd6 j64)]; exact hc x x0 x1
      · rw [T2.i (b := d7) (cyT td7 (by decide)) (cyX xd7 j64), T1.i (b := d7) (cyd xd7 xdO (by decide)) (cyX xd7 j64)]; exact h7 x x0 x1
      · rw [T2.i (b := dO) (cyT tdO (by decide)) (cyX xdO j64), e1]; exact if_pos rfl
      · rw [e2]; exact if_pos rfl
    | succ n ih =>
      intro g p hR g0 hn hc h7 y7 yO yL T
      have gl : g < 4 := cyLt hn
      refine step ?_; refine step ?_; refine step ?_; refine And.intro (cyR g0 gl (by decide)) ?_; refine And.intro (by decide) ?_; refine And.intro (fun hz => absurd hz (Int.not_le.mpr gl)) ?_; intro _
      refine step ?_; refine step ?_; refine And.intro tdO ?_; refine Exists.intro _ (And.intro (congrFun ((congrFun hR _).trans fs) _) ?_); refine step ?_; refine step ?_; refine step ?_; refine And.intro tsO ?_; refine Exists.intro _ (And.intro (congrFun ((congrFun hR _).trans fk) _) ?_); refine step ?_; refine step ?_; refine And.intro as7 ?_; refine And.intro g0 ?_; refine And.intro (cyLn ns7 gl) ?_; refine Exists.intro _ (And.intro rfl ?_); refine step ?_; refine And.intro td7 ?_; refine And.intro g0 ?_; refine And.intro (cyLn nd7 gl) ?_; refine wxA (cyX xd7 j64) ?_
      intro p1 e1 T1
      rw [y7] at e1
      refine step ?_; refine step ?_
      refine ih (g + 1) p1 (T1.2.1.trans hR) (Int.le_add_one g0) (cyN hn) (fun x x0 x1 => ?_) (fun x x0 x1 => ?_) ?_ ?_ ?_ (T.tr (T1.up (A' := AD dO d0 d1 d2 d3 d4 d5 d6 d7) (B' := []) (fun b hb => by rw [List.mem_singleton.mp hb]; simp) (fun m hm => by cases hm)))
      · rw [T1.i (b := d0) (cyd xd0 xd7 (by decide)) (cyX xd0 j64), T1.i (b := d1) (cyd xd1 xd7 (by decide)) (cyX xd1 j64), T1.i (b := d2) (cyd xd2 xd7 (by decide)) (cyX xd2 j64), T1.i (b := d3) (cyd xd3 xd7 (by decide)) (cyX xd3 j64), T1.i (b := d4) (cyd xd4 xd7 (by decide)) (cyX xd4 j64), T1.i (b := d5) (cyd xd5 xd7 (by decide)) (cyX xd5 j64), T1.i (b := d6) (cyd xd6 xd7 (by decide)) (cyX xd6 j64)]; exact hc x x0 x1
      · rw [e1]; exact cyU x1 rfl (fun z => h7 x x0 z)
      · rw [T1.i (b := s7) (cys hij xs7 xd7 (by decide) (by decide)) (cyX xs7 i64)]; exact y7
      · rw [T1.i (b := sO) (cys hij xsO xd7 (by decide) (by decide)) (cyX xsO i64)]; exact yO
      · rw [T1.2.2.1 sO (cyL td7 (by decide))]; exact yL
  have L1 : ∀ (n : Nat) (g : Int) (p : AH), hP p = R → 0 ≤ g → g + n = 5 → (∀ x, 0 ≤ x → x < g → hI p d0 x = hI h s0 x ∧ hI p d1 x = hI h s1 x ∧ hI p d2 x = hI h s2 x ∧ hI p d3 x = hI h s3 x ∧ hI p d4 x = hI h s4 x ∧ hI p d5 x = hI h s5 x ∧ hI p d6 x = hI h s6 x) → hI p s0 = hI h s0 → hI p s1 = hI h s1 → hI p s2 = hI h s2 → hI p s3 = hI h s3 → hI p s4 = hI h s4 → hI p s5 = hI h s5 → hI p s6 = hI h s6 → hI p s7 = hI h s7 → hI p sO = hI h sO → hL p sO = hL h sO → TX (AD dO d0 d1 d2 d3 d4 d5 d6 d7) [] h p → k 0 0 2 [(0, vo dO), (1, vo sO), (2, vi g)] [] p := by
    intro n
    induction n with
    | zero =>
      intro g p hR g0 hn hc y0 y1 y2 y3 y4 y5 y6 y7 yO yL T
      have hg : g = 5 := cyEq hn
      subst hg
      refine step ?_; refine step ?_; refine step ?_; refine And.intro (by decide) ?_; refine And.intro (by decide) ?_; refine And.intro ?_ (fun hz => absurd hz (by decide)); intro _; refine step ?_; refine step ?_
      exact L2 4 0 p hR (Int.le_refl _) rfl hc (fun x x0 x1 => absurd x1 (Int.not_lt.mpr x0)) y7 yO yL T
    | succ n ih =>
      intro g p hR g0 hn hc y0 y1 y2 y3 y4 y5 y6 y7 yO yL T
      have gl : g < 5 := cyLt hn
      refine step ?_; refine step ?_; refine step ?_; refine And.intro (cyR g0 gl (by decide)) ?_; refine And.intro (by decide) ?_; refine And.intro (fun hz => absurd hz (Int.not_le.mpr gl)) ?_; intro _
      refine step ?_; refine step ?_; refine And.intro tdO ?_; refine Exists.intro _ (And.intro (congrFun ((congrFun hR _).trans fs) _) ?_); refine step ?_; refine step ?_; refine step ?_; refine And.intro tsO ?_; refine Exists.intro _ (And.intro (congrFun ((congrFun hR _).trans fk) _) ?_); refine step ?_; refine step ?_; refine And.intro as0 ?_; refine And.intro g0 ?_; refine And.intro (cyLn ns0 gl) ?_; refine Exists.intro _ (And.intro rfl ?_); refine step ?_; refine And.intro td0 ?_; refine And.intro g0 ?_; refine And.intro (cyLn nd0 gl) ?_; refine wxA (cyX xd0 j64) ?_
      intro p0 e0 T0
      have hR := T0.2.1.trans hR
      rw [y0] at e0
      have y0 : hI p0 s0 = hI h s0 := by rw [T0.i (b := s0) (cys hij xs0 xd0 (by decide) (by decide)) (cyX xs0 i64)]; exact y0
      have y1 : hI p0 s1 = hI h s1 := by rw [T0.i (b := s1) (cys hij xs1 xd0 (by decide) (by decide)) (cyX xs1 i64)]; exact y1
      have y2 : hI p0 s2 = hI h s2 := by rw [T0.i (b := s2) (cys hij xs2 xd0 (by decide) (by decide)) (cyX xs2 i64)]; exact y2
      have y3 : hI p0 s3 = hI h s3 := by rw [T0.i (b := s3) (cys hij xs3 xd0 (by decide) (by decide)) (cyX xs3 i64)]; exact y3
      have y4 : hI p0 s4 = hI h s4 := by rw [T0.i (b := s4) (cys hij xs4 xd0 (by decide) (by decide)) (cyX xs4 i64)]; exact y4
      have y5 : hI p0 s5 = hI h s5 := by rw [T0.i (b := s5) (cys hij xs5 xd0 (by decide) (by decide)) (cyX xs5 i64)]; exact y5
      have y6 : hI p0 s6 = hI h s6 := by rw [T0.i (b := s6) (cys hij xs6 xd0 (by decide) (by decide)) (cyX xs6 i64)]; exact y6
      have y7 : hI p0 s7 = hI h s7 := by rw [T0.i (b := s7) (cys hij xs7 xd0 (by decide) (by decide)) (cyX xs7 i64)]; exact y7
      have yO : hI p0 sO = hI h sO := by rw [T0.i (b := sO) (cys hij xsO xd0 (by decide) (by decide)) (cyX xsO i64)]; exact yO
      have yL : hL p0 sO = hL h sO := by rw [T0.2.2.1 sO (cyL td0 (by decide))]; exact yL
      have T := T.tr (T0.up (A' := AD dO d0 d1 d2 d3 d4 d5 d6 d7) (B' := []) (fun b hb => by rw [List.mem_singleton.mp hb]; simp) (fun m hm => by cases hm))
      refine step ?_; refine step ?_; refine And.intro tdO ?_; refine Exists.intro _ (And.intro (congrFun ((congrFun hR _).trans fs) _) ?_); refine step ?_; refine step ?_; refine step ?_; refine And.intro tsO ?_; refine Exists.intro _ (And.intro (congrFun ((congrFun hR _).trans fk) _) ?_); refine step ?_; refine step ?_; refine And.intro as1 ?_; refine And.intro g0 ?_; refine And.intro (cyLn ns1 gl) ?_; refine Exists.intro _ (And.intro rfl ?_); refine step ?_; refine And.intro td1 ?_; refine And.intro g0 ?_; refine And.intro (cyLn nd1 gl) ?_; refine wxA (cyX xd1 j64) ?_
      intro p1 e1 T1
      have hR := T1.2.1.trans hR
      rw [y1] at e1
      have y0 : hI p1 s0 = hI h s0 := by rw [T1.i (b := s0) (cys hij xs0 xd1 (by decide) (by decide)) (cyX xs0 i64)]; exact y0
      have y1 : hI p1 s1 = hI h s1 := by rw [T1.i (b := s1) (cys hij xs1 xd1 (by decide) (by decide)) (cyX xs1 i64)]; exact y1
      have y2 : hI p1 s2 = hI h s2 := by rw [T1.i (b := s2) (cys hij xs2 xd1 (by decide) (by decide)) (cyX xs2 i64)]; exact y2
      have y3 : hI p1 s3 = hI h s3 := by rw [T1.i (b := s3) (cys hij xs3 xd1 (by decide) (by decide)) (cyX xs3 i64)]; exact y3
      have y4 : hI p1 s4 = hI h s4 := by rw [T1.i (b := s4) (cys hij xs4 xd1 (by decide) (by decide)) (cyX xs4 i64)]; exact y4
      have y5 : hI p1 s5 = hI h s5 := by rw [T1.i (b := s5) (cys hij xs5 xd1 (by decide) (by decide)) (cyX xs5 i64)]; exact y5
      have y6 : hI p1 s6 = hI h s6 := by rw [T1.i (b := s6) (cys hij xs6 xd1 (by decide) (by decide)) (cyX xs6 i64)]; exact y6
      have y7 : hI p1 s7 = hI h s7 := by rw [T1.i (b := s7) (cys hij xs7 xd1 (by decide) (by decide)) (cyX xs7 i64)]; exact y7
      have yO : hI p1 sO = hI h sO := by rw [T1.i (b := sO) (cys hij xsO xd1 (by decide) (by decide)) (cyX xsO i64)]; exact yO
      have yL : hL p1 sO = hL h sO := by rw [T1.2.2.1 sO (cyL td1 (by decide))]; exact yL
      have T := T.tr (T1.up (A' := AD dO d0 d1 d2 d3 d4 d5 d6 d7) (B' := []) (fun b hb => by rw [List.mem_singleton.mp hb]; simp) (fun m hm => by cases hm))
      refine step ?_; refine step ?_; refine And.intro tdO ?_; refine Exists.intro _ (And.intro (congrFun ((congrFun hR _).trans fs) _) ?_); refine step ?_; refine step ?_; refine step ?_; refine And.intro tsO ?_; refine Exists.intro _ (And.intro (congrFun ((congrFun hR _).trans fk) _) ?_); refine step ?_; refine step ?_; refine And.intro as2 ?_; refine And.intro g0 ?_; refine And.intro (cyLn ns2 gl) ?_; refine Exists.intro _ (And.intro rfl ?_); refine step ?_; refine And.intro td2 ?_; refine And.intro g0 ?_; refine And.intro (cyLn nd2 gl) ?_; refine wxA (cyX xd2 j64) ?_
      intro p2 e2 T2
      have hR := T2.2.1.trans hR
      rw [y2] at e2
      have y0 : hI p2 s0 = hI h s0 := by rw [T2.i (b := s0) (cys hij xs0 xd2 (by decide) (by decide)) (cyX xs0 i64)]; exact y0
      have y1 : hI p2 s1 = hI h s1 := by rw [T2.i (b := s1) (cys hij xs1 xd2 (by decide) (by decide)) (cyX xs1 i64)]; exact y1
      have y2 : hI p2 s2 = hI h s2 := by rw [T2.i (b := s2) (cys hij xs2 xd2 (by decide) (by decide)) (cyX xs2 i64)]; exact y2
      have y3 : hI p2 s3 = hI h s3 := by rw [T2.i (b := s3) (cys hij xs3 xd2 (by decide) (by decide)) (cyX xs3 i64)]; exact y3
      have y4 : hI p2 s4 = hI h s4 := by rw [T2.i (b := s4) (cys hij xs4 xd2 (by decide) (by decide)) (cyX xs4 i64)]; exact y4
      have y5 : hI p2 s5 = hI h s5 := by rw [T2.i (b := s5) (cys hij xs5 xd2 (by decide) (by decide)) (cyX xs5 i64)]; exact y5
      have y6 : hI p2 s6 = hI h s6 := by rw [T2.i (b := s6) (cys hij xs6 xd2 (by decide) (by decide)) (cyX xs6 i64)]; exact y6
      have y7 : hI p2 s7 = hI h s7 := by rw [T2.i (b := s7) (cys hij xs7 xd2 (by decide) (by decide)) (cyX xs7 i64)]; exact y7
      have yO : hI p2 sO = hI h sO := by rw [T2.i (b := sO) (cys hij xsO xd2 (by decide) (by decide)) (cyX xsO i64)]; exact yO
      have yL : hL p2 sO = hL h sO := by rw [T2.2.2.1 sO (cyL td2 (by decide))]; exact yL
      have T := T.tr (T2.up (A' := AD dO d0 d1 d2 d3 d4 d5 d6 d7) (B' := []) (fun b hb => by rw [List.mem_singleton.mp hb]; simp) (fun m hm => by cases hm))
      refine step ?_; refine step ?_; refine And.intro tdO ?_; refine Exists.intro _ (And.intro (congrFun ((congrFun hR _).trans fs) _) ?_); refine step ?_; refine step ?_; refine step ?_; refine And.intro tsO ?_; refine Exists.intro _ (And.intro (congrFun ((congrFun hR _).trans fk) _) ?_); refine step ?_; refine step ?_; refine And.intro as3 ?_; refine And.intro g0 ?_; refine And.intro (cyLn ns3 gl) ?_; refine Exists.intro _ (And.intro rfl ?_); refine step ?_; refine And.intro td3 ?_; refine And.intro g0 ?_; refine And.intro (cyLn nd3 gl) ?_; refine wxA (cyX xd3 j64) ?_
      intro p3 e3 T3
      have hR := T3.2.1.trans hR
      rw [y3] at e3
      have y0 : hI p3 s0 = hI h s0 := by rw [T3.i (b := s0) (cys hij xs0 xd3 (by decide) (by decide)) (cyX xs0 i64)]; exact y0
      have y1 : hI p3 s1 = hI h s1 := by rw [T3.i (b := s1) (cys hij xs1 xd3 (by decide) (by decide)) (cyX xs1 i64)]; exact y1
      have y2 : hI p3 s2 = hI h s2 := by rw [T3.i (b := s2) (cys hij xs2 xd3 (by decide) (by decide)) (cyX xs2 i64)]; exact y2
      have y3 : hI p3 s3 = hI h s3 := by rw [T3.i (b := s3) (cys hij xs3 xd3 (by decide) (by decide)) (cyX xs3 i64)]; exact y3
      have y4 : hI p3 s4 = hI h s4 := by rw [T3.i (b := s4) (cys hij xs4 xd3 (by decide) (by decide)) (cyX xs4 i64)]; exact y4
      have y5 : hI p3 s5 = hI h s5 := by rw [T3.i (b := s5) (cys hij xs5 xd3 (by decide) (by decide)) (cyX xs5 i64)]; exact y5
      have y6 : hI p3 s6 = hI h s6 := by rw [T3.i (b := s6) (cys hij xs6 xd3 (by decide) (by decide)) (cyX xs6 i64)]; exact y6
      have y7 : hI p3 s7 = hI h s7 := by rw [T3.i (b := s7) (cys hij xs7 xd3 (by decide) (by decide)) (cyX xs7 i64)]; exact y7
      have yO : hI p3 sO = hI h sO := by rw [T3.i (b := sO) (cys hij xsO xd3 (by decide) (by decide)) (cyX xsO i64)]; exact yO
      have yL : hL p3 sO = hL h sO := by rw [T3.2.2.1 sO (cyL td3 (by decide))]; exact yL
      have T := T.tr (T3.up (A' := AD dO d0 d1 d2 d3 d4 d5 d6 d7) (B' := []) (fun b hb => by rw [List.mem_singleton.mp hb]; simp) (fun m hm => by cases hm))
      refine step ?_; refine step ?_; refine And.intro tdO ?_; refine Exists.intro _ (And.intro (congrFun ((congrFun hR _).trans fs) _) ?_); refine step ?_; refine step ?_; refine step ?_; refine And.intro tsO ?_; refine Exists.intro _ (And.intro (congrFun ((congrFun hR _).trans fk) _) ?_); refine step ?_; refine step ?_; refine And.intro as4 ?_; refine And.intro g0 ?_; refine And.intro (cyLn ns4 gl) ?_; refine Exists.intro _ (And.intro rfl ?_); refine step ?_; refine And.intro td4 ?_; refine And.intro g0 ?_; refine And.intro (cyLn nd4 gl) ?_; refine wxA (cyX xd4 j64) ?_
      intro p4 e4 T4
      have hR := T4.2.1.trans hR
      rw [y4] at e4
      have y0 : hI p4 s0 = hI h s0 := by rw [T4.i (b := s0) (cys hij xs0 xd4 (by decide) (by decide)) (cyX xs0 i64)]; exact y0
      have y1 : hI p4 s1 = hI h s1 := by rw [T4.i (b := s1) (cys hij xs1 xd4 (by decide) (by decide)) (cyX xs1 i64)]; exact y1
      have y2 : hI p4 s2 = hI h s2 := by rw [T4.i (b := s2) (cys hij xs2 xd4 (by decide) (by decide)) (cyX xs2 i64)]; exact y2
      have y3 : hI p4 s3 = hI h s3 := by rw [T4.i (b := s3) (cys hij xs3 xd4 (by decide) (by decide)) (cyX xs3 i64)]; exact y3
      have y4 : hI p4 s4 = hI h s4 := by rw [T4.i (b := s4) (cys hij xs4 xd4 (by decide) (by decide)) (cyX xs4 i64)]; exact y4
      have y5 : hI p4 s5 = hI h s5 := by rw [T4.i (b := s5) (cys hij xs5 xd4 (by decide) (by decide)) (cyX xs5 i64)]; exact y5
      have y6 : hI p4 s6 = hI h s6 := by rw [T4.i (b := s6) (cys hij xs6 xd4 (by decide) (by decide)) (cyX xs6 i64)]; exact y6
      have y7 : hI p4 s7 = hI h s7 := by rw [T4.i (b := s7) (cys hij xs7 xd4 (by decide) (by decide)) (cyX xs7 i64)]; exact y7
      have yO : hI p4 sO = hI h sO := by rw [T4.i (b := sO) (cys hij xsO xd4 (by decide) (by decide)) (cyX xsO i64)]; exact yO
      have yL : hL p4 sO = hL h sO := by rw [T4.2.2.1 sO (cyL td4 (by decide))]; exact yL
      have T := T.tr (T4.up (A' := AD dO d0 d1 d2 d3 d4 d5 d6 d7) (B' := []) (fun b hb => by rw [List.mem_singleton.mp hb]; simp) (fun m hm => by cases hm))
      refine step ?_; refine step ?_; refine And.intro tdO ?_; refine Exists.intro _ (And.intro (congrFun ((congrFun hR _).trans fs) _) ?_); refine step ?_; refine step ?_; refine step ?_; refine And.intro tsO ?_; refine Exists.intro _ (And.intro (congrFun ((congrFun hR _).trans fk) _) ?_); refine step ?_; refine step ?_; refine And.intro as5 ?_; refine And.intro g0 ?_; refine And.intro (cyLn ns5 gl) ?_; refine Exists.intro _ (And.intro rfl ?_); refine step ?_; refine And.intro td5 ?_; refine And.intro g0 ?_; refine And.intro (cyLn nd5 gl) ?_; refine wxA (cyX xd5 j64) ?_
      intro p5 e5 T5
      have hR := T5.2.1.trans hR
      rw [y5] at e5
      have y0 : hI p5 s0 = hI h s0 := by rw [T5.i (b := s0) (cys hij xs0 xd5 (by decide) (by decide)) (cyX xs0 i64)]; exact y0
      have y1 : hI p5 s1 = hI h s1 := by rw [T5.i (b := s1) (cys hij xs1 xd5 (by decide) (by decide)) (cyX xs1 i64)]; exact y1
      have y2 : hI p5 s2 = hI h s2 := by rw [T5.i (b := s2) (cys hij xs2 xd5 (by decide) (by decide)) (cyX xs2 i64)]; exact y2
      have y3 : hI p5 s3 = hI h s3 := by rw [T5.i (b := s3) (cys hij xs3 xd5 (by decide) (by decide)) (cyX xs3 i64)]; exact y3
      have y4 : hI p5 s4 = hI h s4 := by rw [T5.i (b := s4) (cys hij xs4 xd5 (by decide) (by decide)) (cyX xs4 i64)]; exact y4
      have y5 : hI p5 s5 = hI h s5 := by rw [T5.i (b := s5) (cys hij xs5 xd5 (by decide) (by decide)) (cyX xs5 i64)]; exact y5
      have y6 : hI p5 s6 = hI h s6 := by rw [T5.i (b := s6) (cys hij xs6 xd5 (by decide) (by decide)) (cyX xs6 i64)]; exact y6
      have y7 : hI p5 s7 = hI h s7 := by rw [T5.i (b := s7) (cys hij xs7 xd5 (by decide) (by decide)) (cyX xs7 i64)]; exact y7
      have yO : hI p5 sO = hI h sO := by rw [T5.i (b := sO) (cys hij xsO xd5 (by decide) (by decide)) (cyX xsO i64)]; exact yO
      have yL : hL p5 sO = hL h sO := by rw [T5.2.2.1 sO (cyL td5 (by decide))]; exact yL
      have T := T.tr (T5.up (A' := AD dO d0 d1 d2 d3 d4 d5 d6 d7) (B' := []) (fun b hb => by rw [List.mem_singleton.mp hb]; simp) (fun m hm => by cases hm))
      refine step ?_; refine step ?_; refine And.intro tdO ?_; refine Exists.intro _ (And.intro (congrFun ((congrFun hR _).trans fs) _) ?_); refine step ?_; refine step ?_; refine step ?_; refine And.intro tsO ?_; refine Exists.intro _ (And.intro (congrFun ((congrFun hR _).trans fk) _) ?_); refine step ?_; refine step ?_; refine And.intro as6 ?_; refine And.intro g0 ?_; refine And.intro (cyLn ns6 gl) ?_; refine Exists.intro _ (And.intro rfl ?_); refine step ?_; refine And.intro td6 ?_; refine And.intro g0 ?_; refine And.intro (cyLn nd6 gl) ?_; refine wxA (cyX xd6 j64) ?_
      intro p6 e6 T6
      have hR := T6.2.1.trans hR
      rw [y6] at e6
      have y0 : hI p6 s0 = hI h s0 := by rw [T6.i (b := s0) (cys hij xs0 xd6 (by decide) (by decide)) (cyX xs0 i64)]; exact y0
      have y1 : hI p6 s1 = hI h s1 := by rw [T6.i (b := s1) (cys hij xs1 xd6 (by decide) (by decide)) (cyX xs1 i64)]; exact y1
      have y2 : hI p6 s2 = hI h s2 := by rw [T6.i (b := s2) (cys hij xs2 xd6 (by decide) (by decide)) (cyX xs2 i64)]; exact y2
      have y3 : hI p6 s3 = hI h s3 := by rw [T6.i (b := s3) (cys hij xs3 xd6 (by decide) (by decide)) (cyX xs3 i64)]; exact y3
      have y4 : hI p6 s4 = hI h s4 := by rw [T6.i (b := s4) (cys hij xs4 xd6 (by decide) (by decide)) (cyX xs4 i64)]; exact y4
      have y5 : hI p6 s5 = hI h s5 := by rw [T6.i (b := s5) (cys hij xs5 xd6 (by decide) (by decide)) (cyX xs5 i64)]; exact y5
      have y6 : hI p6 s6 = hI h s6 := by rw [T6.i (b := s6) (cys hij xs6 xd6 (by decide) (by decide)) (cyX xs6 i64)]; exact y6
      have y7 : hI p6 s7 = hI h s7 := by rw [T6.i (b := s7) (cys hij xs7 xd6 (by decide) (by decide)) (cyX xs7 i64)]; exact y7
      have yO : hI p6 sO = hI h sO := by rw [T6.i (b := sO) (cys hij xsO xd6 (by decide) (by decide)) (cyX xsO i64)]; exact yO
      have yL : hL p6 sO = hL h sO := by rw [T6.2.2.1 sO (cyL td6 (by decide))]; exact yL
      have T := T.tr (T6.up (A' := AD dO d0 d1 d2 d3 d4 d5 d6 d7) (B' := []) (fun b hb => by rw [List.mem_singleton.mp hb]; simp) (fun m hm => by cases hm))
      refine step ?_; refine step ?_
      have r0 : ∀ x, 0 ≤ x → x < g + 1 → hI p6 d0 x = hI h s0 x := fun x x0 x1 => by
        rw [T6.i (b := d0) (cyd xd0 xd6 (by decide)) (cyX xd0 j64), T5.i (b := d0) (cyd xd0 xd5 (by decide)) (cyX xd0 j64), T4.i (b := d0) (cyd xd0 xd4 (by decide)) (cyX xd0 j64), T3.i (b := d0) (cyd xd0 xd3 (by decide)) (cyX xd0 j64), T2.i (b := d0) (cyd xd0 xd2 (by decide)) (cyX xd0 j64), T1.i (b := d0) (cyd xd0 xd1 (by decide)) (cyX xd0 j64), e0]
        exact cyU x1 rfl (fun z => by exact (hc x x0 z).1)
      have r1 : ∀ x, 0 ≤ x → x < g + 1 → hI p6 d1 x = hI h s1 x := fun x x0 x1 => by
        rw [T6.i (b := d1) (cyd xd1 xd6 (by decide)) (cyX xd1 j64), T5.i (b := d1) (cyd xd1 xd5 (by decide)) (cyX xd1 j64), T4.i (b := d1) (cyd xd1 xd4 (by decide)) (cyX xd1 j64), T3.i (b := d1) (cyd xd1 xd3 (by decide)) (cyX xd1 j64), T2.i (b := d1) (cyd xd1 xd2 (by decide)) (cyX xd1 j64), e1]
        exact cyU x1 rfl (fun z => by rw [T0.i (b := d1) (cyd xd1 xd0 (by decide)) (cyX xd1 j64)]; exact (hc x x0 z).2.1)
      have r2 : ∀ x, 0 ≤ x → x < g + 1 → hI p6 d2 x = hI h s2 x := fun x x0 x1 => by
        rw [T6.i (b := d2) (cyd xd2 xd6 (by decide)) (cyX xd2 j64), T5.i (b := d2) (cyd xd2 xd5 (by decide)) (cyX xd2 j64), T4.i (b := d2) (cyd xd2 xd4 (by decide)) (cyX xd2 j64), T3.i (b := d2) (cyd xd2 xd3 (by decide)) (cyX xd2 j64), e2]
        exact cyU x1 rfl (fun z => by rw [T1.i (b := d2) (cyd xd2 xd1 (by decide)) (cyX xd2 j64), T0.i (b := d2) (cyd xd2 xd0 (by decide)) (cyX xd2 j64)]; exact (hc x x0 z).2.2.1)
      have r3 : ∀ x, 0 ≤ x → x < g + 1 → hI p6 d3 x = hI h s3 x := fun x x0 x1 => by
        rw [T6.i (b := d3) (cyd xd3 xd6 (by decide)) (cyX xd3 j64), T5.i (b := d3) (cyd xd3 xd5 (by decide)) (cyX xd3 j64), T4.i (b := d3) (cyd xd3 xd4 (by decide)) (cyX xd3 j64), e3]
        exact cyU x1 rfl (fun z => by rw [T2.i (b := d3) (cyd xd3 xd2 (by decide)) (cyX xd3 j64), T1.i (b := d3) (cyd xd3 xd1 (by decide)) (cyX xd3 j64), T0.i (b := d3) (cyd xd3 xd0 (by decide)) (cyX xd3 j64)]; exact (hc x x0 z).2.2.2.1)
      have r4 : ∀ x, 0 ≤ x → x < g + 1 → hI p6 d4 x = hI h s4 x := fun x x0 x1 => by
        rw [T6.i (b := d4) (cyd xd4 xd6 (by decide)) (cyX xd4 j64), T5.i (b := d4) (cyd xd4 xd5 (by decide)) (cyX xd4 j64), e4]
        exact cyU x1 rfl (fun z => by rw [T3.i (b := d4) (cyd xd4 xd3 (by decide)) (cyX xd4 j64), T2.i (b := d4) (cyd xd4 xd2 (by decide)) (cyX xd4 j64), T1.i (b := d4) (cyd xd4 xd1 (by decide)) (cyX xd4 j64), T0.i (b := d4) (cyd xd4 xd0 (by decide)) (cyX xd4 j64)]; exact (hc x x0 z).2.2.2.2.1)
      have r5 : ∀ x, 0 ≤ x → x < g + 1 → hI p6 d5 x = hI h s5 x := fun x x0 x1 => by
        rw [T6.i (b := d5) (cyd xd5 xd6 (by decide)) (cyX xd5 j64), e5]
        exact cyU x1 rfl (fun z => by rw [T4.i (b := d5) (cyd xd5 xd4 (by decide)) (cyX xd5 j64), T3.i (b := d5) (cyd xd5 xd3 (by decide)) (cyX xd5 j64), T2.i (b := d5) (cyd xd5 xd2 (by decide)) (cyX xd5 j64), T1.i (b := d5) (cyd xd5 xd1 (by decide)) (cyX xd5 j64), T0.i (b := d5) (cyd xd5 xd0 (by decide)) (cyX xd5 j64)]; exact (hc x x0 z).2.2.2.2.2.1)
      have r6 : ∀ x, 0 ≤ x → x < g + 1 → hI p6 d6 x = hI h s6 x := fun x x0 x1 => by
        rw [e6]
        exact cyU x1 rfl (fun z => by rw [T5.i (b := d6) (cyd xd6 xd5 (by decide)) (cyX xd6 j64), T4.i (b := d6) (cyd xd6 xd4 (by decide)) (cyX xd6 j64), T3.i (b := d6) (cyd xd6 xd3 (by decide)) (cyX xd6 j64), T2.i (b := d6) (cyd xd6 xd2 (by decide)) (cyX xd6 j64), T1.i (b := d6) (cyd xd6 xd1 (by decide)) (cyX xd6 j64), T0.i (b := d6) (cyd xd6 xd0 (by decide)) (cyX xd6 j64)]; exact (hc x x0 z).2.2.2.2.2.2)
      exact ih (g + 1) p6 hR (Int.le_add_one g0) (cyN hn) (fun x x0 x1 => ⟨r0 x x0 x1, r1 x x0 x1, r2 x x0 x1, r3 x x0 x1, r4 x x0 x1, r5 x x0 x1, r6 x x0 x1⟩) y0 y1 y2 y3 y4 y5 y6 y7 yO yL T
  refine step ?_; refine step ?_
  exact L1 5 0 h hR (Int.le_refl _) rfl (fun x x0 x1 => absurd x1 (Int.not_lt.mpr x0)) rfl rfl rfl rfl rfl rfl rfl rfl rfl rfl TX.rf
