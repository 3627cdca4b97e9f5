/-! THE LAW'S START (printed by gen3.py): the world out of the Statement's words; the law by its contract -/
set_option maxRecDepth 100000
def tS : List (String × Nat) := [("EdgeWalk$Parser", 180), ("EdgeWalk$Parser", 186), ("EdgeWalk$Parser", 193), ("EdgeWalk$Parser", 197), ("EdgeWalk$Parser", 203), ("EdgeWalk$Parser", 212), ("EdgeWalk$Parser", 107), ("EdgeWalk$Parser", 132), ("EdgeWalk$Parser", 145), ("EdgeWalk", 376), ("EdgeWalk", 377), ("EdgeWalk", 379), ("EdgeWalk", 381), ("EdgeWalk", 382), ("EdgeWalk", 383), ("EdgeWalk", 386), ("EdgeWalk", 388), ("EdgeWalk", 389)]
abbrev tmS (i : Nat) : Term := .string (tS.getD i ("", 0)).1 (tS.getD i ("", 0)).2
abbrev tmV (i : Nat) : Term := .field (tmS i) "java/lang/String" "value" "[B"
abbrev tLn (i : Nat) : Nat := (tB.getD i []).length
abbrev tmN : Term := .static "EdgeWalk" "NAMES" "[Ljava/lang/String;"
def tC (i : Nat) : List Jvm.Cond := [.exactly (tmS i) "java/lang/String", .eq (.field (tmS i) "java/lang/String" "coder" "B") (.int 0), .arrayOf (tmV i) .byte, .eq (.length (tmV i)) (.int (Int32.ofNat (tLn i)))] ++ (List.range (tLn i)).map (fun j => .eq (.elem (tmV i) (.int (Int32.ofNat j))) (.int (Int32.ofInt ((tB.getD i []).getD j 0))))
def nmI : List Nat := [1, 9, 10, 11, 12, 13, 14, 3, 15, 16, 17]
def nmS : List (String × Nat) := [("EdgeWalk", 374), ("EdgeWalk", 376), ("EdgeWalk", 377), ("EdgeWalk", 379), ("EdgeWalk", 381), ("EdgeWalk", 382), ("EdgeWalk", 383), ("EdgeWalk", 384), ("EdgeWalk", 386), ("EdgeWalk", 388), ("EdgeWalk", 389)]
abbrev tmE (j : Nat) : Term := .string (nmS.getD j ("", 0)).1 (nmS.getD j ("", 0)).2
def nC0 : List Jvm.Cond := [.arrayOf tmN (.object "java/lang/String"), .eq (.length tmN) (.int (Int32.ofNat 11)), .eq (.static "java/lang/String" "COMPACT_STRINGS" "Z") (.int 1), .isRef (.static "jdk/internal/util/Preconditions" "SIOOBE_FORMATTER" "Ljava/util/function/BiFunction;"), .isRef (.mirror "[Ljava/lang/Object;"), .isRef (.static Bundle.tN "UNASSIGNED_STACK" Bundle.steD), .isRef (.static Bundle.tN "SUPPRESSED_SENTINEL" Bundle.listD), .eq (tmS 1) (.string "EdgeWalk" 374), .eq (tmS 3) (.string "EdgeWalk" 384)]
def nC1 : List Jvm.Cond := (List.range 11).map (fun j => .eq (.elem tmN (.int (Int32.ofNat j))) (tmE j))
theorem tC_in : ∀ c ∈ (List.range 18).flatMap tC, c ∈ flatC (.and given_1 narrow_1) := by decide +kernel
theorem nC_in : ∀ c ∈ nC0 ++ nC1, c ∈ flatC (.and given_1 narrow_1) := by decide +kernel
theorem ext_tg : ∀ i : Fin 64, 1 ≤ i.val → tg (extAd i.val) = (if i.val = 1 then 9 else if i.val < 4 then 10 else if i.val < 40 then (if i.val % 2 = 0 then 33 else 8) else 10) := by decide +kernel
theorem ext_ln : ∀ i : Fin 18, ln (extAd (5 + 2 * i.val)) = tLn i.val := by decide +kernel
section
variable {s : State} {A : Array Value}
abbrev hF (s : State) : Nat → Prop := fun q => s.heap.size ≤ q
theorem str_fact (hs : ∀ c ∈ flatC (.and given_1 narrow_1), c.before A s = true) : ∀ i, i < 18 → ∃ a t : Nat, (tmS i).eval A s none [] s = some (.ref a) ∧ va_O "java/lang/String" a (hF s) s s.heap ∧ va_OF "java/lang/String" "coder" "B" (.int 0) a (hF s) s s.heap ∧ va_OF "java/lang/String" "value" "[B" (.ref t) a (hF s) s s.heap ∧ va_T .byte t (tLn i) (fun j => .int (Int32.ofInt ((tB.getD i []).getD j 0))) (hF s) s s.heap := by
  intro i hi
  have hA : ∀ a : Nat, a < s.heap.size → ¬ hF s a := fun a h1 h2 => by unfold hF at h2; omega
  have hc : ∀ c ∈ tC i, c.before A s = true := fun c hc => hs c (tC_in c (List.mem_flatMap.mpr ⟨i, List.mem_range.mpr hi, hc⟩))
  have hlen : tLn i < 2 ^ 31 := by
    have h1 : ∀ i : Fin 18, tLn i.val < 2 ^ 31 := by decide +kernel
    exact h1 ⟨i, hi⟩
  have c1 := hc (.exactly (tmS i) "java/lang/String") (by simp [tC])
  have c2 := hc (.eq (.field (tmS i) "java/lang/String" "coder" "B") (.int 0)) (by simp [tC])
  have c3 := hc (.arrayOf (tmV i) .byte) (by simp [tC])
  have c4 := hc (.eq (.length (tmV i)) (.int (Int32.ofNat (tLn i)))) (by simp [tC])
  have c5 : ∀ j : Nat, j < tLn i → (Cond.eq (.elem (tmV i) (.int (Int32.ofNat j))) (.int (Int32.ofInt ((tB.getD i []).getD j 0)))).before A s = true := fun j hj => hc _ (List.mem_append_right _ (List.mem_map.mpr ⟨j, List.mem_range.mpr hj, rfl⟩))
  obtain ⟨a, c, cA, kA, q1, q2, q3, q4, q5, q6, -⟩ := Cond.exactly_spec (args := A) (first := s) (o := none) (s := s) (idx := []) c1
  obtain ⟨t, ht, hT⟩ := va_Tof (f := fun j => .int (Int32.ofInt ((tB.getD i []).getD j 0))) (A := hF s) hlen c3 (va_eqt c4) (fun j hj => va_eqt (c5 j hj)) hA
  exact ⟨a, t, q1, ⟨cA, q3, q5, by rw [q6]; exact q2, hA a (Array.getElem?_eq_some_iff.mp q3).1⟩, vk_OFof q1 (va_eqt c2) hA, vk_OFof q1 ht hA, hT⟩
theorem arr_prim {ty : FieldType} (h : (Cond.arrayClass ty).before A s = true) : ∃ c, ArrOfT s c ty ∧ s.vm.findClass ("[" ++ ty.toString) = some c ∧ isAr s c ty := by
  obtain ⟨c, k, comp, h1, h2, h3⟩ := Cond.arrayClass_spec h
  exact ⟨c, fun n z => ⟨(fun q hq => by cases hq), k, h2, comp, h3⟩, h1, k, h2, comp, h3⟩
theorem arr_obj {n : String} (h : (Cond.arrayOver (.object n)).before A s = true) : ∃ c, ArrOfT s c (.object n) ∧ va_RA s c (.object n) := by
  obtain ⟨comp, c, k, h1, -, h2, h3, h4⟩ := Cond.arrayOver_spec h
  exact ⟨c, fun n z => ⟨(fun q hq => by cases hq), k, h2, comp, h3⟩, k, comp, h2, h3, h1, h4⟩
theorem cls_fact (hts : ∀ q ∈ lw_all, q.before A s = true) : ∃ D : va_G, ∀ (c : Nat) (q : vw_C), kcl[c]? = some q → u_Kn s q.1 q.2.1 q.2.2 (D.1 c) (D.2 c) := by
  have h0 : ∀ c : Nat, ∃ r : ClassId × (Nat → Nat), ∀ q : vw_C, kcl[c]? = some q → u_Kn s q.1 q.2.1 q.2.2 r.1 r.2 := by
    intro c
    have mk1 : ∀ (C : String) (T : u_T) (n : Nat), (∃ (cC : ClassId) (iS : Nat → Nat), u_Kn s C T n cC iS) → kcl[c]? = some (C, T, n) → ∃ r : ClassId × (Nat → Nat), ∀ q : vw_C, kcl[c]? = some q → u_Kn s q.1 q.2.1 q.2.2 r.1 r.2 := by
      rintro C T n ⟨cC, iS, h⟩ e
      refine ⟨(cC, iS), fun q hq => ?_⟩
      cases Option.some.inj (e.symm.trans hq)
      exact h
    match c, mk1 with
    | 0, mk1 => exact mk1 _ _ _ (u_known hts in_X0 (hts _ q165)) rfl
    | 1, mk1 => exact mk1 _ _ _ (u_known hts in_X1 (hts _ q173)) rfl
    | 2, mk1 => exact mk1 _ _ _ (u_known hts in_J2 (hts _ q179)) rfl
    | 3, mk1 => exact mk1 _ _ _ (u_known hts in_X2 (hts _ q234)) rfl
    | 4, mk1 => exact mk1 _ _ _ (u_known hts in_W3 (hts _ q283)) rfl
    | 5, mk1 => exact mk1 _ _ _ (u_known hts in_X4 (hts _ q1275)) rfl
    | 6, mk1 => exact mk1 _ _ _ (u_known hts in_X5 (hts _ q456)) rfl
    | 7, mk1 => exact mk1 _ _ _ (u_known hts in_X6 (hts _ q595)) rfl
    | 8, mk1 => exact mk1 _ _ _ (u_known hts in_X7 (hts _ q719)) rfl
    | 9, mk1 => exact mk1 _ _ _ (u_known hts in_X9 (hts _ q749)) rfl
    | 10, mk1 => exact mk1 _ _ _ (u_known hts in_X10 (hts _ q767)) rfl
    | 11, mk1 => exact mk1 _ _ _ (u_known hts in_X11 (hts _ q777)) rfl
    | 12, mk1 => exact mk1 _ _ _ (u_known hts in_X12 (hts _ q793)) rfl
    | 13, mk1 => exact mk1 _ _ _ (u_known hts in_X14 (hts _ q817)) rfl
    | 14, mk1 => exact mk1 _ _ _ (u_known hts in_X15 (hts _ q830)) rfl
    | 15, mk1 => exact mk1 _ _ _ (u_known hts in_X16 (hts _ q850)) rfl
    | 16, mk1 => exact mk1 _ _ _ (u_known hts in_X17 (hts _ q1226)) rfl
    | n + 17, _ => exact ⟨(0, fun _ => 0), fun q hq => by cases hq⟩
  obtain ⟨f, hf⟩ := Classical.axiomOfChoice h0
  exact ⟨(fun c => (f c).1, fun c => (f c).2), fun c q hq => hf c q hq⟩
end
set_option maxHeartbeats 2000000 in
theorem world_of {s : State} {b L : Nat} {xs : Nat → Int32} (htb : ∀ q ∈ lw_tbl, q.before #[Value.ref b] s = true) (hg : (Jvm.Cond.and given_1 narrow_1).before #[Value.ref b] s = true) (hX : va_X b L xs s s.heap) (hbl : b < s.heap.size) (hL : L ≤ 384) : ∃ w : OM, WOK w ∧ KU w s ∧ Rel w (H0 L xs) s.heap ∧ oH w = s.heap ∧ oV w 0 = .ref b := by
  have hs := flat_of_before _ hg
  have hts : ∀ q ∈ lw_all, q.before #[Value.ref b] s = true := fun q hq => htb q (lw_all_tbl hq)
  have hA : ∀ a : Nat, a < s.heap.size → ¬ hF s a := fun a h1 h2 => by unfold hF at h2; omega
  obtain ⟨D, hD⟩ := cls_fact hts
  have hst0 : ∀ i : Nat, ∃ q : Nat × Nat, i < 18 → (tmS i).eval #[Value.ref b] s none [] s = some (.ref q.1) ∧ va_O "java/lang/String" q.1 (hF s) s s.heap ∧ va_OF "java/lang/String" "coder" "B" (.int 0) q.1 (hF s) s s.heap ∧ va_OF "java/lang/String" "value" "[B" (.ref q.2) q.1 (hF s) s s.heap ∧ va_T .byte q.2 (tLn i) (fun j => .int (Int32.ofInt ((tB.getD i []).getD j 0))) (hF s) s s.heap := by
    intro i
    by_cases hi : i < 18
    · obtain ⟨a, t, h1⟩ := str_fact hs i hi
      exact ⟨(a, t), fun _ => h1⟩
    · exact ⟨(0, 0), fun h => absurd h hi⟩
  obtain ⟨ad, had⟩ := Classical.axiomOfChoice hst0
  let adK : Nat → Nat := fun i => (ad i).1
  have hev : ∀ i, i < 18 → (tmS i).eval #[Value.ref b] s none [] s = some (.ref (adK i)) := fun i hi => (had i hi).1
  have hcl0 : ∀ i : Nat, ∃ cl : ClassId, i < 18 → ∀ cell : Cell, s.heap[(ad i).2]? = some cell → cell.cls = cl := by
    intro i
    cases hq : s.heap[(ad i).2]? with
    | none => exact ⟨0, fun _ cell h => by cases h⟩
    | some ce => exact ⟨ce.cls, fun _ cell h => by cases h; rfl⟩
  obtain ⟨clV, hclV⟩ := Classical.axiomOfChoice hcl0
  have hsec : ∀ j : Nat, j < 11 → (tmE j).eval #[Value.ref b] s none [] s = some (.ref (adK (nmI.getD j 0))) := by
    intro j hj
    match j, hj with
    | 0, _ => exact va_eqR (hs _ (nC_in _ (by decide +kernel))) (hev 1 (by decide))
    | 1, _ => exact hev 9 (by decide)
    | 2, _ => exact hev 10 (by decide)
    | 3, _ => exact hev 11 (by decide)
    | 4, _ => exact hev 12 (by decide)
    | 5, _ => exact hev 13 (by decide)
    | 6, _ => exact hev 14 (by decide)
    | 7, _ => exact va_eqR (hs _ (nC_in _ (by decide +kernel))) (hev 3 (by decide))
    | 8, _ => exact hev 15 (by decide)
    | 9, _ => exact hev 16 (by decide)
    | 10, _ => exact hev 17 (by decide)
  obtain ⟨tN, htN, cellN, hN1, hN2, hN3, hN4, hN5, hN6, -⟩ := va_Tof (tm := tmN) (ty := .object "java/lang/String") (N := 11) (f := fun j => .ref (adK (nmI.getD j 0))) (A := hF s) (by decide) (hs _ (nC_in _ (by decide +kernel))) (va_eqt (hs _ (nC_in _ (by decide +kernel)))) (fun j hj => va_eqv (hs _ (nC_in _ (List.mem_append_right _ (List.mem_map.mpr ⟨j, List.mem_range.mpr hj, rfl⟩)))) (hsec j hj)) hA
  obtain ⟨scr, hS1, hS2, hS3, hS4, hS5⟩ := hX
  obtain ⟨vF, hvF, hvF2⟩ := Cond.isRef_spec (hs (.isRef (.static "jdk/internal/util/Preconditions" "SIOOBE_FORMATTER" "Ljava/util/function/BiFunction;")) (nC_in _ (by decide +kernel)))
  obtain ⟨mi, hmi⟩ := va_Mi.of (hs (.isRef (.mirror "[Ljava/lang/Object;")) (nC_in _ (by decide +kernel)))
  obtain ⟨a0, A0, B0, C0⟩ := arr_prim (hts _ q232)
  obtain ⟨a1, A1, B1, C1⟩ := arr_prim (hts _ q437)
  obtain ⟨a2, A2, B2, C2⟩ := arr_prim (hts _ q1404)
  obtain ⟨a3, A3, B3, C3⟩ := arr_prim (hts _ q438)
  obtain ⟨a4, A4, B4⟩ := arr_obj (htb _ q191)
  obtain ⟨a5, A5, B5⟩ := arr_obj (htb _ q346)
  obtain ⟨a6, A6, B6⟩ := arr_obj (htb _ q348)
  obtain ⟨-, ⟨cS0, hcS1, hcS2, hcS3, -⟩, ⟨cf2, kf2, fi2, f2, ce2, hf2, hf2s, -⟩, ⟨cf1, kf1, fi1, f1, ce1, hf1, hf1s, -⟩, -⟩ := had 0 (by decide)
  let DD : va_G := (fun c => if c = 17 then cS0.cls else D.1 c, fun c k => if c = 17 then (if k = 0 then f1.slot else f2.slot) else D.2 c k)
  let vv : Nat → Value := fun i => if i = 0 then .ref b else if i = 1 then .ref tN else if i = 2 then vF else if i = 3 then .ref mi else if i < 40 then (if i % 2 = 0 then .ref (adK ((i - 4) / 2)) else .ref (ad ((i - 5) / 2)).2) else .null
  let ee : Nat → ClassId := fun i => if i = 0 then scr.cls else if i = 1 then cellN.cls else if i < 40 then clV ((i - 5) / 2) else a1
  let aa : Nat → ClassId := fun t => [a0, a1, a2, a3, a4, a5, a6].getD t a0
  have hbyte : ∀ i, i < 18 → ∃ cell : Cell, s.heap[(ad i).2]? = some cell ∧ s.isArrayOf cell .byte ∧ cell.vm ≠ .unknown ∧ tLn i ≤ cell.slots.size ∧ cell.slots.size.toInt32 = Int32.ofNat (tLn i) ∧ (∀ j : Nat, j < tLn i → cell.slots[j]? = some (.int (Int32.ofInt ((tB.getD i []).getD j 0)))) ∧ cell.cls = clV i := by
    intro i hi
    obtain ⟨cell, g1, g2, g3, g4, g5, g6, -⟩ := (had i hi).2.2.2.2
    exact ⟨cell, g1, g2, g3, g4, g5, g6, hclV i hi cell g1⟩
  refine ⟨(DD, aa, s.heap, vv, ee), ?_, ⟨⟨?_, va_AO.of (htb _ q191), va_AO.of (htb _ q346), va_AO.of (htb _ q348), ⟨?_, ?_⟩⟩, ⟨?_, ?_, mi, rfl, hmi⟩, ⟨?_, ?_, ?_, ?_, ?_, ?_, ?_, ?_⟩⟩, ⟨?_, ?_, ⟨?_, ?_⟩, ?_, ?_⟩, rfl, rfl⟩
  · -- WOK
    intro i hi
    show vv i = .null ∨ ∃ a : Nat, vv i = .ref a ∧ (i ≠ 2 ∧ i ≠ 3 → a < s.heap.size)
    simp only [vv]
    split
    · exact Or.inr ⟨b, rfl, fun _ => hbl⟩
    · split
      · exact Or.inr ⟨tN, rfl, fun _ => (Array.getElem?_eq_some_iff.mp hN1).1⟩
      · split
        · rename_i e2
          cases hvv : vF with
          | null => exact Or.inl rfl
          | ref a => exact Or.inr ⟨a, rfl, fun z => absurd e2 z.1⟩
          | _ => rw [hvv] at hvF2; cases hvF2
        · split
          · rename_i e3
            exact Or.inr ⟨mi, rfl, fun z => absurd e3 z.2⟩
          · split
            · rename_i e4
              split
              · obtain ⟨cS, g1, -⟩ := (had ((i - 4) / 2) (by omega)).2.1
                exact Or.inr ⟨_, rfl, fun _ => (Array.getElem?_eq_some_iff.mp g1).1⟩
              · obtain ⟨cS, g1, -⟩ := hbyte ((i - 5) / 2) (by omega)
                exact Or.inr ⟨_, rfl, fun _ => (Array.getElem?_eq_some_iff.mp g1).1⟩
            · exact Or.inl rfl
  · exact fun c hc hx => va_tabs (isX_on hx) rfl (htb c hc)
  · intro c q hq
    have h17 : c ≠ 17 := fun e => by rw [e] at hq; cases hq
    have h1 := hD c q hq
    show u_Kn s q.1 q.2.1 q.2.2 (if c = 17 then cS0.cls else D.1 c) (fun k => if c = 17 then (if k = 0 then f1.slot else f2.slot) else D.2 c k)
    simp only [if_neg h17]
    exact h1
  · intro k q hq
    match k, hq with
    | 0, hq => cases hq; exact ⟨A0, B0⟩
    | 1, hq => cases hq; exact ⟨A1, B1⟩
    | 2, hq => cases hq; exact ⟨A2, B2⟩
    | 3, hq => cases hq; exact ⟨A3, B3⟩
    | 4, hq => cases hq; exact ⟨A4, B4⟩
    | 5, hq => cases hq; exact ⟨A5, B5⟩
    | 6, hq => cases hq; exact ⟨A6, B6⟩
    | n + 7, hq => cases hq
  · intro i ty hi hxt
    show isAr s (ee i) ty
    unfold XT at hxt
    simp only [ee]
    by_cases e0 : i = 0
    · rw [if_pos e0] at hxt ⊢
      cases hxt
      exact hS2.2
    · rw [if_neg e0] at hxt ⊢
      by_cases e1 : i = 1
      · rw [if_pos e1] at hxt ⊢
        cases hxt
        exact hN2.2
      · rw [if_neg e1] at hxt ⊢
        by_cases e5 : 5 ≤ i ∧ i % 2 = 1
        · rw [if_pos e5] at hxt
          cases hxt
          split
          · obtain ⟨cell, -, g2, -, -, -, -, g7⟩ := hbyte ((i - 5) / 2) (by omega)
            rw [← g7]
            exact g2.2
          · exact C1
        · rw [if_neg e5] at hxt; cases hxt
  · show ∀ x ∈ SRl, ∃ a : Nat, vv x.2.2.2 = .ref a ∧ vk_R x.1 x.2.1 x.2.2.1 a s
    unfold SRl
    exact (allc ⟨adK 0, rfl, vk_R.of (htb _ q493) (hev 0 (by decide))⟩ (allc ⟨adK 1, rfl, vk_R.of (htb _ q577) (hev 1 (by decide))⟩ (allc ⟨adK 2, rfl, vk_R.of (htb _ q680) (hev 2 (by decide))⟩ (allc ⟨adK 3, rfl, vk_R.of (htb _ q685) (hev 3 (by decide))⟩ (allc ⟨adK 4, rfl, vk_R.of (htb _ q735) (hev 4 (by decide))⟩ (allc ⟨adK 5, rfl, vk_R.of (htb _ q794) (hev 5 (by decide))⟩ (allc ⟨adK 6, rfl, vk_R.of (htb _ q811) (hev 6 (by decide))⟩ (allc ⟨adK 7, rfl, vk_R.of (htb _ q848) (hev 7 (by decide))⟩ (allc ⟨adK 8, rfl, vk_R.of (htb _ q865) (hev 8 (by decide))⟩ (allc ⟨adK 1, rfl, vk_R.of (htb _ q1943) (va_eqR (hs _ (nC_in _ (by decide +kernel))) (hev 1 (by decide)))⟩ (allc ⟨adK 9, rfl, vk_R.of (htb _ q1944) (hev 9 (by decide))⟩ (allc ⟨adK 10, rfl, vk_R.of (htb _ q1945) (hev 10 (by decide))⟩ (allc ⟨adK 11, rfl, vk_R.of (htb _ q1946) (hev 11 (by decide))⟩ (allc ⟨adK 12, rfl, vk_R.of (htb _ q1947) (hev 12 (by decide))⟩ (allc ⟨adK 13, rfl, vk_R.of (htb _ q1948) (hev 13 (by decide))⟩ (allc ⟨adK 14, rfl, vk_R.of (htb _ q1949) (hev 14 (by decide))⟩ (allc ⟨adK 3, rfl, vk_R.of (htb _ q1950) (va_eqR (hs _ (nC_in _ (by decide +kernel))) (hev 3 (by decide)))⟩ (allc ⟨adK 15, rfl, vk_R.of (htb _ q1951) (hev 15 (by decide))⟩ (allc ⟨adK 16, rfl, vk_R.of (htb _ q1952) (hev 16 (by decide))⟩ (allc ⟨adK 17, rfl, vk_R.of (htb _ q1953) (hev 17 (by decide))⟩ all0))))))))))))))))))))
  · exact va_Zof (htb _ q342) (hts _ q129) htN hA
  · exact va_Zof (htb _ q524) (hts _ q140) (va_eqt (hs _ (nC_in _ (by decide +kernel)))) hA
  · exact va_Zof (htb _ q540) (hts _ q142) hvF hA
  · exact hcS3
  · exact ⟨cf1, kf1, fi1, f1, hf1, hf1s, rfl⟩
  · exact ⟨cf2, kf2, fi2, f2, hf2, hf2s, rfl⟩
  · exact vx_Zqof (htb _ q307) (hts _ q135) (hs _ (nC_in _ (by decide +kernel))) hA
  · exact vx_Zqof (htb _ q309) (hts _ q135) (hs _ (nC_in _ (by decide +kernel))) hA
  · exact Nat.le_refl _
  · rfl
  · exact fun q hq => rfl
  · intro i h1 h2
    show (if i = 0 then mk 0 7 L else extAd i) = extAd i
    rw [if_neg (by omega)]
  · intro a hva
    obtain ⟨hva1, hva2⟩ := hva
    have hva1 : ix a < 64 := hva1
    have hva2 : (if ix a = 0 then mk 0 7 L else extAd (ix a)) = a := hva2
    by_cases e0 : ix a = 0
    · rw [if_pos e0] at hva2
      have hm := mk_facts (i := 0) (t := 7) (n := L) (by decide) (by omega)
      rw [hva2] at hm
      refine ⟨⟨fun _ => Or.inl ⟨hm.2.1, by rw [e0]; rfl⟩, fun z => by omega⟩, ?_⟩
      unfold atO
      rw [if_pos (by omega)]
      refine ⟨b, scr, ?_, hS1, ?_, hS3, hS2.1, Or.inl (by rw [hS4, hm.2.2]), fun j hj => ?_⟩
      · show (if ix a < 64 then vv (ix a) else _) = _
        rw [if_pos hva1, e0]; rfl
      · show scr.cls = (if ix a < 64 then ee (ix a) else _)
        rw [if_pos hva1, e0]; rfl
      · rw [hm.2.2] at hj
        rw [hS5 j hj]
        unfold elt
        rw [hm.2.1]
        show some (Value.int (xs j)) = some (Value.int (Int32.ofInt (if ix a = 0 then (xs ((j : Int)).toNat).toInt else _)))
        rw [if_pos e0, Int32.ofInt_toInt]
        rfl
    · rw [if_neg e0] at hva2
      obtain ⟨i, hi⟩ : ∃ i, ix a = i := ⟨_, rfl⟩
      rw [hi] at hva1 hva2 e0
      have htg := ext_tg ⟨i, hva1⟩ (by show 1 ≤ i; omega)
      simp only at htg
      rw [hva2] at htg
      have hcr : cr (DD, aa, s.heap, vv, ee) (some a) = vv i := by
        show (if ix a < 64 then vv (ix a) else _) = _
        rw [hi, if_pos hva1]
      have hacl : acl (DD, aa, s.heap, vv, ee) a = ee i := by
        show (if ix a < 64 then ee (ix a) else _) = _
        rw [hi, if_pos hva1]
      by_cases e1 : i = 1
      · subst e1
        rw [if_pos rfl] at htg
        have hln : ln a = 11 := by rw [← hva2]; decide +kernel
        refine ⟨⟨fun _ => Or.inr (Or.inr (Or.inl ⟨htg, by rw [hi]; rfl⟩)), fun z => by omega⟩, ?_⟩
        unfold atO
        rw [if_pos (by omega)]
        refine ⟨tN, cellN, hcr, hN1, hacl.symm, hN3, hN2.1, Or.inr ⟨by omega, by rw [hln]; exact hN4, by rw [hln]; exact hN5⟩, fun j hj => ?_⟩
        rw [hln] at hj
        rw [hN6 j hj]
        unfold elt
        rw [htg]
        show some (Value.ref (adK (nmI.getD j 0))) = some (cr (DD, aa, s.heap, vv, ee) (xP (ix a) (j : Int)))
        rw [hi]
        match j, hj with
        | 0, _ => rfl
        | 1, _ => rfl
        | 2, _ => rfl
        | 3, _ => rfl
        | 4, _ => rfl
        | 5, _ => rfl
        | 6, _ => rfl
        | 7, _ => rfl
        | 8, _ => rfl
        | 9, _ => rfl
        | 10, _ => rfl
      · rw [if_neg e1] at htg
        by_cases e4 : i < 4
        · rw [if_pos e4] at htg
          refine ⟨⟨fun _ => Or.inr (Or.inr (Or.inr (Or.inl htg))), fun z => by omega⟩, ?_⟩
          unfold atO
          rw [if_neg (by omega), if_pos htg]
          trivial
        · rw [if_neg e4] at htg
          by_cases e40 : i < 40
          · rw [if_pos e40] at htg
            by_cases ev : i % 2 = 0
            · rw [if_pos ev] at htg
              obtain ⟨n, hn⟩ : ∃ n, i = 4 + 2 * n := ⟨(i - 4) / 2, by omega⟩
              have hn18 : n < 18 := by omega
              have hvi : vv i = .ref (adK n) := by
                simp only [vv]
                rw [if_neg e0, if_neg e1, if_neg (by omega), if_neg (by omega), if_pos e40, if_pos ev, show (i - 4) / 2 = n by omega]
              obtain ⟨-, ⟨cS, g1, g2, g3, -⟩, ⟨cf3, kf3, fi3, f3, ce3, k1, k2, k3, k4, k5, -⟩, ⟨cf4, kf4, fi4, f4, ce4, l1, l2, l3, l4, l5, -⟩, -⟩ := had n hn18
              cases Option.some.inj (g1.symm.trans k3)
              cases Option.some.inj (g1.symm.trans l3)
              cases Option.some.inj (hf2.symm.trans k1)
              cases Option.some.inj (hf1.symm.trans l1)
              refine ⟨⟨fun _ => Or.inr (Or.inr (Or.inr (Or.inr htg))), fun z => by omega⟩, ?_⟩
              unfold atO
              rw [if_neg (by omega), if_neg (by omega)]
              refine ⟨adK n, cS, hcr.trans hvi, g1, ?_, k4, g2, fun z => by omega, fun k0 hk0 => ?_⟩
              · rw [htg]
                exact Option.some.inj (g3.symm.trans hcS3)
              · rw [htg] at hk0 ⊢
                have hk2 : k0 < 2 := hk0
                rcases (by omega : k0 = 0 ∨ k0 = 1) with z | z
                · subst z
                  show cS.slots[f1.slot]? = some (cr (DD, aa, s.heap, vv, ee) (xP (ix a) 0))
                  rw [l5, hi]
                  have hxp : xP i 0 = some (extAd (i + 1)) := by
                    unfold xP
                    rw [if_neg e1, if_pos ⟨by omega, ev, e40⟩, if_pos rfl]
                  rw [hxp]
                  show _ = some (if ix (extAd (i + 1)) < 64 then vv (ix (extAd (i + 1))) else _)
                  rw [extAd_ix (by omega) (by omega), if_pos (by omega)]
                  simp only [vv]
                  rw [if_neg (by omega), if_neg (by omega), if_neg (by omega), if_neg (by omega), if_pos (by omega), if_neg (by omega), show (i + 1 - 5) / 2 = n by omega]
                · subst z
                  show cS.slots[f2.slot]? = some (Value.int (Int32.ofInt (if ix a = 0 then _ else (xB (ix a)).getD ((1 : Nat) : Int).toNat 0)))
                  rw [k5, hi, if_neg e0]
                  have hxb : xB i = [] := by
                    unfold xB
                    rw [if_neg (by omega)]
                  rw [hxb]
                  rfl
            · rw [if_neg ev] at htg
              obtain ⟨n, hn⟩ : ∃ n, i = 5 + 2 * n := ⟨(i - 5) / 2, by omega⟩
              have hn18 : n < 18 := by omega
              have hvi : vv i = .ref (ad n).2 := by
                simp only [vv]
                rw [if_neg e0, if_neg e1, if_neg (by omega), if_neg (by omega), if_pos e40, if_neg ev, show (i - 5) / 2 = n by omega]
              have hei : ee i = clV n := by
                simp only [ee]
                rw [if_neg e0, if_neg e1, if_pos e40, show (i - 5) / 2 = n by omega]
              have hln : ln a = tLn n := by
                rw [← hva2, hn]
                exact ext_ln ⟨n, hn18⟩
              obtain ⟨cell, g1, g2, g3, g4, g5, g6, g7⟩ := hbyte n hn18
              refine ⟨⟨fun _ => Or.inr (Or.inl ⟨htg, by rw [hi]; unfold XT; rw [if_neg e0, if_neg e1, if_pos ⟨by omega, by omega⟩]⟩), fun z => by omega⟩, ?_⟩
              unfold atO
              rw [if_pos (by omega)]
              refine ⟨_, cell, hcr.trans hvi, g1, g7.trans (hacl.trans hei).symm, g3, g2.1, Or.inr ⟨by omega, by rw [hln]; exact g4, by rw [hln]; exact g5⟩, fun j hj => ?_⟩
              rw [hln] at hj
              rw [g6 j hj]
              unfold elt
              rw [htg]
              show _ = some (Value.int (Int32.ofInt (if ix a = 0 then _ else (xB (ix a)).getD ((j : Int)).toNat 0)))
              rw [hi, if_neg e0]
              have hxb : xB i = tB.getD n [] := by
                unfold xB
                rw [if_pos ⟨by omega, by omega⟩, show (i - 5) / 2 = n by omega]
              rw [hxb]
              rfl
          · rw [if_neg e40] at htg
            refine ⟨⟨fun _ => Or.inr (Or.inr (Or.inr (Or.inl htg))), fun z => by omega⟩, ?_⟩
            unfold atO
            rw [if_neg (by omega), if_pos htg]
            trivial
  · intro a k x hva hp
    have hp : xP (ix a) k = some x := hp
    have hval : ∀ i, 1 ≤ i → i < 64 → val (H0 L xs) (extAd i) := fun i h1 h2 => by
      refine ⟨?_, ?_⟩
      · rw [extAd_ix h1 h2]; exact h2
      · rw [extAd_ix h1 h2]
        show (if i = 0 then mk 0 7 L else extAd i) = extAd i
        rw [if_neg (by omega)]
    unfold xP at hp
    split at hp
    · split at hp
      · have h1 : ∀ y ∈ nmL, 1 ≤ ix y ∧ ix y < 64 ∧ extAd (ix y) = y := by decide +kernel
        obtain ⟨g1, g2, g3⟩ := h1 x (List.mem_of_getElem? hp)
        rw [← g3]
        exact hval _ g1 g2
      · cases hp
    · split at hp
      · rename_i g
        split at hp
        · cases hp
          exact hval _ (by omega) (by omega)
        · cases hp
      · cases hp
/-- the law's contract on the abstract machine: within the room it answers true -/
def LAWC (L : Nat) (xs : Nat → Int32) : Prop := CT 1001 1200128 5501098 274 [vo (mk 0 7 L)] (H0 L xs) (fun o _ => o = .inl (some (vi 1)))

