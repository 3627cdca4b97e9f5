/-! A METHOD'S CONTRACT ON THE ABSTRACT MACHINE IS ITS CONTRACT ON THE REAL ONE -/
theorem lent_args {w : OM} (hw : WOK w) (as : List AV) : ∀ i, lv_args i (as.map (cv w)) = lmp w (lent as i) := by
  induction as with
  | nil => exact fun i => rfl
  | cons v r ih =>
    intro i
    show (i, cv w v) :: lv_args (if (cv w v).category = 2 then i + 2 else i + 1) (r.map (cv w)) = (i, cv w v) :: lmp w (lent r (cond (cat2 v) (i + 2) (i + 1)))
    rw [cv_cat hw v]
    cases cat2 v with
    | true => rw [show (if cond true 2 1 = 2 then i + 2 else i + 1) = i + 2 from rfl, ih]; rfl
    | false => rw [show (if cond false 2 1 = 2 then i + 2 else i + 1) = i + 1 from rfl, ih]; rfl
theorem lent_mem {as : List AV} : ∀ (i : Nat) (q : Nat × AV), q ∈ lent as i → q.2 ∈ as := by
  induction as with
  | nil => exact fun i q hq => by cases hq
  | cons v r ih =>
    intro i q hq
    rcases List.mem_cons.mp hq with rfl | hq
    · exact List.mem_cons_self
    · exact List.mem_cons_of_mem _ (ih _ q hq)
theorem lent_len {w : OM} (hw : WOK w) (as : List AV) : (lg_sl (as.map (cv w))).length = stw as := by
  induction as with
  | nil => rfl
  | cons v r ih =>
    have h1 : lg_sl ((v :: r).map (cv w)) = (if (cv w v).category = 2 then [Slot.val (cv w v), Slot.second] else [Slot.val (cv w v)]) ++ lg_sl (r.map (cv w)) := rfl
    rw [h1, List.length_append, ih, cv_cat hw v]
    show _ = cond (cat2 v) 2 1 + stw r
    cases cat2 v <;> rfl
/-- what the tables owe, method by method -/
def MOK (j : Nat) : Prop := (∀ pc, InsOK (MT j) pc (cd j pc)) ∧ plainFor (mY (MT j)) = true ∧ mw j = mL (MT j)
section
variable {p : Program} {l : Launch} {e : Env} {R : Room} {s : State} {m : MethodId} {args : Array Value} {below : List Frame} {meth : Method} {c : Code} {Q : State → Prop} {w : OM} {hs0 h : AH} {M : MD} {d : Nat} {Φ : OUT → AH → Prop}
/-- the walk of one body, whatever its end is -/
theorem body_run (G : GK p l e R s m args below meth c w M d) (hthr : THR p l e R s m args below meth c Q w hs0 Φ (mTab M)) (IH : IHd l w d) (E : REND p l e R s m args below meth c Q w M hs0 Φ) {C : Nat → INS} (hok : ∀ pc, InsOK M pc (C pc)) {as : List AV}
    (hC : ∀ k : KT, (∀ {cu su pc : Nat} {ls : LVs} {st : List AV} {h : AH}, nxt (CTn cd mw d) R.cells R.slots Φ (C pc) cu su ls st h k → k cu su pc ls st h) → (∀ {cu su pc : Nat} {ls : LVs} {st : List AV} {h : AH} (is : List Nat), lkeepK ls is (fun l => k cu su pc l st h) → k cu su pc ls st h) → k 0 0 0 (lent as 0) [] h) : WPk p l e R s m args below meth c Q w (mL M) hs0 0 0 0 (lent as 0) [] h := by
  obtain ⟨hx, hb, hown, hts, hK, hw, hml, hnm, htab, hfr, hlo, htr⟩ := id G
  refine hC (fun cu su pc ls st h => (cu ≤ R.cells ∧ su ≤ R.slots) → WPk p l e R s m args below meth c Q w (mL M) hs0 cu su pc ls st h) (fun {cu su pc ls st h} hn hB => ?_) (fun {cu su pc ls st h} is hk hB => ?_) ⟨Nat.zero_le _, Nat.zero_le _⟩
  · refine step_sound G hthr IH E (fun cu su pc nx ax tb ls st h hW h8 h1 h2 k => ?_) (hok pc) hB hn
    obtain ⟨w1, w2, w3, rfl, -, -, w7⟩ := hW
    exact k_newWrong hw hx hb htr (by rw [← w7]; exact hown) hts hK hml (by omega) (by omega) w1 w2 w3 h8 h1 h2 k
  · obtain ⟨ls', hk, hsub⟩ := lkeep_spec hk
    intro hv H locs la hR hLo hl
    refine hk hB ⟨fun q hq => hv.1 q (hsub q hq), hv.2⟩ H locs la hR hLo (lv_mono hl (fun q hq => ?_))
    obtain ⟨z, hz, rfl⟩ := List.mem_map.mp hq
    exact List.mem_map.mpr ⟨z, hsub z hz, rfl⟩
end
set_option maxHeartbeats 1000000 in
theorem meth_sound {l : Launch} {w : OM} (hw : WOK w) (hl : l.stackTraces = false) (ok : ∀ j, j < NJ → MOK j) : ∀ d, IHd l w d := by
  intro d
  induction d with
  | zero => exact fun j hj mc ms as h Φ hC => hC.elim
  | succ d ih =>
    intro j hj mc ms as h Φ hC
    obtain ⟨hwid, hC⟩ := hC
    obtain ⟨hok, hpl, hmw⟩ := ok j hj
    have hwid2 := Nat.le_of_ble_eq_true hwid
    rw [hmw] at hwid2
    generalize MT j = M at hok hpl hmw hwid2 ⊢
    refine MetFree.of_bodySF (code := mB M) (maxLocals := mL M) (ret := mR M) hpl ?_ ?_
    · intro args s m hpre hn
      have h1 := atoms_spec (ws := mWs M) hpre (mW M) List.mem_cons_self
      unfold mW at h1
      split at h1
      · obtain ⟨m9, meth, c, h0, h2, h3, h4, h5, -, h6, h7, -⟩ := Cond.codeWith_spec h1
        cases Option.some.inj (hn.symm.trans h0)
        exact ⟨meth, c, h2, h3, h4, h5, h6, h7⟩
      · obtain ⟨meth, c, h2, h3, h4, h5, h6, h7, -, -⟩ := Cond.code_spec hn h1
        exact ⟨meth, c, h2, h3, h4, h5, h6, h7⟩
    · intro p e s m args below meth c s₁ B hml hP _
      obtain ⟨rfl, hK, hR, hva⟩ := hP
      have hall := atoms_spec (ws := mWs M) B.pre
      have hts : ∀ q ∈ lw_all, q.before (as.map (cv w)).toArray s = true := fun q hq => hall q (List.mem_cons_of_mem _ hq)
      have hown := findClass_of_methodNamed B.named
      have htab : c.exceptionTable.toList = mTab M := by
        have h1 := hall (mW M) List.mem_cons_self
        unfold mW at h1
        unfold mTab
        split at h1
        · exact vx_table (x := mY M) B h1
        · obtain ⟨meth9, c9, h3, h4, -, -, -, -, h7, -⟩ := Cond.code_spec B.named h1
          cases Option.some.inj (h3.symm.trans B.method)
          cases Option.some.inj (h4.symm.trans (Stand.of_body B).code)
          rw [Array.isEmpty_iff.mp h7]
      have G : GK p l e (headSpec (mWs M) (rmD (d + 1) mc ms)).room s m (as.map (cv w)).toArray below meth c w M d := ⟨B.exec, B.bytes, hown, hts, hK, hw, hml, (fun z => (name_of_methodNamed B.named B.method).1.trans z), Or.inr htab, Nat.le_refl _, Nat.le_refl _, hl⟩
      have hthr := thr_of (p := p) (l := l) (e := e) (R := (headSpec (mWs M) (rmD (d + 1) mc ms)).room) (s := s) (m := m) (args := (as.map (cv w)).toArray) (below := below) (meth := meth) (c := c) (w := w) (hs0 := h) (Φ := Φ) B.notSynchronized (cls_of hK (by decide : 4 ≤ 17)) htab
      have E : REND p l e (headSpec (mWs M) (rmD (d + 1) mc ms)).room s m (as.map (cv w)).toArray below meth c (kMQ below w h Φ (as.map (cv w)).toArray s (headSpec (mWs M) (rmD (d + 1) mc ms)).room.cells (headSpec (mWs M) (rmD (d + 1) mc ms)).room.slots) w M h Φ := by
        refine ⟨fun cu su pc ls h' i ax hc hs hd hr hco hΦ => ?_, fun cu su pc ls h' x hc hs hd hr hΦ => ?_, fun cu su pc ls h' x rt hc hs hd hr hrt hΦ => ?_, fun cu su pc ls h' hc hs hd hr hΦ => ?_⟩
        · match ax, hr, hco with
          | 0, hr, hco => exact k_ireturn (ax := 0) B.exec B.bytes B.notSynchronized (by rw [B.returns]; exact hr) hc hs hd hco hΦ
          | 1, hr, hco => exact k_ireturn (ax := 1) B.exec B.bytes B.notSynchronized (by rw [B.returns]; exact hr) hc hs hd hco hΦ
          | n + 2, hr, hco => exact k_ireturn (ax := n + 2) B.exec B.bytes B.notSynchronized (by rw [B.returns]; exact hr) hc hs hd hco hΦ
        · exact k_lreturn B.exec B.bytes B.notSynchronized (by rw [B.returns]; exact hr) hc hs hd hΦ
        · exact k_areturn hw B.exec B.bytes B.notSynchronized (by rw [B.returns]; exact hr) hrt hc hs hd hΦ
        · exact k_return B.exec B.bytes B.notSynchronized (by rw [B.returns]; exact hr) hc hs hd hΦ
      have key := body_run (C := cd j) G hthr ih E hok hC
      have hlv := lv_entry (as.map (cv w)) (n := mL M) (by rw [lent_len hw]; exact hwid2)
      rw [lent_args hw as 0] at hlv
      have key2 := key ⟨fun q hq => hva _ (lent_mem 0 q hq), (fun v hq => by cases hq), fun a ha => ha⟩ s.heap [] _ hR (fun q hq => by cases hq) hlv
      have hh0 : s₁.heap = s.heap := by rw [B.state]; rfl
      obtain ⟨t, a1, o, b1, b2, b3⟩ := key2 s₁ hh0 (Stand.of_body B)
      refine ⟨t, o, ?_, b1, b2, b3⟩
      rw [lg_entry_eq]
      exact a1
