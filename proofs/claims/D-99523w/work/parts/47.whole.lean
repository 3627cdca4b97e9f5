/-! THE LAW FROM ITS ENTRY, by its contract on the abstract machine -/
set_option maxHeartbeats 1000000 in
theorem whole_of {p : Program} {e : Env} {s : State} {m : MethodId} {below : List Frame} {meth : Method} {c : Code} (l : Launch) (hflags : l.flags = flags0) {b L : Nat} {xs : Nat → Int32} (hL : L ≤ 384) (C0 : lw_At p s m meth c b L xs) (hlaw : LAWC L xs) : W p l e room_1 s m #[Value.ref b] below meth c s.heap [] 0 0 (lw_Z below #[Value.ref b] s) (entryFrame m ([Value.ref b] : List Value).toArray 4) := by
  obtain ⟨hx, hb, hr, hml, hown, htb, hX, hbl, hloc, hg⟩ := C0
  have hts : ∀ q ∈ lw_all, q.before #[Value.ref b] s = true := fun q hq => htb q (lw_all_tbl hq)
  obtain ⟨w, hw, hK, hR, hH, hV⟩ := world_of htb hg hX hbl hL
  have htr : l.stackTraces = false := by
    unfold Launch.stackTraces
    rw [hflags]
    decide +kernel
  have hsz : (oH w).size = s.heap.size := by rw [hH]
  have G : GK p l e room_1 s m #[Value.ref b] below meth c w MD_L_law 1000 := ⟨hx, hb, hown, hts, hK, hw, hml, (fun z => absurd z (by decide)), Or.inl rfl, by decide, by decide, htr⟩
  have hthr : THR p l e room_1 s m #[Value.ref b] below meth c (lw_Z below #[Value.ref b] s) w (H0 L xs) (fun o _ => o = .inl (some (vi 1))) (mTab MD_L_law) := by
    intro cu su pc la h H locs rest a q _ _ _ _ _ _ _ _ _ hΦ
    cases hΦ
  have E : REND p l e room_1 s m #[Value.ref b] below meth c (lw_Z below #[Value.ref b] s) w MD_L_law (H0 L xs) (fun o _ => o = .inl (some (vi 1))) := by
    refine ⟨fun cu su pc ls h i ax hc hsl hd _ _ hΦ => ?_, fun cu su pc ls h x _ _ _ _ hΦ => ?_, fun cu su pc ls h x rt _ _ _ _ _ hΦ => ?_, fun cu su pc ls h _ _ _ _ hΦ => ?_⟩
    · cases hΦ
      intro hv H locs la hR2 hLo hl
      refine W.widen (k := 1200128) (n := 5501098) hc hsl (va_forget (fun q hq => by rw [← hsz]; exact hLo q hq) ?_)
      exact lw_ret hx hb hr hloc hd
    · cases hΦ
    · cases hΦ
    · cases hΦ
  have key := body_run (C := C_L_law) G hthr (meth_sound hw htr all_ok 1000) E ok_L_law hlaw.2
  have hlv := lv_entry ([Value.ref b]) (n := 4) (Nat.le_of_ble_eq_true rfl)
  rw [lg_entry_eq]
  have hm := mk_facts (i := 0) (t := 7) (n := L) (by decide) (by omega)
  have hval : val (H0 L xs) (mk 0 7 L) := ⟨by rw [hm.1]; exact Nat.le_of_ble_eq_true rfl, by rw [hm.1]; rfl⟩
  have hcr : cv w (vo (mk 0 7 L)) = .ref b := by
    show (if ix (mk 0 7 L) < 64 then oV w (ix (mk 0 7 L)) else _) = _
    rw [hm.1, if_pos (by decide), hV]
  refine key ⟨fun q hq => ?_, (fun v hq => by cases hq), fun a ha => ha⟩ s.heap [] _ hR (fun q hq => by cases hq) ?_
  · rcases List.mem_cons.mp hq with rfl | hq
    · exact hval
    · cases hq
  · have e1 : lmp w (lent [vo (mk 0 7 L)] 0) = [(0, Value.ref b)] := by
      show [(0, cv w (vo (mk 0 7 L)))] = _
      rw [hcr]
    rw [e1]
    exact hlv
