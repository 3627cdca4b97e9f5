-- ===== PART A: goes FIRST, ahead of the names: the tables' words, and 'selects' of the private methods out of them =====
/-- a private method of a class that the tables say can be made, by its rows of tables_1 -/
def lw_okq (q : MethodName × Nat) : Prop := (q.1.cls ≠ "java/lang/invoke/MethodHandle" ∧ q.1.cls ≠ "java/lang/invoke/VarHandle") ∧ Cond.instantiable q.1.cls q.2 ∈ tables_1 ∧ Cond.privateMethod q.1 ∈ tables_1 ∧ Cond.instanceMethod q.1 ∈ tables_1
set_option maxRecDepth 100000
theorem lw_t1 {w : Cond} (h : w ∈ tables_1_1) : w ∈ tables_1 := List.mem_append_left _ h
theorem lw_t2 {w : Cond} (h : w ∈ tables_1_2) : w ∈ tables_1 := List.mem_append_right _ (List.mem_append_left _ h)
theorem lw_t3 {w : Cond} (h : w ∈ tables_1_3) : w ∈ tables_1 := List.mem_append_right _ (List.mem_append_right _ (List.mem_append_left _ h))
theorem lw_t4 {w : Cond} (h : w ∈ tables_1_4) : w ∈ tables_1 := List.mem_append_right _ (List.mem_append_right _ (List.mem_append_right _ (List.mem_append_left _ h)))
theorem lw_t5 {w : Cond} (h : w ∈ tables_1_5) : w ∈ tables_1 := List.mem_append_right _ (List.mem_append_right _ (List.mem_append_right _ (List.mem_append_right _ (List.mem_append_left _ h))))
theorem lw_t6 {w : Cond} (h : w ∈ tables_1_6) : w ∈ tables_1 := List.mem_append_right _ (List.mem_append_right _ (List.mem_append_right _ (List.mem_append_right _ (List.mem_append_right _ (List.mem_append_left _ h)))))
theorem lw_t7 {w : Cond} (h : w ∈ tables_1_7) : w ∈ tables_1 := List.mem_append_right _ (List.mem_append_right _ (List.mem_append_right _ (List.mem_append_right _ (List.mem_append_right _ (List.mem_append_right _ (List.mem_append_left _ h))))))
theorem lw_t8 {w : Cond} (h : w ∈ tables_1_8) : w ∈ tables_1 := List.mem_append_right _ (List.mem_append_right _ (List.mem_append_right _ (List.mem_append_right _ (List.mem_append_right _ (List.mem_append_right _ (List.mem_append_right _ h))))))
theorem lw_p0 : lw_okq (⟨"java/lang/Throwable", "fillInStackTrace", "(I)Ljava/lang/Throwable;"⟩, 6) := ⟨⟨by decide +kernel, by decide +kernel⟩, lw_t1 (List.mem_of_getElem? (i := 189) rfl), lw_t1 (List.mem_of_getElem? (i := 187) rfl), lw_t1 (List.mem_of_getElem? (i := 188) rfl)⟩
theorem lw_p1 : lw_okq (⟨"EdgeWalk", "put", "(I)V"⟩, 25) := ⟨⟨by decide +kernel, by decide +kernel⟩, lw_t1 (List.mem_of_getElem? (i := 37) rfl), lw_t2 (List.mem_of_getElem? (i := 76) rfl), lw_t2 (List.mem_of_getElem? (i := 77) rfl)⟩
theorem lw_p2 : lw_okq (⟨"EdgeWalk$Parser", "clause", "(LEdgeWalk$Sheet;)V"⟩, 7) := ⟨⟨by decide +kernel, by decide +kernel⟩, lw_t2 (List.mem_of_getElem? (i := 88) rfl), lw_t2 (List.mem_of_getElem? (i := 122) rfl), lw_t2 (List.mem_of_getElem? (i := 123) rfl)⟩
theorem lw_p3 : lw_okq (⟨"EdgeWalk$Parser", "begins", "(Ljava/lang/String;Z)Z"⟩, 7) := ⟨⟨by decide +kernel, by decide +kernel⟩, lw_t2 (List.mem_of_getElem? (i := 88) rfl), lw_t2 (List.mem_of_getElem? (i := 127) rfl), lw_t2 (List.mem_of_getElem? (i := 128) rfl)⟩
theorem lw_p4 : lw_okq (⟨"EdgeWalk$Parser", "isWord", "(Ljava/lang/String;)Z"⟩, 7) := ⟨⟨by decide +kernel, by decide +kernel⟩, lw_t2 (List.mem_of_getElem? (i := 88) rfl), lw_t2 (List.mem_of_getElem? (i := 131) rfl), lw_t2 (List.mem_of_getElem? (i := 132) rfl)⟩
theorem lw_p5 : lw_okq (⟨"EdgeWalk$Parser", "next", "()I"⟩, 7) := ⟨⟨by decide +kernel, by decide +kernel⟩, lw_t2 (List.mem_of_getElem? (i := 88) rfl), lw_t2 (List.mem_of_getElem? (i := 135) rfl), lw_t2 (List.mem_of_getElem? (i := 136) rfl)⟩
theorem lw_p6 : lw_okq (⟨"EdgeWalk$Parser", "sign", "()I"⟩, 7) := ⟨⟨by decide +kernel, by decide +kernel⟩, lw_t2 (List.mem_of_getElem? (i := 88) rfl), lw_t2 (List.mem_of_getElem? (i := 139) rfl), lw_t2 (List.mem_of_getElem? (i := 140) rfl)⟩
theorem lw_p7 : lw_okq (⟨"EdgeWalk", "fails", "(II)LEdgeWalk$Wrong;"⟩, 25) := ⟨⟨by decide +kernel, by decide +kernel⟩, lw_t1 (List.mem_of_getElem? (i := 37) rfl), lw_t2 (List.mem_of_getElem? (i := 196) rfl), lw_t2 (List.mem_of_getElem? (i := 197) rfl)⟩
theorem lw_p8 : lw_okq (⟨"EdgeWalk$Parser", "number", "(II)I"⟩, 7) := ⟨⟨by decide +kernel, by decide +kernel⟩, lw_t2 (List.mem_of_getElem? (i := 88) rfl), lw_t2 (List.mem_of_getElem? (i := 200) rfl), lw_t2 (List.mem_of_getElem? (i := 201) rfl)⟩
theorem lw_p9 : lw_okq (⟨"EdgeWalk$Parser", "isDigit", "()Z"⟩, 7) := ⟨⟨by decide +kernel, by decide +kernel⟩, lw_t2 (List.mem_of_getElem? (i := 88) rfl), lw_t2 (List.mem_of_getElem? (i := 204) rfl), lw_t2 (List.mem_of_getElem? (i := 205) rfl)⟩
theorem lw_p10 : lw_okq (⟨"EdgeWalk$Parser", "goer", "(LEdgeWalk$Sheet;)V"⟩, 7) := ⟨⟨by decide +kernel, by decide +kernel⟩, lw_t2 (List.mem_of_getElem? (i := 88) rfl), lw_t2 (List.mem_of_getElem? (i := 219) rfl), lw_t2 (List.mem_of_getElem? (i := 220) rfl)⟩
theorem lw_p11 : lw_okq (⟨"java/util/ArrayList", "add", "(Ljava/lang/Object;[Ljava/lang/Object;I)V"⟩, 3) := ⟨⟨by decide +kernel, by decide +kernel⟩, lw_t1 (List.mem_of_getElem? (i := 51) rfl), lw_t3 (List.mem_of_getElem? (i := 13) rfl), lw_t3 (List.mem_of_getElem? (i := 14) rfl)⟩
theorem lw_p12 : lw_okq (⟨"java/util/ArrayList", "grow", "()[Ljava/lang/Object;"⟩, 3) := ⟨⟨by decide +kernel, by decide +kernel⟩, lw_t1 (List.mem_of_getElem? (i := 51) rfl), lw_t3 (List.mem_of_getElem? (i := 17) rfl), lw_t3 (List.mem_of_getElem? (i := 18) rfl)⟩
theorem lw_p13 : lw_okq (⟨"java/util/ArrayList", "grow", "(I)[Ljava/lang/Object;"⟩, 3) := ⟨⟨by decide +kernel, by decide +kernel⟩, lw_t1 (List.mem_of_getElem? (i := 51) rfl), lw_t3 (List.mem_of_getElem? (i := 21) rfl), lw_t3 (List.mem_of_getElem? (i := 22) rfl)⟩
theorem lw_p14 : lw_okq (⟨"EdgeWalk$Parser", "join", "(LEdgeWalk$Sheet;)V"⟩, 7) := ⟨⟨by decide +kernel, by decide +kernel⟩, lw_t2 (List.mem_of_getElem? (i := 88) rfl), lw_t3 (List.mem_of_getElem? (i := 74) rfl), lw_t3 (List.mem_of_getElem? (i := 75) rfl)⟩
theorem lw_p15 : lw_okq (⟨"EdgeWalk$Parser", "goesOn", "()Z"⟩, 7) := ⟨⟨by decide +kernel, by decide +kernel⟩, lw_t2 (List.mem_of_getElem? (i := 88) rfl), lw_t3 (List.mem_of_getElem? (i := 79) rfl), lw_t3 (List.mem_of_getElem? (i := 80) rfl)⟩
def lw_privs_1 : List (MethodName × Nat) := [(⟨"java/lang/Throwable", "fillInStackTrace", "(I)Ljava/lang/Throwable;"⟩, 6), (⟨"EdgeWalk", "put", "(I)V"⟩, 25), (⟨"EdgeWalk$Parser", "clause", "(LEdgeWalk$Sheet;)V"⟩, 7), (⟨"EdgeWalk$Parser", "begins", "(Ljava/lang/String;Z)Z"⟩, 7), (⟨"EdgeWalk$Parser", "isWord", "(Ljava/lang/String;)Z"⟩, 7), (⟨"EdgeWalk$Parser", "next", "()I"⟩, 7), (⟨"EdgeWalk$Parser", "sign", "()I"⟩, 7), (⟨"EdgeWalk", "fails", "(II)LEdgeWalk$Wrong;"⟩, 25), (⟨"EdgeWalk$Parser", "number", "(II)I"⟩, 7), (⟨"EdgeWalk$Parser", "isDigit", "()Z"⟩, 7), (⟨"EdgeWalk$Parser", "goer", "(LEdgeWalk$Sheet;)V"⟩, 7), (⟨"java/util/ArrayList", "add", "(Ljava/lang/Object;[Ljava/lang/Object;I)V"⟩, 3), (⟨"java/util/ArrayList", "grow", "()[Ljava/lang/Object;"⟩, 3), (⟨"java/util/ArrayList", "grow", "(I)[Ljava/lang/Object;"⟩, 3), (⟨"EdgeWalk$Parser", "join", "(LEdgeWalk$Sheet;)V"⟩, 7), (⟨"EdgeWalk$Parser", "goesOn", "()Z"⟩, 7)]
theorem lw_r1 : ∀ q ∈ lw_privs_1, lw_okq q := List.forall_mem_cons.mpr ⟨lw_p0, List.forall_mem_cons.mpr ⟨lw_p1, List.forall_mem_cons.mpr ⟨lw_p2, List.forall_mem_cons.mpr ⟨lw_p3, List.forall_mem_cons.mpr ⟨lw_p4, List.forall_mem_cons.mpr ⟨lw_p5, List.forall_mem_cons.mpr ⟨lw_p6, List.forall_mem_cons.mpr ⟨lw_p7, List.forall_mem_cons.mpr ⟨lw_p8, List.forall_mem_cons.mpr ⟨lw_p9, List.forall_mem_cons.mpr ⟨lw_p10, List.forall_mem_cons.mpr ⟨lw_p11, List.forall_mem_cons.mpr ⟨lw_p12, List.forall_mem_cons.mpr ⟨lw_p13, List.forall_mem_cons.mpr ⟨lw_p14, List.forall_mem_cons.mpr ⟨lw_p15, fun _ h => absurd h List.not_mem_nil⟩⟩⟩⟩⟩⟩⟩⟩⟩⟩⟩⟩⟩⟩⟩⟩
theorem lw_p16 : lw_okq (⟨"EdgeWalk$Parser", "clause", "(LEdgeWalk$Rule;)V"⟩, 7) := ⟨⟨by decide +kernel, by decide +kernel⟩, lw_t2 (List.mem_of_getElem? (i := 88) rfl), lw_t3 (List.mem_of_getElem? (i := 124) rfl), lw_t3 (List.mem_of_getElem? (i := 125) rfl)⟩
theorem lw_p17 : lw_okq (⟨"EdgeWalk$Parser", "sum", "()LEdgeWalk$Value;"⟩, 7) := ⟨⟨by decide +kernel, by decide +kernel⟩, lw_t2 (List.mem_of_getElem? (i := 88) rfl), lw_t3 (List.mem_of_getElem? (i := 129) rfl), lw_t3 (List.mem_of_getElem? (i := 130) rfl)⟩
theorem lw_p18 : lw_okq (⟨"EdgeWalk$Parser", "term", "()LEdgeWalk$Value;"⟩, 7) := ⟨⟨by decide +kernel, by decide +kernel⟩, lw_t2 (List.mem_of_getElem? (i := 88) rfl), lw_t3 (List.mem_of_getElem? (i := 133) rfl), lw_t3 (List.mem_of_getElem? (i := 134) rfl)⟩
theorem lw_p19 : lw_okq (⟨"EdgeWalk$Parser", "value", "()LEdgeWalk$Value;"⟩, 7) := ⟨⟨by decide +kernel, by decide +kernel⟩, lw_t2 (List.mem_of_getElem? (i := 88) rfl), lw_t3 (List.mem_of_getElem? (i := 137) rfl), lw_t3 (List.mem_of_getElem? (i := 138) rfl)⟩
theorem lw_p20 : lw_okq (⟨"EdgeWalk$Parser", "counts", "(I)V"⟩, 7) := ⟨⟨by decide +kernel, by decide +kernel⟩, lw_t2 (List.mem_of_getElem? (i := 88) rfl), lw_t3 (List.mem_of_getElem? (i := 155) rfl), lw_t3 (List.mem_of_getElem? (i := 156) rfl)⟩
theorem lw_p21 : lw_okq (⟨"EdgeWalk$Parser", "takes", "(Ljava/lang/String;)Z"⟩, 7) := ⟨⟨by decide +kernel, by decide +kernel⟩, lw_t2 (List.mem_of_getElem? (i := 88) rfl), lw_t3 (List.mem_of_getElem? (i := 188) rfl), lw_t3 (List.mem_of_getElem? (i := 189) rfl)⟩
theorem lw_p22 : lw_okq (⟨"EdgeWalk$Parser", "test", "()LEdgeWalk$Condition;"⟩, 7) := ⟨⟨by decide +kernel, by decide +kernel⟩, lw_t2 (List.mem_of_getElem? (i := 88) rfl), lw_t3 (List.mem_of_getElem? (i := 192) rfl), lw_t3 (List.mem_of_getElem? (i := 193) rfl)⟩
theorem lw_p23 : lw_okq (⟨"EdgeWalk$Parser", "part", "()LEdgeWalk$Condition;"⟩, 7) := ⟨⟨by decide +kernel, by decide +kernel⟩, lw_t2 (List.mem_of_getElem? (i := 88) rfl), lw_t3 (List.mem_of_getElem? (i := 196) rfl), lw_t3 (List.mem_of_getElem? (i := 197) rfl)⟩
theorem lw_p24 : lw_okq (⟨"EdgeWalk$Parser", "fact", "()LEdgeWalk$Condition;"⟩, 7) := ⟨⟨by decide +kernel, by decide +kernel⟩, lw_t2 (List.mem_of_getElem? (i := 88) rfl), lw_t3 (List.mem_of_getElem? (i := 200) rfl), lw_t3 (List.mem_of_getElem? (i := 201) rfl)⟩
theorem lw_p25 : lw_okq (⟨"EdgeWalk$Parser", "goesDeeper", "(I)V"⟩, 7) := ⟨⟨by decide +kernel, by decide +kernel⟩, lw_t2 (List.mem_of_getElem? (i := 88) rfl), lw_t3 (List.mem_of_getElem? (i := 205) rfl), lw_t3 (List.mem_of_getElem? (i := 206) rfl)⟩
theorem lw_p26 : lw_okq (⟨"EdgeWalk", "isGoer", "(I)Z"⟩, 25) := ⟨⟨by decide +kernel, by decide +kernel⟩, lw_t1 (List.mem_of_getElem? (i := 37) rfl), lw_t4 (List.mem_of_getElem? (i := 42) rfl), lw_t4 (List.mem_of_getElem? (i := 43) rfl)⟩
theorem lw_p27 : lw_okq (⟨"EdgeWalk", "isSheet", "()Z"⟩, 25) := ⟨⟨by decide +kernel, by decide +kernel⟩, lw_t1 (List.mem_of_getElem? (i := 37) rfl), lw_t4 (List.mem_of_getElem? (i := 50) rfl), lw_t4 (List.mem_of_getElem? (i := 51) rfl)⟩
theorem lw_p28 : lw_okq (⟨"EdgeWalk", "isCell", "(I)Z"⟩, 25) := ⟨⟨by decide +kernel, by decide +kernel⟩, lw_t1 (List.mem_of_getElem? (i := 37) rfl), lw_t4 (List.mem_of_getElem? (i := 59) rfl), lw_t4 (List.mem_of_getElem? (i := 60) rfl)⟩
theorem lw_p29 : lw_okq (⟨"EdgeWalk", "keeps", "()V"⟩, 25) := ⟨⟨by decide +kernel, by decide +kernel⟩, lw_t1 (List.mem_of_getElem? (i := 37) rfl), lw_t4 (List.mem_of_getElem? (i := 83) rfl), lw_t4 (List.mem_of_getElem? (i := 84) rfl)⟩
theorem lw_p30 : lw_okq (⟨"EdgeWalk", "goesOn", "(LEdgeWalk$State;)I"⟩, 25) := ⟨⟨by decide +kernel, by decide +kernel⟩, lw_t1 (List.mem_of_getElem? (i := 37) rfl), lw_t4 (List.mem_of_getElem? (i := 88) rfl), lw_t4 (List.mem_of_getElem? (i := 89) rfl)⟩
theorem lw_p31 : lw_okq (⟨"EdgeWalk", "turnOf", "(LEdgeWalk$State;I)I"⟩, 25) := ⟨⟨by decide +kernel, by decide +kernel⟩, lw_t1 (List.mem_of_getElem? (i := 37) rfl), lw_t4 (List.mem_of_getElem? (i := 101) rfl), lw_t4 (List.mem_of_getElem? (i := 102) rfl)⟩
def lw_privs_2 : List (MethodName × Nat) := [(⟨"EdgeWalk$Parser", "clause", "(LEdgeWalk$Rule;)V"⟩, 7), (⟨"EdgeWalk$Parser", "sum", "()LEdgeWalk$Value;"⟩, 7), (⟨"EdgeWalk$Parser", "term", "()LEdgeWalk$Value;"⟩, 7), (⟨"EdgeWalk$Parser", "value", "()LEdgeWalk$Value;"⟩, 7), (⟨"EdgeWalk$Parser", "counts", "(I)V"⟩, 7), (⟨"EdgeWalk$Parser", "takes", "(Ljava/lang/String;)Z"⟩, 7), (⟨"EdgeWalk$Parser", "test", "()LEdgeWalk$Condition;"⟩, 7), (⟨"EdgeWalk$Parser", "part", "()LEdgeWalk$Condition;"⟩, 7), (⟨"EdgeWalk$Parser", "fact", "()LEdgeWalk$Condition;"⟩, 7), (⟨"EdgeWalk$Parser", "goesDeeper", "(I)V"⟩, 7), (⟨"EdgeWalk", "isGoer", "(I)Z"⟩, 25), (⟨"EdgeWalk", "isSheet", "()Z"⟩, 25), (⟨"EdgeWalk", "isCell", "(I)Z"⟩, 25), (⟨"EdgeWalk", "keeps", "()V"⟩, 25), (⟨"EdgeWalk", "goesOn", "(LEdgeWalk$State;)I"⟩, 25), (⟨"EdgeWalk", "turnOf", "(LEdgeWalk$State;I)I"⟩, 25)]
theorem lw_r2 : ∀ q ∈ lw_privs_2, lw_okq q := List.forall_mem_cons.mpr ⟨lw_p16, List.forall_mem_cons.mpr ⟨lw_p17, List.forall_mem_cons.mpr ⟨lw_p18, List.forall_mem_cons.mpr ⟨lw_p19, List.forall_mem_cons.mpr ⟨lw_p20, List.forall_mem_cons.mpr ⟨lw_p21, List.forall_mem_cons.mpr ⟨lw_p22, List.forall_mem_cons.mpr ⟨lw_p23, List.forall_mem_cons.mpr ⟨lw_p24, List.forall_mem_cons.mpr ⟨lw_p25, List.forall_mem_cons.mpr ⟨lw_p26, List.forall_mem_cons.mpr ⟨lw_p27, List.forall_mem_cons.mpr ⟨lw_p28, List.forall_mem_cons.mpr ⟨lw_p29, List.forall_mem_cons.mpr ⟨lw_p30, List.forall_mem_cons.mpr ⟨lw_p31, fun _ h => absurd h List.not_mem_nil⟩⟩⟩⟩⟩⟩⟩⟩⟩⟩⟩⟩⟩⟩⟩⟩
theorem lw_p32 : lw_okq (⟨"EdgeWalk", "those", "(LEdgeWalk$State;I)I"⟩, 25) := ⟨⟨by decide +kernel, by decide +kernel⟩, lw_t1 (List.mem_of_getElem? (i := 37) rfl), lw_t4 (List.mem_of_getElem? (i := 173) rfl), lw_t4 (List.mem_of_getElem? (i := 174) rfl)⟩
theorem lw_p33 : lw_okq (⟨"EdgeWalk", "goesTill", "(I)V"⟩, 25) := ⟨⟨by decide +kernel, by decide +kernel⟩, lw_t1 (List.mem_of_getElem? (i := 37) rfl), lw_t4 (List.mem_of_getElem? (i := 205) rfl), lw_t4 (List.mem_of_getElem? (i := 206) rfl)⟩
theorem lw_p34 : lw_okq (⟨"EdgeWalk", "comesNearer", "(II)Z"⟩, 25) := ⟨⟨by decide +kernel, by decide +kernel⟩, lw_t1 (List.mem_of_getElem? (i := 37) rfl), lw_t5 (List.mem_of_getElem? (i := 3) rfl), lw_t5 (List.mem_of_getElem? (i := 4) rfl)⟩
theorem lw_p35 : lw_okq (⟨"EdgeWalk", "tries", "()V"⟩, 25) := ⟨⟨by decide +kernel, by decide +kernel⟩, lw_t1 (List.mem_of_getElem? (i := 37) rfl), lw_t5 (List.mem_of_getElem? (i := 14) rfl), lw_t5 (List.mem_of_getElem? (i := 15) rfl)⟩
theorem lw_p36 : lw_okq (⟨"EdgeWalk", "isBetter", "(I)Z"⟩, 25) := ⟨⟨by decide +kernel, by decide +kernel⟩, lw_t1 (List.mem_of_getElem? (i := 37) rfl), lw_t5 (List.mem_of_getElem? (i := 18) rfl), lw_t5 (List.mem_of_getElem? (i := 19) rfl)⟩
theorem lw_p37 : lw_okq (⟨"EdgeWalk", "laysFaces", "(III)V"⟩, 25) := ⟨⟨by decide +kernel, by decide +kernel⟩, lw_t1 (List.mem_of_getElem? (i := 37) rfl), lw_t5 (List.mem_of_getElem? (i := 40) rfl), lw_t5 (List.mem_of_getElem? (i := 41) rfl)⟩
theorem lw_p38 : lw_okq (⟨"EdgeWalk", "isRest", "(I)Z"⟩, 25) := ⟨⟨by decide +kernel, by decide +kernel⟩, lw_t1 (List.mem_of_getElem? (i := 37) rfl), lw_t5 (List.mem_of_getElem? (i := 47) rfl), lw_t5 (List.mem_of_getElem? (i := 48) rfl)⟩
theorem lw_p39 : lw_okq (⟨"EdgeWalk", "laysAll", "()V"⟩, 25) := ⟨⟨by decide +kernel, by decide +kernel⟩, lw_t1 (List.mem_of_getElem? (i := 37) rfl), lw_t5 (List.mem_of_getElem? (i := 55) rfl), lw_t5 (List.mem_of_getElem? (i := 56) rfl)⟩
theorem lw_p40 : lw_okq (⟨"EdgeWalk", "areAlike", "(II)Z"⟩, 25) := ⟨⟨by decide +kernel, by decide +kernel⟩, lw_t1 (List.mem_of_getElem? (i := 37) rfl), lw_t5 (List.mem_of_getElem? (i := 59) rfl), lw_t5 (List.mem_of_getElem? (i := 60) rfl)⟩
theorem lw_p41 : lw_okq (⟨"EdgeWalk", "shortOf", "(I)I"⟩, 25) := ⟨⟨by decide +kernel, by decide +kernel⟩, lw_t1 (List.mem_of_getElem? (i := 37) rfl), lw_t5 (List.mem_of_getElem? (i := 68) rfl), lw_t5 (List.mem_of_getElem? (i := 69) rfl)⟩
theorem lw_p42 : lw_okq (⟨"EdgeWalk", "couldRule", "(I)Z"⟩, 25) := ⟨⟨by decide +kernel, by decide +kernel⟩, lw_t1 (List.mem_of_getElem? (i := 37) rfl), lw_t5 (List.mem_of_getElem? (i := 81) rfl), lw_t5 (List.mem_of_getElem? (i := 82) rfl)⟩
theorem lw_p43 : lw_okq (⟨"EdgeWalk", "doNotesFit", "()Z"⟩, 25) := ⟨⟨by decide +kernel, by decide +kernel⟩, lw_t1 (List.mem_of_getElem? (i := 37) rfl), lw_t5 (List.mem_of_getElem? (i := 85) rfl), lw_t5 (List.mem_of_getElem? (i := 86) rfl)⟩
theorem lw_p44 : lw_okq (⟨"EdgeWalk", "cellThen", "(II)I"⟩, 25) := ⟨⟨by decide +kernel, by decide +kernel⟩, lw_t1 (List.mem_of_getElem? (i := 37) rfl), lw_t5 (List.mem_of_getElem? (i := 89) rfl), lw_t5 (List.mem_of_getElem? (i := 90) rfl)⟩
theorem lw_p45 : lw_okq (⟨"EdgeWalk", "mostAlike", "(II)I"⟩, 25) := ⟨⟨by decide +kernel, by decide +kernel⟩, lw_t1 (List.mem_of_getElem? (i := 37) rfl), lw_t5 (List.mem_of_getElem? (i := 97) rfl), lw_t5 (List.mem_of_getElem? (i := 98) rfl)⟩
theorem lw_p46 : lw_okq (⟨"EdgeWalk", "couldFold", "(I)Z"⟩, 25) := ⟨⟨by decide +kernel, by decide +kernel⟩, lw_t1 (List.mem_of_getElem? (i := 37) rfl), lw_t5 (List.mem_of_getElem? (i := 106) rfl), lw_t5 (List.mem_of_getElem? (i := 107) rfl)⟩
theorem lw_p47 : lw_okq (⟨"EdgeWalk", "drawsGust", "(I)V"⟩, 25) := ⟨⟨by decide +kernel, by decide +kernel⟩, lw_t1 (List.mem_of_getElem? (i := 37) rfl), lw_t5 (List.mem_of_getElem? (i := 119) rfl), lw_t5 (List.mem_of_getElem? (i := 120) rfl)⟩
def lw_privs_3 : List (MethodName × Nat) := [(⟨"EdgeWalk", "those", "(LEdgeWalk$State;I)I"⟩, 25), (⟨"EdgeWalk", "goesTill", "(I)V"⟩, 25), (⟨"EdgeWalk", "comesNearer", "(II)Z"⟩, 25), (⟨"EdgeWalk", "tries", "()V"⟩, 25), (⟨"EdgeWalk", "isBetter", "(I)Z"⟩, 25), (⟨"EdgeWalk", "laysFaces", "(III)V"⟩, 25), (⟨"EdgeWalk", "isRest", "(I)Z"⟩, 25), (⟨"EdgeWalk", "laysAll", "()V"⟩, 25), (⟨"EdgeWalk", "areAlike", "(II)Z"⟩, 25), (⟨"EdgeWalk", "shortOf", "(I)I"⟩, 25), (⟨"EdgeWalk", "couldRule", "(I)Z"⟩, 25), (⟨"EdgeWalk", "doNotesFit", "()Z"⟩, 25), (⟨"EdgeWalk", "cellThen", "(II)I"⟩, 25), (⟨"EdgeWalk", "mostAlike", "(II)I"⟩, 25), (⟨"EdgeWalk", "couldFold", "(I)Z"⟩, 25), (⟨"EdgeWalk", "drawsGust", "(I)V"⟩, 25)]
theorem lw_r3 : ∀ q ∈ lw_privs_3, lw_okq q := List.forall_mem_cons.mpr ⟨lw_p32, List.forall_mem_cons.mpr ⟨lw_p33, List.forall_mem_cons.mpr ⟨lw_p34, List.forall_mem_cons.mpr ⟨lw_p35, List.forall_mem_cons.mpr ⟨lw_p36, List.forall_mem_cons.mpr ⟨lw_p37, List.forall_mem_cons.mpr ⟨lw_p38, List.forall_mem_cons.mpr ⟨lw_p39, List.forall_mem_cons.mpr ⟨lw_p40, List.forall_mem_cons.mpr ⟨lw_p41, List.forall_mem_cons.mpr ⟨lw_p42, List.forall_mem_cons.mpr ⟨lw_p43, List.forall_mem_cons.mpr ⟨lw_p44, List.forall_mem_cons.mpr ⟨lw_p45, List.forall_mem_cons.mpr ⟨lw_p46, List.forall_mem_cons.mpr ⟨lw_p47, fun _ h => absurd h List.not_mem_nil⟩⟩⟩⟩⟩⟩⟩⟩⟩⟩⟩⟩⟩⟩⟩⟩
theorem lw_p48 : lw_okq (⟨"EdgeWalk", "draws", "(I)I"⟩, 25) := ⟨⟨by decide +kernel, by decide +kernel⟩, lw_t1 (List.mem_of_getElem? (i := 37) rfl), lw_t5 (List.mem_of_getElem? (i := 123) rfl), lw_t5 (List.mem_of_getElem? (i := 124) rfl)⟩
theorem lw_p49 : lw_okq (⟨"EdgeWalkModel", "four", "(I)V"⟩, 41) := ⟨⟨by decide +kernel, by decide +kernel⟩, lw_t5 (List.mem_of_getElem? (i := 187) rfl), lw_t6 (List.mem_of_getElem? (i := 82) rfl), lw_t6 (List.mem_of_getElem? (i := 83) rfl)⟩
theorem lw_p50 : lw_okq (⟨"EdgeWalkModel", "readsAll", "()Z"⟩, 41) := ⟨⟨by decide +kernel, by decide +kernel⟩, lw_t5 (List.mem_of_getElem? (i := 187) rfl), lw_t6 (List.mem_of_getElem? (i := 94) rfl), lw_t6 (List.mem_of_getElem? (i := 95) rfl)⟩
theorem lw_p51 : lw_okq (⟨"EdgeWalkModel", "clauseHere", "()Z"⟩, 41) := ⟨⟨by decide +kernel, by decide +kernel⟩, lw_t5 (List.mem_of_getElem? (i := 187) rfl), lw_t6 (List.mem_of_getElem? (i := 98) rfl), lw_t6 (List.mem_of_getElem? (i := 99) rfl)⟩
theorem lw_p52 : lw_okq (⟨"EdgeWalkModel", "see", "()I"⟩, 41) := ⟨⟨by decide +kernel, by decide +kernel⟩, lw_t5 (List.mem_of_getElem? (i := 187) rfl), lw_t6 (List.mem_of_getElem? (i := 102) rfl), lw_t6 (List.mem_of_getElem? (i := 103) rfl)⟩
theorem lw_p53 : lw_okq (⟨"EdgeWalkModel", "isSheetWord", "()Z"⟩, 41) := ⟨⟨by decide +kernel, by decide +kernel⟩, lw_t5 (List.mem_of_getElem? (i := 187) rfl), lw_t6 (List.mem_of_getElem? (i := 106) rfl), lw_t6 (List.mem_of_getElem? (i := 107) rfl)⟩
theorem lw_p54 : lw_okq (⟨"EdgeWalkModel", "isWord", "(J)Z"⟩, 41) := ⟨⟨by decide +kernel, by decide +kernel⟩, lw_t5 (List.mem_of_getElem? (i := 187) rfl), lw_t6 (List.mem_of_getElem? (i := 111) rfl), lw_t6 (List.mem_of_getElem? (i := 112) rfl)⟩
theorem lw_p55 : lw_okq (⟨"EdgeWalkModel", "isLetter", "(I)Z"⟩, 41) := ⟨⟨by decide +kernel, by decide +kernel⟩, lw_t5 (List.mem_of_getElem? (i := 187) rfl), lw_t6 (List.mem_of_getElem? (i := 115) rfl), lw_t6 (List.mem_of_getElem? (i := 116) rfl)⟩
theorem lw_p56 : lw_okq (⟨"EdgeWalkModel", "fails", "(II)Z"⟩, 41) := ⟨⟨by decide +kernel, by decide +kernel⟩, lw_t5 (List.mem_of_getElem? (i := 187) rfl), lw_t6 (List.mem_of_getElem? (i := 123) rfl), lw_t6 (List.mem_of_getElem? (i := 124) rfl)⟩
theorem lw_p57 : lw_okq (⟨"EdgeWalkModel", "sheetLineHere", "(I)Z"⟩, 41) := ⟨⟨by decide +kernel, by decide +kernel⟩, lw_t5 (List.mem_of_getElem? (i := 187) rfl), lw_t6 (List.mem_of_getElem? (i := 127) rfl), lw_t6 (List.mem_of_getElem? (i := 128) rfl)⟩
theorem lw_p58 : lw_okq (⟨"EdgeWalkModel", "isSheetHere", "(I)Z"⟩, 41) := ⟨⟨by decide +kernel, by decide +kernel⟩, lw_t5 (List.mem_of_getElem? (i := 187) rfl), lw_t6 (List.mem_of_getElem? (i := 131) rfl), lw_t6 (List.mem_of_getElem? (i := 132) rfl)⟩
theorem lw_p59 : lw_okq (⟨"EdgeWalkModel", "passWord", "()V"⟩, 41) := ⟨⟨by decide +kernel, by decide +kernel⟩, lw_t5 (List.mem_of_getElem? (i := 187) rfl), lw_t6 (List.mem_of_getElem? (i := 135) rfl), lw_t6 (List.mem_of_getElem? (i := 136) rfl)⟩
theorem lw_p60 : lw_okq (⟨"EdgeWalkModel", "cellHere", "(III)Z"⟩, 41) := ⟨⟨by decide +kernel, by decide +kernel⟩, lw_t5 (List.mem_of_getElem? (i := 187) rfl), lw_t6 (List.mem_of_getElem? (i := 139) rfl), lw_t6 (List.mem_of_getElem? (i := 140) rfl)⟩
theorem lw_p61 : lw_okq (⟨"EdgeWalkModel", "numberHere", "(II)Z"⟩, 41) := ⟨⟨by decide +kernel, by decide +kernel⟩, lw_t5 (List.mem_of_getElem? (i := 187) rfl), lw_t6 (List.mem_of_getElem? (i := 143) rfl), lw_t6 (List.mem_of_getElem? (i := 144) rfl)⟩
theorem lw_p62 : lw_okq (⟨"EdgeWalkModel", "isDigit", "(I)Z"⟩, 41) := ⟨⟨by decide +kernel, by decide +kernel⟩, lw_t5 (List.mem_of_getElem? (i := 187) rfl), lw_t6 (List.mem_of_getElem? (i := 147) rfl), lw_t6 (List.mem_of_getElem? (i := 148) rfl)⟩
theorem lw_p63 : lw_okq (⟨"EdgeWalkModel", "isGoerHere", "(I)Z"⟩, 41) := ⟨⟨by decide +kernel, by decide +kernel⟩, lw_t5 (List.mem_of_getElem? (i := 187) rfl), lw_t6 (List.mem_of_getElem? (i := 154) rfl), lw_t6 (List.mem_of_getElem? (i := 155) rfl)⟩
def lw_privs_4 : List (MethodName × Nat) := [(⟨"EdgeWalk", "draws", "(I)I"⟩, 25), (⟨"EdgeWalkModel", "four", "(I)V"⟩, 41), (⟨"EdgeWalkModel", "readsAll", "()Z"⟩, 41), (⟨"EdgeWalkModel", "clauseHere", "()Z"⟩, 41), (⟨"EdgeWalkModel", "see", "()I"⟩, 41), (⟨"EdgeWalkModel", "isSheetWord", "()Z"⟩, 41), (⟨"EdgeWalkModel", "isWord", "(J)Z"⟩, 41), (⟨"EdgeWalkModel", "isLetter", "(I)Z"⟩, 41), (⟨"EdgeWalkModel", "fails", "(II)Z"⟩, 41), (⟨"EdgeWalkModel", "sheetLineHere", "(I)Z"⟩, 41), (⟨"EdgeWalkModel", "isSheetHere", "(I)Z"⟩, 41), (⟨"EdgeWalkModel", "passWord", "()V"⟩, 41), (⟨"EdgeWalkModel", "cellHere", "(III)Z"⟩, 41), (⟨"EdgeWalkModel", "numberHere", "(II)Z"⟩, 41), (⟨"EdgeWalkModel", "isDigit", "(I)Z"⟩, 41), (⟨"EdgeWalkModel", "isGoerHere", "(I)Z"⟩, 41)]
theorem lw_r4 : ∀ q ∈ lw_privs_4, lw_okq q := List.forall_mem_cons.mpr ⟨lw_p48, List.forall_mem_cons.mpr ⟨lw_p49, List.forall_mem_cons.mpr ⟨lw_p50, List.forall_mem_cons.mpr ⟨lw_p51, List.forall_mem_cons.mpr ⟨lw_p52, List.forall_mem_cons.mpr ⟨lw_p53, List.forall_mem_cons.mpr ⟨lw_p54, List.forall_mem_cons.mpr ⟨lw_p55, List.forall_mem_cons.mpr ⟨lw_p56, List.forall_mem_cons.mpr ⟨lw_p57, List.forall_mem_cons.mpr ⟨lw_p58, List.forall_mem_cons.mpr ⟨lw_p59, List.forall_mem_cons.mpr ⟨lw_p60, List.forall_mem_cons.mpr ⟨lw_p61, List.forall_mem_cons.mpr ⟨lw_p62, List.forall_mem_cons.mpr ⟨lw_p63, fun _ h => absurd h List.not_mem_nil⟩⟩⟩⟩⟩⟩⟩⟩⟩⟩⟩⟩⟩⟩⟩⟩
theorem lw_p64 : lw_okq (⟨"EdgeWalkModel", "lastCell", "()I"⟩, 41) := ⟨⟨by decide +kernel, by decide +kernel⟩, lw_t5 (List.mem_of_getElem? (i := 187) rfl), lw_t6 (List.mem_of_getElem? (i := 158) rfl), lw_t6 (List.mem_of_getElem? (i := 159) rfl)⟩
theorem lw_p65 : lw_okq (⟨"EdgeWalkModel", "isJoinHere", "()Z"⟩, 41) := ⟨⟨by decide +kernel, by decide +kernel⟩, lw_t5 (List.mem_of_getElem? (i := 187) rfl), lw_t6 (List.mem_of_getElem? (i := 162) rfl), lw_t6 (List.mem_of_getElem? (i := 163) rfl)⟩
theorem lw_p66 : lw_okq (⟨"EdgeWalkModel", "isStoneHere", "()Z"⟩, 41) := ⟨⟨by decide +kernel, by decide +kernel⟩, lw_t5 (List.mem_of_getElem? (i := 187) rfl), lw_t6 (List.mem_of_getElem? (i := 166) rfl), lw_t6 (List.mem_of_getElem? (i := 167) rfl)⟩
theorem lw_p67 : lw_okq (⟨"EdgeWalkModel", "isTurnHere", "()Z"⟩, 41) := ⟨⟨by decide +kernel, by decide +kernel⟩, lw_t5 (List.mem_of_getElem? (i := 187) rfl), lw_t6 (List.mem_of_getElem? (i := 170) rfl), lw_t6 (List.mem_of_getElem? (i := 171) rfl)⟩
theorem lw_p68 : lw_okq (⟨"EdgeWalkModel", "sum", "()Z"⟩, 41) := ⟨⟨by decide +kernel, by decide +kernel⟩, lw_t5 (List.mem_of_getElem? (i := 187) rfl), lw_t6 (List.mem_of_getElem? (i := 174) rfl), lw_t6 (List.mem_of_getElem? (i := 175) rfl)⟩
theorem lw_p69 : lw_okq (⟨"EdgeWalkModel", "term", "()Z"⟩, 41) := ⟨⟨by decide +kernel, by decide +kernel⟩, lw_t5 (List.mem_of_getElem? (i := 187) rfl), lw_t6 (List.mem_of_getElem? (i := 178) rfl), lw_t6 (List.mem_of_getElem? (i := 179) rfl)⟩
theorem lw_p70 : lw_okq (⟨"EdgeWalkModel", "value", "()Z"⟩, 41) := ⟨⟨by decide +kernel, by decide +kernel⟩, lw_t5 (List.mem_of_getElem? (i := 187) rfl), lw_t6 (List.mem_of_getElem? (i := 182) rfl), lw_t6 (List.mem_of_getElem? (i := 183) rfl)⟩
theorem lw_p71 : lw_okq (⟨"EdgeWalkModel", "makes", "(I)Z"⟩, 41) := ⟨⟨by decide +kernel, by decide +kernel⟩, lw_t5 (List.mem_of_getElem? (i := 187) rfl), lw_t6 (List.mem_of_getElem? (i := 187) rfl), lw_t6 (List.mem_of_getElem? (i := 188) rfl)⟩
theorem lw_p72 : lw_okq (⟨"EdgeWalkModel", "puts", "(II)V"⟩, 41) := ⟨⟨by decide +kernel, by decide +kernel⟩, lw_t5 (List.mem_of_getElem? (i := 187) rfl), lw_t6 (List.mem_of_getElem? (i := 191) rfl), lw_t6 (List.mem_of_getElem? (i := 192) rfl)⟩
theorem lw_p73 : lw_okq (⟨"EdgeWalkModel", "wordHere", "()I"⟩, 41) := ⟨⟨by decide +kernel, by decide +kernel⟩, lw_t5 (List.mem_of_getElem? (i := 187) rfl), lw_t6 (List.mem_of_getElem? (i := 195) rfl), lw_t6 (List.mem_of_getElem? (i := 196) rfl)⟩
theorem lw_p74 : lw_okq (⟨"EdgeWalkModel", "takesWord", "(J)Z"⟩, 41) := ⟨⟨by decide +kernel, by decide +kernel⟩, lw_t5 (List.mem_of_getElem? (i := 187) rfl), lw_t6 (List.mem_of_getElem? (i := 209) rfl), lw_t6 (List.mem_of_getElem? (i := 210) rfl)⟩
theorem lw_p75 : lw_okq (⟨"EdgeWalkModel", "tested", "()Z"⟩, 41) := ⟨⟨by decide +kernel, by decide +kernel⟩, lw_t5 (List.mem_of_getElem? (i := 187) rfl), lw_t6 (List.mem_of_getElem? (i := 213) rfl), lw_t6 (List.mem_of_getElem? (i := 214) rfl)⟩
theorem lw_p76 : lw_okq (⟨"EdgeWalkModel", "fact", "()Z"⟩, 41) := ⟨⟨by decide +kernel, by decide +kernel⟩, lw_t5 (List.mem_of_getElem? (i := 187) rfl), lw_t6 (List.mem_of_getElem? (i := 217) rfl), lw_t6 (List.mem_of_getElem? (i := 218) rfl)⟩
theorem lw_p77 : lw_okq (⟨"EdgeWalkModel", "opens", "(I)Z"⟩, 41) := ⟨⟨by decide +kernel, by decide +kernel⟩, lw_t5 (List.mem_of_getElem? (i := 187) rfl), lw_t6 (List.mem_of_getElem? (i := 222) rfl), lw_t6 (List.mem_of_getElem? (i := 223) rfl)⟩
theorem lw_p78 : lw_okq (⟨"EdgeWalkModel", "compare", "()Z"⟩, 41) := ⟨⟨by decide +kernel, by decide +kernel⟩, lw_t5 (List.mem_of_getElem? (i := 187) rfl), lw_t6 (List.mem_of_getElem? (i := 226) rfl), lw_t6 (List.mem_of_getElem? (i := 227) rfl)⟩
theorem lw_p79 : lw_okq (⟨"EdgeWalkModel", "closes", "()V"⟩, 41) := ⟨⟨by decide +kernel, by decide +kernel⟩, lw_t5 (List.mem_of_getElem? (i := 187) rfl), lw_t6 (List.mem_of_getElem? (i := 230) rfl), lw_t6 (List.mem_of_getElem? (i := 231) rfl)⟩
def lw_privs_5 : List (MethodName × Nat) := [(⟨"EdgeWalkModel", "lastCell", "()I"⟩, 41), (⟨"EdgeWalkModel", "isJoinHere", "()Z"⟩, 41), (⟨"EdgeWalkModel", "isStoneHere", "()Z"⟩, 41), (⟨"EdgeWalkModel", "isTurnHere", "()Z"⟩, 41), (⟨"EdgeWalkModel", "sum", "()Z"⟩, 41), (⟨"EdgeWalkModel", "term", "()Z"⟩, 41), (⟨"EdgeWalkModel", "value", "()Z"⟩, 41), (⟨"EdgeWalkModel", "makes", "(I)Z"⟩, 41), (⟨"EdgeWalkModel", "puts", "(II)V"⟩, 41), (⟨"EdgeWalkModel", "wordHere", "()I"⟩, 41), (⟨"EdgeWalkModel", "takesWord", "(J)Z"⟩, 41), (⟨"EdgeWalkModel", "tested", "()Z"⟩, 41), (⟨"EdgeWalkModel", "fact", "()Z"⟩, 41), (⟨"EdgeWalkModel", "opens", "(I)Z"⟩, 41), (⟨"EdgeWalkModel", "compare", "()Z"⟩, 41), (⟨"EdgeWalkModel", "closes", "()V"⟩, 41)]
theorem lw_r5 : ∀ q ∈ lw_privs_5, lw_okq q := List.forall_mem_cons.mpr ⟨lw_p64, List.forall_mem_cons.mpr ⟨lw_p65, List.forall_mem_cons.mpr ⟨lw_p66, List.forall_mem_cons.mpr ⟨lw_p67, List.forall_mem_cons.mpr ⟨lw_p68, List.forall_mem_cons.mpr ⟨lw_p69, List.forall_mem_cons.mpr ⟨lw_p70, List.forall_mem_cons.mpr ⟨lw_p71, List.forall_mem_cons.mpr ⟨lw_p72, List.forall_mem_cons.mpr ⟨lw_p73, List.forall_mem_cons.mpr ⟨lw_p74, List.forall_mem_cons.mpr ⟨lw_p75, List.forall_mem_cons.mpr ⟨lw_p76, List.forall_mem_cons.mpr ⟨lw_p77, List.forall_mem_cons.mpr ⟨lw_p78, List.forall_mem_cons.mpr ⟨lw_p79, fun _ h => absurd h List.not_mem_nil⟩⟩⟩⟩⟩⟩⟩⟩⟩⟩⟩⟩⟩⟩⟩⟩
theorem lw_p80 : lw_okq (⟨"EdgeWalkModel", "layDown", "(I)V"⟩, 41) := ⟨⟨by decide +kernel, by decide +kernel⟩, lw_t5 (List.mem_of_getElem? (i := 187) rfl), lw_t6 (List.mem_of_getElem? (i := 234) rfl), lw_t6 (List.mem_of_getElem? (i := 235) rfl)⟩
theorem lw_p81 : lw_okq (⟨"EdgeWalkModel", "isInside", "()Z"⟩, 41) := ⟨⟨by decide +kernel, by decide +kernel⟩, lw_t5 (List.mem_of_getElem? (i := 187) rfl), lw_t7 (List.mem_of_getElem? (i := 1) rfl), lw_t7 (List.mem_of_getElem? (i := 2) rfl)⟩
theorem lw_p82 : lw_okq (⟨"EdgeWalkModel", "begins", "()V"⟩, 41) := ⟨⟨by decide +kernel, by decide +kernel⟩, lw_t5 (List.mem_of_getElem? (i := 187) rfl), lw_t7 (List.mem_of_getElem? (i := 11) rfl), lw_t7 (List.mem_of_getElem? (i := 12) rfl)⟩
theorem lw_p83 : lw_okq (⟨"EdgeWalkModel", "isRule", "(I)Z"⟩, 41) := ⟨⟨by decide +kernel, by decide +kernel⟩, lw_t5 (List.mem_of_getElem? (i := 187) rfl), lw_t7 (List.mem_of_getElem? (i := 19) rfl), lw_t7 (List.mem_of_getElem? (i := 20) rfl)⟩
theorem lw_p84 : lw_okq (⟨"EdgeWalkModel", "isGoer", "(I)Z"⟩, 41) := ⟨⟨by decide +kernel, by decide +kernel⟩, lw_t5 (List.mem_of_getElem? (i := 187) rfl), lw_t7 (List.mem_of_getElem? (i := 27) rfl), lw_t7 (List.mem_of_getElem? (i := 28) rfl)⟩
theorem lw_p85 : lw_okq (⟨"EdgeWalkModel", "isOn", "(I)Z"⟩, 41) := ⟨⟨by decide +kernel, by decide +kernel⟩, lw_t5 (List.mem_of_getElem? (i := 187) rfl), lw_t7 (List.mem_of_getElem? (i := 31) rfl), lw_t7 (List.mem_of_getElem? (i := 32) rfl)⟩
theorem lw_p86 : lw_okq (⟨"EdgeWalkModel", "statusOf", "(I)I"⟩, 41) := ⟨⟨by decide +kernel, by decide +kernel⟩, lw_t5 (List.mem_of_getElem? (i := 187) rfl), lw_t7 (List.mem_of_getElem? (i := 35) rfl), lw_t7 (List.mem_of_getElem? (i := 36) rfl)⟩
theorem lw_p87 : lw_okq (⟨"EdgeWalkModel", "cellOf", "(I)I"⟩, 41) := ⟨⟨by decide +kernel, by decide +kernel⟩, lw_t5 (List.mem_of_getElem? (i := 187) rfl), lw_t7 (List.mem_of_getElem? (i := 39) rfl), lw_t7 (List.mem_of_getElem? (i := 40) rfl)⟩
theorem lw_p88 : lw_okq (⟨"EdgeWalkModel", "facesOf", "(I)I"⟩, 41) := ⟨⟨by decide +kernel, by decide +kernel⟩, lw_t5 (List.mem_of_getElem? (i := 187) rfl), lw_t7 (List.mem_of_getElem? (i := 43) rfl), lw_t7 (List.mem_of_getElem? (i := 44) rfl)⟩
theorem lw_p89 : lw_okq (⟨"EdgeWalkModel", "foodOf", "(I)I"⟩, 41) := ⟨⟨by decide +kernel, by decide +kernel⟩, lw_t5 (List.mem_of_getElem? (i := 187) rfl), lw_t7 (List.mem_of_getElem? (i := 47) rfl), lw_t7 (List.mem_of_getElem? (i := 48) rfl)⟩
theorem lw_p90 : lw_okq (⟨"EdgeWalkModel", "isEdge", "(I)Z"⟩, 41) := ⟨⟨by decide +kernel, by decide +kernel⟩, lw_t5 (List.mem_of_getElem? (i := 187) rfl), lw_t7 (List.mem_of_getElem? (i := 55) rfl), lw_t7 (List.mem_of_getElem? (i := 56) rfl)⟩
theorem lw_p91 : lw_okq (⟨"EdgeWalkModel", "isSheet", "()Z"⟩, 41) := ⟨⟨by decide +kernel, by decide +kernel⟩, lw_t5 (List.mem_of_getElem? (i := 187) rfl), lw_t7 (List.mem_of_getElem? (i := 59) rfl), lw_t7 (List.mem_of_getElem? (i := 60) rfl)⟩
theorem lw_p92 : lw_okq (⟨"EdgeWalkModel", "isCell", "(I)Z"⟩, 41) := ⟨⟨by decide +kernel, by decide +kernel⟩, lw_t5 (List.mem_of_getElem? (i := 187) rfl), lw_t7 (List.mem_of_getElem? (i := 68) rfl), lw_t7 (List.mem_of_getElem? (i := 69) rfl)⟩
theorem lw_p93 : lw_okq (⟨"EdgeWalkModel", "cells", "()I"⟩, 41) := ⟨⟨by decide +kernel, by decide +kernel⟩, lw_t5 (List.mem_of_getElem? (i := 187) rfl), lw_t7 (List.mem_of_getElem? (i := 72) rfl), lw_t7 (List.mem_of_getElem? (i := 73) rfl)⟩
theorem lw_p94 : lw_okq (⟨"EdgeWalkModel", "keepsAct", "()V"⟩, 41) := ⟨⟨by decide +kernel, by decide +kernel⟩, lw_t5 (List.mem_of_getElem? (i := 187) rfl), lw_t7 (List.mem_of_getElem? (i := 84) rfl), lw_t7 (List.mem_of_getElem? (i := 85) rfl)⟩
theorem lw_p95 : lw_okq (⟨"EdgeWalkModel", "passes", "()V"⟩, 41) := ⟨⟨by decide +kernel, by decide +kernel⟩, lw_t5 (List.mem_of_getElem? (i := 187) rfl), lw_t7 (List.mem_of_getElem? (i := 88) rfl), lw_t7 (List.mem_of_getElem? (i := 89) rfl)⟩
def lw_privs_6 : List (MethodName × Nat) := [(⟨"EdgeWalkModel", "layDown", "(I)V"⟩, 41), (⟨"EdgeWalkModel", "isInside", "()Z"⟩, 41), (⟨"EdgeWalkModel", "begins", "()V"⟩, 41), (⟨"EdgeWalkModel", "isRule", "(I)Z"⟩, 41), (⟨"EdgeWalkModel", "isGoer", "(I)Z"⟩, 41), (⟨"EdgeWalkModel", "isOn", "(I)Z"⟩, 41), (⟨"EdgeWalkModel", "statusOf", "(I)I"⟩, 41), (⟨"EdgeWalkModel", "cellOf", "(I)I"⟩, 41), (⟨"EdgeWalkModel", "facesOf", "(I)I"⟩, 41), (⟨"EdgeWalkModel", "foodOf", "(I)I"⟩, 41), (⟨"EdgeWalkModel", "isEdge", "(I)Z"⟩, 41), (⟨"EdgeWalkModel", "isSheet", "()Z"⟩, 41), (⟨"EdgeWalkModel", "isCell", "(I)Z"⟩, 41), (⟨"EdgeWalkModel", "cells", "()I"⟩, 41), (⟨"EdgeWalkModel", "keepsAct", "()V"⟩, 41), (⟨"EdgeWalkModel", "passes", "()V"⟩, 41)]
theorem lw_r6 : ∀ q ∈ lw_privs_6, lw_okq q := List.forall_mem_cons.mpr ⟨lw_p80, List.forall_mem_cons.mpr ⟨lw_p81, List.forall_mem_cons.mpr ⟨lw_p82, List.forall_mem_cons.mpr ⟨lw_p83, List.forall_mem_cons.mpr ⟨lw_p84, List.forall_mem_cons.mpr ⟨lw_p85, List.forall_mem_cons.mpr ⟨lw_p86, List.forall_mem_cons.mpr ⟨lw_p87, List.forall_mem_cons.mpr ⟨lw_p88, List.forall_mem_cons.mpr ⟨lw_p89, List.forall_mem_cons.mpr ⟨lw_p90, List.forall_mem_cons.mpr ⟨lw_p91, List.forall_mem_cons.mpr ⟨lw_p92, List.forall_mem_cons.mpr ⟨lw_p93, List.forall_mem_cons.mpr ⟨lw_p94, List.forall_mem_cons.mpr ⟨lw_p95, fun _ h => absurd h List.not_mem_nil⟩⟩⟩⟩⟩⟩⟩⟩⟩⟩⟩⟩⟩⟩⟩⟩
theorem lw_p96 : lw_okq (⟨"EdgeWalkModel", "walks", "(I)V"⟩, 41) := ⟨⟨by decide +kernel, by decide +kernel⟩, lw_t5 (List.mem_of_getElem? (i := 187) rfl), lw_t7 (List.mem_of_getElem? (i := 92) rfl), lw_t7 (List.mem_of_getElem? (i := 93) rfl)⟩
theorem lw_p97 : lw_okq (⟨"EdgeWalkModel", "quartersOf", "(I)I"⟩, 41) := ⟨⟨by decide +kernel, by decide +kernel⟩, lw_t5 (List.mem_of_getElem? (i := 187) rfl), lw_t7 (List.mem_of_getElem? (i := 96) rfl), lw_t7 (List.mem_of_getElem? (i := 97) rfl)⟩
theorem lw_p98 : lw_okq (⟨"EdgeWalkModel", "nextOf", "(II)I"⟩, 41) := ⟨⟨by decide +kernel, by decide +kernel⟩, lw_t5 (List.mem_of_getElem? (i := 187) rfl), lw_t7 (List.mem_of_getElem? (i := 100) rfl), lw_t7 (List.mem_of_getElem? (i := 101) rfl)⟩
theorem lw_p99 : lw_okq (⟨"EdgeWalkModel", "marginOf", "(II)I"⟩, 41) := ⟨⟨by decide +kernel, by decide +kernel⟩, lw_t5 (List.mem_of_getElem? (i := 187) rfl), lw_t7 (List.mem_of_getElem? (i := 104) rfl), lw_t7 (List.mem_of_getElem? (i := 105) rfl)⟩
theorem lw_p100 : lw_okq (⟨"EdgeWalkModel", "isStone", "(I)Z"⟩, 41) := ⟨⟨by decide +kernel, by decide +kernel⟩, lw_t5 (List.mem_of_getElem? (i := 187) rfl), lw_t7 (List.mem_of_getElem? (i := 108) rfl), lw_t7 (List.mem_of_getElem? (i := 109) rfl)⟩
theorem lw_p101 : lw_okq (⟨"EdgeWalkModel", "summedBy", "(I)J"⟩, 41) := ⟨⟨by decide +kernel, by decide +kernel⟩, lw_t5 (List.mem_of_getElem? (i := 187) rfl), lw_t7 (List.mem_of_getElem? (i := 112) rfl), lw_t7 (List.mem_of_getElem? (i := 113) rfl)⟩
theorem lw_p102 : lw_okq (⟨"EdgeWalkModel", "reckons", "(III)J"⟩, 41) := ⟨⟨by decide +kernel, by decide +kernel⟩, lw_t5 (List.mem_of_getElem? (i := 187) rfl), lw_t7 (List.mem_of_getElem? (i := 116) rfl), lw_t7 (List.mem_of_getElem? (i := 117) rfl)⟩
theorem lw_p103 : lw_okq (⟨"EdgeWalkModel", "push", "(J)V"⟩, 41) := ⟨⟨by decide +kernel, by decide +kernel⟩, lw_t5 (List.mem_of_getElem? (i := 187) rfl), lw_t7 (List.mem_of_getElem? (i := 120) rfl), lw_t7 (List.mem_of_getElem? (i := 121) rfl)⟩
theorem lw_p104 : lw_okq (⟨"EdgeWalkModel", "pop", "()J"⟩, 41) := ⟨⟨by decide +kernel, by decide +kernel⟩, lw_t5 (List.mem_of_getElem? (i := 187) rfl), lw_t7 (List.mem_of_getElem? (i := 124) rfl), lw_t7 (List.mem_of_getElem? (i := 125) rfl)⟩
theorem lw_p105 : lw_okq (⟨"EdgeWalkModel", "placeAlong", "(II)I"⟩, 41) := ⟨⟨by decide +kernel, by decide +kernel⟩, lw_t5 (List.mem_of_getElem? (i := 187) rfl), lw_t7 (List.mem_of_getElem? (i := 131) rfl), lw_t7 (List.mem_of_getElem? (i := 132) rfl)⟩
theorem lw_p106 : lw_okq (⟨"EdgeWalkModel", "goesOut", "(I)V"⟩, 41) := ⟨⟨by decide +kernel, by decide +kernel⟩, lw_t5 (List.mem_of_getElem? (i := 187) rfl), lw_t7 (List.mem_of_getElem? (i := 135) rfl), lw_t7 (List.mem_of_getElem? (i := 136) rfl)⟩
theorem lw_p107 : lw_okq (⟨"EdgeWalkModel", "comesOn", "(I)V"⟩, 41) := ⟨⟨by decide +kernel, by decide +kernel⟩, lw_t5 (List.mem_of_getElem? (i := 187) rfl), lw_t7 (List.mem_of_getElem? (i := 139) rfl), lw_t7 (List.mem_of_getElem? (i := 140) rfl)⟩
theorem lw_p108 : lw_okq (⟨"EdgeWalkModel", "cellAt", "(II)I"⟩, 41) := ⟨⟨by decide +kernel, by decide +kernel⟩, lw_t5 (List.mem_of_getElem? (i := 187) rfl), lw_t7 (List.mem_of_getElem? (i := 143) rfl), lw_t7 (List.mem_of_getElem? (i := 144) rfl)⟩
theorem lw_p109 : lw_okq (⟨"EdgeWalkModel", "onesWhoAre", "(I)I"⟩, 41) := ⟨⟨by decide +kernel, by decide +kernel⟩, lw_t5 (List.mem_of_getElem? (i := 187) rfl), lw_t7 (List.mem_of_getElem? (i := 147) rfl), lw_t7 (List.mem_of_getElem? (i := 148) rfl)⟩
theorem lw_p110 : lw_okq (⟨"EdgeWalkModel", "keeps", "()V"⟩, 41) := ⟨⟨by decide +kernel, by decide +kernel⟩, lw_t5 (List.mem_of_getElem? (i := 187) rfl), lw_t7 (List.mem_of_getElem? (i := 174) rfl), lw_t7 (List.mem_of_getElem? (i := 175) rfl)⟩
theorem lw_p111 : lw_okq (⟨"EdgeWalkModel", "passesAll", "(I)V"⟩, 41) := ⟨⟨by decide +kernel, by decide +kernel⟩, lw_t5 (List.mem_of_getElem? (i := 187) rfl), lw_t7 (List.mem_of_getElem? (i := 178) rfl), lw_t7 (List.mem_of_getElem? (i := 179) rfl)⟩
def lw_privs_7 : List (MethodName × Nat) := [(⟨"EdgeWalkModel", "walks", "(I)V"⟩, 41), (⟨"EdgeWalkModel", "quartersOf", "(I)I"⟩, 41), (⟨"EdgeWalkModel", "nextOf", "(II)I"⟩, 41), (⟨"EdgeWalkModel", "marginOf", "(II)I"⟩, 41), (⟨"EdgeWalkModel", "isStone", "(I)Z"⟩, 41), (⟨"EdgeWalkModel", "summedBy", "(I)J"⟩, 41), (⟨"EdgeWalkModel", "reckons", "(III)J"⟩, 41), (⟨"EdgeWalkModel", "push", "(J)V"⟩, 41), (⟨"EdgeWalkModel", "pop", "()J"⟩, 41), (⟨"EdgeWalkModel", "placeAlong", "(II)I"⟩, 41), (⟨"EdgeWalkModel", "goesOut", "(I)V"⟩, 41), (⟨"EdgeWalkModel", "comesOn", "(I)V"⟩, 41), (⟨"EdgeWalkModel", "cellAt", "(II)I"⟩, 41), (⟨"EdgeWalkModel", "onesWhoAre", "(I)I"⟩, 41), (⟨"EdgeWalkModel", "keeps", "()V"⟩, 41), (⟨"EdgeWalkModel", "passesAll", "(I)V"⟩, 41)]
theorem lw_r7 : ∀ q ∈ lw_privs_7, lw_okq q := List.forall_mem_cons.mpr ⟨lw_p96, List.forall_mem_cons.mpr ⟨lw_p97, List.forall_mem_cons.mpr ⟨lw_p98, List.forall_mem_cons.mpr ⟨lw_p99, List.forall_mem_cons.mpr ⟨lw_p100, List.forall_mem_cons.mpr ⟨lw_p101, List.forall_mem_cons.mpr ⟨lw_p102, List.forall_mem_cons.mpr ⟨lw_p103, List.forall_mem_cons.mpr ⟨lw_p104, List.forall_mem_cons.mpr ⟨lw_p105, List.forall_mem_cons.mpr ⟨lw_p106, List.forall_mem_cons.mpr ⟨lw_p107, List.forall_mem_cons.mpr ⟨lw_p108, List.forall_mem_cons.mpr ⟨lw_p109, List.forall_mem_cons.mpr ⟨lw_p110, List.forall_mem_cons.mpr ⟨lw_p111, fun _ h => absurd h List.not_mem_nil⟩⟩⟩⟩⟩⟩⟩⟩⟩⟩⟩⟩⟩⟩⟩⟩
theorem lw_p112 : lw_okq (⟨"EdgeWalkModel", "laysBack", "()V"⟩, 41) := ⟨⟨by decide +kernel, by decide +kernel⟩, lw_t5 (List.mem_of_getElem? (i := 187) rfl), lw_t7 (List.mem_of_getElem? (i := 182) rfl), lw_t7 (List.mem_of_getElem? (i := 183) rfl)⟩
theorem lw_p113 : lw_okq (⟨"EdgeWalkModel", "goesFrom", "(II)Z"⟩, 41) := ⟨⟨by decide +kernel, by decide +kernel⟩, lw_t5 (List.mem_of_getElem? (i := 187) rfl), lw_t7 (List.mem_of_getElem? (i := 206) rfl), lw_t7 (List.mem_of_getElem? (i := 207) rfl)⟩
theorem lw_p114 : lw_okq (⟨"EdgeWalkModel", "nears", "(II)Z"⟩, 41) := ⟨⟨by decide +kernel, by decide +kernel⟩, lw_t5 (List.mem_of_getElem? (i := 187) rfl), lw_t7 (List.mem_of_getElem? (i := 210) rfl), lw_t7 (List.mem_of_getElem? (i := 211) rfl)⟩
theorem lw_p115 : lw_okq (⟨"EdgeWalkModel", "weighs", "(II)V"⟩, 41) := ⟨⟨by decide +kernel, by decide +kernel⟩, lw_t5 (List.mem_of_getElem? (i := 187) rfl), lw_t7 (List.mem_of_getElem? (i := 227) rfl), lw_t7 (List.mem_of_getElem? (i := 228) rfl)⟩
theorem lw_p116 : lw_okq (⟨"EdgeWalkModel", "foodAll", "()I"⟩, 41) := ⟨⟨by decide +kernel, by decide +kernel⟩, lw_t5 (List.mem_of_getElem? (i := 187) rfl), lw_t7 (List.mem_of_getElem? (i := 234) rfl), lw_t7 (List.mem_of_getElem? (i := 235) rfl)⟩
theorem lw_p117 : lw_okq (⟨"EdgeWalkModel", "isRest", "(II)Z"⟩, 41) := ⟨⟨by decide +kernel, by decide +kernel⟩, lw_t5 (List.mem_of_getElem? (i := 187) rfl), lw_t8 (List.mem_of_getElem? (i := 6) rfl), lw_t8 (List.mem_of_getElem? (i := 7) rfl)⟩
theorem lw_p118 : lw_okq (⟨"EdgeWalkModel", "whereOf", "(I)I"⟩, 41) := ⟨⟨by decide +kernel, by decide +kernel⟩, lw_t5 (List.mem_of_getElem? (i := 187) rfl), lw_t8 (List.mem_of_getElem? (i := 14) rfl), lw_t8 (List.mem_of_getElem? (i := 15) rfl)⟩
theorem lw_p119 : lw_okq (⟨"EdgeWalkModel", "areAlike", "(II)Z"⟩, 41) := ⟨⟨by decide +kernel, by decide +kernel⟩, lw_t5 (List.mem_of_getElem? (i := 187) rfl), lw_t8 (List.mem_of_getElem? (i := 18) rfl), lw_t8 (List.mem_of_getElem? (i := 19) rfl)⟩
theorem lw_p120 : lw_okq (⟨"EdgeWalkModel", "shortOf", "(I)I"⟩, 41) := ⟨⟨by decide +kernel, by decide +kernel⟩, lw_t5 (List.mem_of_getElem? (i := 187) rfl), lw_t8 (List.mem_of_getElem? (i := 27) rfl), lw_t8 (List.mem_of_getElem? (i := 28) rfl)⟩
theorem lw_p121 : lw_okq (⟨"EdgeWalkModel", "fillsFits", "(I)V"⟩, 41) := ⟨⟨by decide +kernel, by decide +kernel⟩, lw_t5 (List.mem_of_getElem? (i := 187) rfl), lw_t8 (List.mem_of_getElem? (i := 40) rfl), lw_t8 (List.mem_of_getElem? (i := 41) rfl)⟩
theorem lw_p122 : lw_okq (⟨"EdgeWalkModel", "areAllSo", "(II)Z"⟩, 41) := ⟨⟨by decide +kernel, by decide +kernel⟩, lw_t5 (List.mem_of_getElem? (i := 187) rfl), lw_t8 (List.mem_of_getElem? (i := 44) rfl), lw_t8 (List.mem_of_getElem? (i := 45) rfl)⟩
theorem lw_p123 : lw_okq (⟨"EdgeWalkModel", "areNotesSo", "(I)Z"⟩, 41) := ⟨⟨by decide +kernel, by decide +kernel⟩, lw_t5 (List.mem_of_getElem? (i := 187) rfl), lw_t8 (List.mem_of_getElem? (i := 48) rfl), lw_t8 (List.mem_of_getElem? (i := 49) rfl)⟩
theorem lw_p124 : lw_okq (⟨"EdgeWalkModel", "cellOn", "(I)I"⟩, 41) := ⟨⟨by decide +kernel, by decide +kernel⟩, lw_t5 (List.mem_of_getElem? (i := 187) rfl), lw_t8 (List.mem_of_getElem? (i := 52) rfl), lw_t8 (List.mem_of_getElem? (i := 53) rfl)⟩
theorem lw_p125 : lw_okq (⟨"EdgeWalkModel", "alikeAt", "(I)I"⟩, 41) := ⟨⟨by decide +kernel, by decide +kernel⟩, lw_t5 (List.mem_of_getElem? (i := 187) rfl), lw_t8 (List.mem_of_getElem? (i := 60) rfl), lw_t8 (List.mem_of_getElem? (i := 61) rfl)⟩
theorem lw_p126 : lw_okq (⟨"EdgeWalkModel", "draw", "(I)I"⟩, 41) := ⟨⟨by decide +kernel, by decide +kernel⟩, lw_t5 (List.mem_of_getElem? (i := 187) rfl), lw_t8 (List.mem_of_getElem? (i := 78) rfl), lw_t8 (List.mem_of_getElem? (i := 79) rfl)⟩
theorem lw_p127 : lw_okq (⟨"EdgeWalkModel", "blows", "()V"⟩, 41) := ⟨⟨by decide +kernel, by decide +kernel⟩, lw_t5 (List.mem_of_getElem? (i := 187) rfl), lw_t8 (List.mem_of_getElem? (i := 86) rfl), lw_t8 (List.mem_of_getElem? (i := 87) rfl)⟩
def lw_privs_8 : List (MethodName × Nat) := [(⟨"EdgeWalkModel", "laysBack", "()V"⟩, 41), (⟨"EdgeWalkModel", "goesFrom", "(II)Z"⟩, 41), (⟨"EdgeWalkModel", "nears", "(II)Z"⟩, 41), (⟨"EdgeWalkModel", "weighs", "(II)V"⟩, 41), (⟨"EdgeWalkModel", "foodAll", "()I"⟩, 41), (⟨"EdgeWalkModel", "isRest", "(II)Z"⟩, 41), (⟨"EdgeWalkModel", "whereOf", "(I)I"⟩, 41), (⟨"EdgeWalkModel", "areAlike", "(II)Z"⟩, 41), (⟨"EdgeWalkModel", "shortOf", "(I)I"⟩, 41), (⟨"EdgeWalkModel", "fillsFits", "(I)V"⟩, 41), (⟨"EdgeWalkModel", "areAllSo", "(II)Z"⟩, 41), (⟨"EdgeWalkModel", "areNotesSo", "(I)Z"⟩, 41), (⟨"EdgeWalkModel", "cellOn", "(I)I"⟩, 41), (⟨"EdgeWalkModel", "alikeAt", "(I)I"⟩, 41), (⟨"EdgeWalkModel", "draw", "(I)I"⟩, 41), (⟨"EdgeWalkModel", "blows", "()V"⟩, 41)]
theorem lw_r8 : ∀ q ∈ lw_privs_8, lw_okq q := List.forall_mem_cons.mpr ⟨lw_p112, List.forall_mem_cons.mpr ⟨lw_p113, List.forall_mem_cons.mpr ⟨lw_p114, List.forall_mem_cons.mpr ⟨lw_p115, List.forall_mem_cons.mpr ⟨lw_p116, List.forall_mem_cons.mpr ⟨lw_p117, List.forall_mem_cons.mpr ⟨lw_p118, List.forall_mem_cons.mpr ⟨lw_p119, List.forall_mem_cons.mpr ⟨lw_p120, List.forall_mem_cons.mpr ⟨lw_p121, List.forall_mem_cons.mpr ⟨lw_p122, List.forall_mem_cons.mpr ⟨lw_p123, List.forall_mem_cons.mpr ⟨lw_p124, List.forall_mem_cons.mpr ⟨lw_p125, List.forall_mem_cons.mpr ⟨lw_p126, List.forall_mem_cons.mpr ⟨lw_p127, fun _ h => absurd h List.not_mem_nil⟩⟩⟩⟩⟩⟩⟩⟩⟩⟩⟩⟩⟩⟩⟩⟩
def lw_privs : List (MethodName × Nat) := lw_privs_1 ++ (lw_privs_2 ++ (lw_privs_3 ++ (lw_privs_4 ++ (lw_privs_5 ++ (lw_privs_6 ++ (lw_privs_7 ++ (lw_privs_8)))))))
def lw_tbl : List Cond := k2_sels lw_privs ++ tables_1
theorem lw_privs_ok : ∀ q ∈ lw_privs, lw_okq q := by
  show ∀ q ∈ lw_privs_1 ++ (lw_privs_2 ++ (lw_privs_3 ++ (lw_privs_4 ++ (lw_privs_5 ++ (lw_privs_6 ++ (lw_privs_7 ++ (lw_privs_8))))))), lw_okq q
  exact List.forall_mem_append.mpr ⟨lw_r1, List.forall_mem_append.mpr ⟨lw_r2, List.forall_mem_append.mpr ⟨lw_r3, List.forall_mem_append.mpr ⟨lw_r4, List.forall_mem_append.mpr ⟨lw_r5, List.forall_mem_append.mpr ⟨lw_r6, List.forall_mem_append.mpr ⟨lw_r7, lw_r8⟩⟩⟩⟩⟩⟩⟩
-- ===== ONE list of words for every method: the tables' words that hold all through a run =====
def lw_all : List Cond := lw_tbl.filter goodWord
/-- a word of the tables by its place: claim/WORDS.tsv -/
theorem lw_w {w : Cond} (i : Nat) (h : lw_tbl[i]? = some w) (g : goodWord w = true) : w ∈ lw_all := List.mem_filter.mpr ⟨List.mem_of_getElem? h, g⟩
theorem lw_all_tbl {w : Cond} (h : w ∈ lw_all) : w ∈ lw_tbl := (List.mem_filter.mp h).1
theorem lw_self : GoodIn lw_all lw_all := fun w h => ⟨h, good_of_word (List.mem_filter.mp h).2⟩
/-- a class's field words, by their places -/
theorem lw_in (ws : List Cond) (ps : List Nat) (hp : ws = ps.filterMap (fun i => lw_tbl[i]?)) (hg : ws.all goodWord = true) : ∀ w ∈ ws, w ∈ lw_all := by
  intro w h
  have h1 := List.all_eq_true.mp hg w h
  rw [hp] at h
  obtain ⟨i, -, hi⟩ := List.mem_filterMap.mp h
  exact lw_w i hi h1
/-- the words of a contract for the method y with code b, L locals, answer r -/
abbrev ws_ (y : MethodName) (b : ByteArray) (L : Nat) (r : Option FieldType) : List Cond := Cond.code y b L r :: lw_all
theorem lw_meth {y : MethodName} {b : ByteArray} {L : Nat} {r : Option FieldType} (h : Cond.code y b L r ∈ lw_all) : GoodIn lw_all (ws_ y b L r) := by
  intro w hw
  rcases List.mem_cons.mp hw with e | e
  · rw [e]
    exact lw_self _ h
  · exact lw_self _ e
theorem lw_app {a c : List Cond} (ha : ∀ w ∈ a, w ∈ lw_all) (hc : GoodIn lw_all c) : GoodIn lw_all (a ++ c) := by
  intro w hw
  rcases List.mem_append.mp hw with e | e
  · exact lw_self w (ha w e)
  · exact hc w e
/-- what a call through an object asks: cwV n hts (lw_V ..) -/
theorem lw_V {own : String} {idx : Nat} {C : String} {y : MethodName} {b : ByteArray} {L : Nat} {r : Option FieldType} (h1 : Cond.methodLink own idx y ∈ lw_all) (h2 : Cond.instanceMethod y ∈ lw_all) (h3 : Cond.selects C y y ∈ lw_all) (h4 : Cond.initialized C ∈ lw_all) (h5 : Cond.code y b L r ∈ lw_all) : GoodIn lw_all (wsV own idx C y (ws_ y b L r)) := by
  refine lw_app ?_ (lw_meth h5)
  intro w hw
  simp only [List.mem_cons, List.not_mem_nil, or_false] at hw
  rcases hw with e | e | e | e
  · rw [e]; exact h1
  · rw [e]; exact h2
  · rw [e]; exact h3
  · rw [e]; exact h4
/-- what a static call asks: va_cwS n hts (lw_S ..) -/
theorem lw_S {own : String} {idx : Nat} {y : MethodName} {b : ByteArray} {L : Nat} {r : Option FieldType} (h1 : Cond.methodLink own idx y ∈ lw_all) (h2 : Cond.static y ∈ lw_all) (h3 : Cond.initialized y.cls ∈ lw_all) (h4 : Cond.code y b L r ∈ lw_all) : GoodIn lw_all (va_wsS own idx y (ws_ y b L r)) := by
  refine lw_app ?_ (lw_meth h4)
  intro w hw
  simp only [List.mem_cons, List.not_mem_nil, or_false] at hw
  rcases hw with e | e | e
  · rw [e]; exact h1
  · rw [e]; exact h2
  · rw [e]; exact h3
/-- the words of a contract for a method WITH HANDLERS (hh: its table) -/
abbrev wsW_ (y : MethodName) (b : ByteArray) (L : Nat) (r : Option FieldType) (hh : List (Nat × Nat × Nat × Nat)) : List Cond := Cond.codeWith y b L r hh :: lw_all
theorem lw_methW {y : MethodName} {b : ByteArray} {L : Nat} {r : Option FieldType} {hh : List (Nat × Nat × Nat × Nat)} (h : Cond.codeWith y b L r hh ∈ lw_all) : GoodIn lw_all (wsW_ y b L r hh) := by
  intro w hw
  rcases List.mem_cons.mp hw with e | e
  · rw [e]
    exact lw_self _ h
  · exact lw_self _ e
/-- any list of words by their places (lw_in), good -/
theorem lw_good {ws : List Cond} (h : ∀ w ∈ ws, w ∈ lw_all) : GoodIn lw_all ws := fun w hw => lw_self w (h w hw)
/-- what a call of a method with handlers asks: vx_cwVW n hts (lw_VW ..), vx_cwSW n hts (lw_SW ..) -/
theorem lw_VW {own : String} {idx : Nat} {C : String} {y : MethodName} {b : ByteArray} {L : Nat} {r : Option FieldType} {hh : List (Nat × Nat × Nat × Nat)} (h1 : Cond.methodLink own idx y ∈ lw_all) (h2 : Cond.instanceMethod y ∈ lw_all) (h3 : Cond.selects C y y ∈ lw_all) (h4 : Cond.initialized C ∈ lw_all) (h5 : Cond.codeWith y b L r hh ∈ lw_all) : GoodIn lw_all (wsV own idx C y (wsW_ y b L r hh)) := by
  refine lw_app ?_ (lw_methW h5)
  intro w hw
  simp only [List.mem_cons, List.not_mem_nil, or_false] at hw
  rcases hw with e | e | e | e
  · rw [e]; exact h1
  · rw [e]; exact h2
  · rw [e]; exact h3
  · rw [e]; exact h4
theorem lw_SW {own : String} {idx : Nat} {y : MethodName} {b : ByteArray} {L : Nat} {r : Option FieldType} {hh : List (Nat × Nat × Nat × Nat)} (h1 : Cond.methodLink own idx y ∈ lw_all) (h2 : Cond.static y ∈ lw_all) (h3 : Cond.initialized y.cls ∈ lw_all) (h4 : Cond.codeWith y b L r hh ∈ lw_all) : GoodIn lw_all (va_wsS own idx y (wsW_ y b L r hh)) := by
  refine lw_app ?_ (lw_methW h4)
  intro w hw
  simp only [List.mem_cons, List.not_mem_nil, or_false] at hw
  rcases hw with e | e | e
  · rw [e]; exact h1
  · rw [e]; exact h2
  · rw [e]; exact h3
/-- a word by its place in its run of the tables -/
theorem lw_at {r : List Cond} (hr : ∀ w ∈ r, w ∈ lw_tbl) {w : Cond} (i : Nat) (h : r[i]? = some w) : w ∈ lw_tbl := hr w (List.mem_of_getElem? h)
theorem lw_g {w : Cond} (h : w ∈ lw_tbl) (g : goodWord w = true) : w ∈ lw_all := List.mem_filter.mpr ⟨h, g⟩
theorem lw_ms : ∀ w ∈ k2_sels lw_privs, w ∈ lw_tbl := fun w h => show w ∈ k2_sels lw_privs ++ tables_1 from List.mem_append_left _ h
theorem lw_m1 : ∀ w ∈ tables_1_1, w ∈ lw_tbl := fun w h => show w ∈ k2_sels lw_privs ++ tables_1 from List.mem_append_right (k2_sels lw_privs) (show w ∈ tables_1 from List.mem_append_left _ h)
theorem lw_m2 : ∀ w ∈ tables_1_2, w ∈ lw_tbl := fun w h => show w ∈ k2_sels lw_privs ++ tables_1 from List.mem_append_right (k2_sels lw_privs) (show w ∈ tables_1 from List.mem_append_right _ (List.mem_append_left _ h))
theorem lw_m3 : ∀ w ∈ tables_1_3, w ∈ lw_tbl := fun w h => show w ∈ k2_sels lw_privs ++ tables_1 from List.mem_append_right (k2_sels lw_privs) (show w ∈ tables_1 from List.mem_append_right _ (List.mem_append_right _ (List.mem_append_left _ h)))
theorem lw_m4 : ∀ w ∈ tables_1_4, w ∈ lw_tbl := fun w h => show w ∈ k2_sels lw_privs ++ tables_1 from List.mem_append_right (k2_sels lw_privs) (show w ∈ tables_1 from List.mem_append_right _ (List.mem_append_right _ (List.mem_append_right _ (List.mem_append_left _ h))))
theorem lw_m5 : ∀ w ∈ tables_1_5, w ∈ lw_tbl := fun w h => show w ∈ k2_sels lw_privs ++ tables_1 from List.mem_append_right (k2_sels lw_privs) (show w ∈ tables_1 from List.mem_append_right _ (List.mem_append_right _ (List.mem_append_right _ (List.mem_append_right _ (List.mem_append_left _ h)))))
theorem lw_m6 : ∀ w ∈ tables_1_6, w ∈ lw_tbl := fun w h => show w ∈ k2_sels lw_privs ++ tables_1 from List.mem_append_right (k2_sels lw_privs) (show w ∈ tables_1 from List.mem_append_right _ (List.mem_append_right _ (List.mem_append_right _ (List.mem_append_right _ (List.mem_append_right _ (List.mem_append_left _ h))))))
theorem lw_m7 : ∀ w ∈ tables_1_7, w ∈ lw_tbl := fun w h => show w ∈ k2_sels lw_privs ++ tables_1 from List.mem_append_right (k2_sels lw_privs) (show w ∈ tables_1 from List.mem_append_right _ (List.mem_append_right _ (List.mem_append_right _ (List.mem_append_right _ (List.mem_append_right _ (List.mem_append_right _ (List.mem_append_left _ h)))))))
theorem lw_m8 : ∀ w ∈ tables_1_8, w ∈ lw_tbl := fun w h => show w ∈ k2_sels lw_privs ++ tables_1 from List.mem_append_right (k2_sels lw_privs) (show w ∈ tables_1 from List.mem_append_right _ (List.mem_append_right _ (List.mem_append_right _ (List.mem_append_right _ (List.mem_append_right _ (List.mem_append_right _ (List.mem_append_right _ h)))))))
theorem qs0 : (Cond.selects "java/lang/Throwable" ⟨"java/lang/Throwable", "fillInStackTrace", "(I)Ljava/lang/Throwable;"⟩ ⟨"java/lang/Throwable", "fillInStackTrace", "(I)Ljava/lang/Throwable;"⟩) ∈ lw_all := lw_g (lw_at lw_ms 0 rfl) rfl
theorem qs1 : (Cond.selects "EdgeWalk" ⟨"EdgeWalk", "put", "(I)V"⟩ ⟨"EdgeWalk", "put", "(I)V"⟩) ∈ lw_all := lw_g (lw_at lw_ms 1 rfl) rfl
theorem qs2 : (Cond.selects "EdgeWalk$Parser" ⟨"EdgeWalk$Parser", "clause", "(LEdgeWalk$Sheet;)V"⟩ ⟨"EdgeWalk$Parser", "clause", "(LEdgeWalk$Sheet;)V"⟩) ∈ lw_all := lw_g (lw_at lw_ms 2 rfl) rfl
theorem qs3 : (Cond.selects "EdgeWalk$Parser" ⟨"EdgeWalk$Parser", "begins", "(Ljava/lang/String;Z)Z"⟩ ⟨"EdgeWalk$Parser", "begins", "(Ljava/lang/String;Z)Z"⟩) ∈ lw_all := lw_g (lw_at lw_ms 3 rfl) rfl
theorem qs4 : (Cond.selects "EdgeWalk$Parser" ⟨"EdgeWalk$Parser", "isWord", "(Ljava/lang/String;)Z"⟩ ⟨"EdgeWalk$Parser", "isWord", "(Ljava/lang/String;)Z"⟩) ∈ lw_all := lw_g (lw_at lw_ms 4 rfl) rfl
theorem qs5 : (Cond.selects "EdgeWalk$Parser" ⟨"EdgeWalk$Parser", "next", "()I"⟩ ⟨"EdgeWalk$Parser", "next", "()I"⟩) ∈ lw_all := lw_g (lw_at lw_ms 5 rfl) rfl
theorem qs6 : (Cond.selects "EdgeWalk$Parser" ⟨"EdgeWalk$Parser", "sign", "()I"⟩ ⟨"EdgeWalk$Parser", "sign", "()I"⟩) ∈ lw_all := lw_g (lw_at lw_ms 6 rfl) rfl
theorem qs7 : (Cond.selects "EdgeWalk" ⟨"EdgeWalk", "fails", "(II)LEdgeWalk$Wrong;"⟩ ⟨"EdgeWalk", "fails", "(II)LEdgeWalk$Wrong;"⟩) ∈ lw_all := lw_g (lw_at lw_ms 7 rfl) rfl
theorem qs8 : (Cond.selects "EdgeWalk$Parser" ⟨"EdgeWalk$Parser", "number", "(II)I"⟩ ⟨"EdgeWalk$Parser", "number", "(II)I"⟩) ∈ lw_all := lw_g (lw_at lw_ms 8 rfl) rfl
theorem qs9 : (Cond.selects "EdgeWalk$Parser" ⟨"EdgeWalk$Parser", "isDigit", "()Z"⟩ ⟨"EdgeWalk$Parser", "isDigit", "()Z"⟩) ∈ lw_all := lw_g (lw_at lw_ms 9 rfl) rfl
theorem qs10 : (Cond.selects "EdgeWalk$Parser" ⟨"EdgeWalk$Parser", "goer", "(LEdgeWalk$Sheet;)V"⟩ ⟨"EdgeWalk$Parser", "goer", "(LEdgeWalk$Sheet;)V"⟩) ∈ lw_all := lw_g (lw_at lw_ms 10 rfl) rfl
theorem qs11 : (Cond.selects "java/util/ArrayList" ⟨"java/util/ArrayList", "add", "(Ljava/lang/Object;[Ljava/lang/Object;I)V"⟩ ⟨"java/util/ArrayList", "add", "(Ljava/lang/Object;[Ljava/lang/Object;I)V"⟩) ∈ lw_all := lw_g (lw_at lw_ms 11 rfl) rfl
theorem qs12 : (Cond.selects "java/util/ArrayList" ⟨"java/util/ArrayList", "grow", "()[Ljava/lang/Object;"⟩ ⟨"java/util/ArrayList", "grow", "()[Ljava/lang/Object;"⟩) ∈ lw_all := lw_g (lw_at lw_ms 12 rfl) rfl
theorem qs13 : (Cond.selects "java/util/ArrayList" ⟨"java/util/ArrayList", "grow", "(I)[Ljava/lang/Object;"⟩ ⟨"java/util/ArrayList", "grow", "(I)[Ljava/lang/Object;"⟩) ∈ lw_all := lw_g (lw_at lw_ms 13 rfl) rfl
theorem qs14 : (Cond.selects "EdgeWalk$Parser" ⟨"EdgeWalk$Parser", "join", "(LEdgeWalk$Sheet;)V"⟩ ⟨"EdgeWalk$Parser", "join", "(LEdgeWalk$Sheet;)V"⟩) ∈ lw_all := lw_g (lw_at lw_ms 14 rfl) rfl
theorem qs15 : (Cond.selects "EdgeWalk$Parser" ⟨"EdgeWalk$Parser", "goesOn", "()Z"⟩ ⟨"EdgeWalk$Parser", "goesOn", "()Z"⟩) ∈ lw_all := lw_g (lw_at lw_ms 15 rfl) rfl
theorem qs16 : (Cond.selects "EdgeWalk$Parser" ⟨"EdgeWalk$Parser", "clause", "(LEdgeWalk$Rule;)V"⟩ ⟨"EdgeWalk$Parser", "clause", "(LEdgeWalk$Rule;)V"⟩) ∈ lw_all := lw_g (lw_at lw_ms 16 rfl) rfl
theorem qs17 : (Cond.selects "EdgeWalk$Parser" ⟨"EdgeWalk$Parser", "sum", "()LEdgeWalk$Value;"⟩ ⟨"EdgeWalk$Parser", "sum", "()LEdgeWalk$Value;"⟩) ∈ lw_all := lw_g (lw_at lw_ms 17 rfl) rfl
theorem qs18 : (Cond.selects "EdgeWalk$Parser" ⟨"EdgeWalk$Parser", "term", "()LEdgeWalk$Value;"⟩ ⟨"EdgeWalk$Parser", "term", "()LEdgeWalk$Value;"⟩) ∈ lw_all := lw_g (lw_at lw_ms 18 rfl) rfl
theorem qs19 : (Cond.selects "EdgeWalk$Parser" ⟨"EdgeWalk$Parser", "value", "()LEdgeWalk$Value;"⟩ ⟨"EdgeWalk$Parser", "value", "()LEdgeWalk$Value;"⟩) ∈ lw_all := lw_g (lw_at lw_ms 19 rfl) rfl
theorem qs20 : (Cond.selects "EdgeWalk$Parser" ⟨"EdgeWalk$Parser", "counts", "(I)V"⟩ ⟨"EdgeWalk$Parser", "counts", "(I)V"⟩) ∈ lw_all := lw_g (lw_at lw_ms 20 rfl) rfl
theorem qs21 : (Cond.selects "EdgeWalk$Parser" ⟨"EdgeWalk$Parser", "takes", "(Ljava/lang/String;)Z"⟩ ⟨"EdgeWalk$Parser", "takes", "(Ljava/lang/String;)Z"⟩) ∈ lw_all := lw_g (lw_at lw_ms 21 rfl) rfl
theorem qs22 : (Cond.selects "EdgeWalk$Parser" ⟨"EdgeWalk$Parser", "test", "()LEdgeWalk$Condition;"⟩ ⟨"EdgeWalk$Parser", "test", "()LEdgeWalk$Condition;"⟩) ∈ lw_all := lw_g (lw_at lw_ms 22 rfl) rfl
theorem qs23 : (Cond.selects "EdgeWalk$Parser" ⟨"EdgeWalk$Parser", "part", "()LEdgeWalk$Condition;"⟩ ⟨"EdgeWalk$Parser", "part", "()LEdgeWalk$Condition;"⟩) ∈ lw_all := lw_g (lw_at lw_ms 23 rfl) rfl
theorem qs24 : (Cond.selects "EdgeWalk$Parser" ⟨"EdgeWalk$Parser", "fact", "()LEdgeWalk$Condition;"⟩ ⟨"EdgeWalk$Parser", "fact", "()LEdgeWalk$Condition;"⟩) ∈ lw_all := lw_g (lw_at lw_ms 24 rfl) rfl
theorem qs25 : (Cond.selects "EdgeWalk$Parser" ⟨"EdgeWalk$Parser", "goesDeeper", "(I)V"⟩ ⟨"EdgeWalk$Parser", "goesDeeper", "(I)V"⟩) ∈ lw_all := lw_g (lw_at lw_ms 25 rfl) rfl
theorem qs26 : (Cond.selects "EdgeWalk" ⟨"EdgeWalk", "isGoer", "(I)Z"⟩ ⟨"EdgeWalk", "isGoer", "(I)Z"⟩) ∈ lw_all := lw_g (lw_at lw_ms 26 rfl) rfl
theorem qs27 : (Cond.selects "EdgeWalk" ⟨"EdgeWalk", "isSheet", "()Z"⟩ ⟨"EdgeWalk", "isSheet", "()Z"⟩) ∈ lw_all := lw_g (lw_at lw_ms 27 rfl) rfl
theorem qs28 : (Cond.selects "EdgeWalk" ⟨"EdgeWalk", "isCell", "(I)Z"⟩ ⟨"EdgeWalk", "isCell", "(I)Z"⟩) ∈ lw_all := lw_g (lw_at lw_ms 28 rfl) rfl
theorem qs29 : (Cond.selects "EdgeWalk" ⟨"EdgeWalk", "keeps", "()V"⟩ ⟨"EdgeWalk", "keeps", "()V"⟩) ∈ lw_all := lw_g (lw_at lw_ms 29 rfl) rfl
theorem qs30 : (Cond.selects "EdgeWalk" ⟨"EdgeWalk", "goesOn", "(LEdgeWalk$State;)I"⟩ ⟨"EdgeWalk", "goesOn", "(LEdgeWalk$State;)I"⟩) ∈ lw_all := lw_g (lw_at lw_ms 30 rfl) rfl
theorem qs31 : (Cond.selects "EdgeWalk" ⟨"EdgeWalk", "turnOf", "(LEdgeWalk$State;I)I"⟩ ⟨"EdgeWalk", "turnOf", "(LEdgeWalk$State;I)I"⟩) ∈ lw_all := lw_g (lw_at lw_ms 31 rfl) rfl
theorem qs32 : (Cond.selects "EdgeWalk" ⟨"EdgeWalk", "those", "(LEdgeWalk$State;I)I"⟩ ⟨"EdgeWalk", "those", "(LEdgeWalk$State;I)I"⟩) ∈ lw_all := lw_g (lw_at lw_ms 32 rfl) rfl
theorem qs33 : (Cond.selects "EdgeWalk" ⟨"EdgeWalk", "goesTill", "(I)V"⟩ ⟨"EdgeWalk", "goesTill", "(I)V"⟩) ∈ lw_all := lw_g (lw_at lw_ms 33 rfl) rfl
theorem qs34 : (Cond.selects "EdgeWalk" ⟨"EdgeWalk", "comesNearer", "(II)Z"⟩ ⟨"EdgeWalk", "comesNearer", "(II)Z"⟩) ∈ lw_all := lw_g (lw_at lw_ms 34 rfl) rfl
theorem qs35 : (Cond.selects "EdgeWalk" ⟨"EdgeWalk", "tries", "()V"⟩ ⟨"EdgeWalk", "tries", "()V"⟩) ∈ lw_all := lw_g (lw_at lw_ms 35 rfl) rfl
theorem qs36 : (Cond.selects "EdgeWalk" ⟨"EdgeWalk", "isBetter", "(I)Z"⟩ ⟨"EdgeWalk", "isBetter", "(I)Z"⟩) ∈ lw_all := lw_g (lw_at lw_ms 36 rfl) rfl
theorem qs37 : (Cond.selects "EdgeWalk" ⟨"EdgeWalk", "laysFaces", "(III)V"⟩ ⟨"EdgeWalk", "laysFaces", "(III)V"⟩) ∈ lw_all := lw_g (lw_at lw_ms 37 rfl) rfl
theorem qs38 : (Cond.selects "EdgeWalk" ⟨"EdgeWalk", "isRest", "(I)Z"⟩ ⟨"EdgeWalk", "isRest", "(I)Z"⟩) ∈ lw_all := lw_g (lw_at lw_ms 38 rfl) rfl
theorem qs39 : (Cond.selects "EdgeWalk" ⟨"EdgeWalk", "laysAll", "()V"⟩ ⟨"EdgeWalk", "laysAll", "()V"⟩) ∈ lw_all := lw_g (lw_at lw_ms 39 rfl) rfl
theorem qs40 : (Cond.selects "EdgeWalk" ⟨"EdgeWalk", "areAlike", "(II)Z"⟩ ⟨"EdgeWalk", "areAlike", "(II)Z"⟩) ∈ lw_all := lw_g (lw_at lw_ms 40 rfl) rfl
theorem qs41 : (Cond.selects "EdgeWalk" ⟨"EdgeWalk", "shortOf", "(I)I"⟩ ⟨"EdgeWalk", "shortOf", "(I)I"⟩) ∈ lw_all := lw_g (lw_at lw_ms 41 rfl) rfl
theorem qs42 : (Cond.selects "EdgeWalk" ⟨"EdgeWalk", "couldRule", "(I)Z"⟩ ⟨"EdgeWalk", "couldRule", "(I)Z"⟩) ∈ lw_all := lw_g (lw_at lw_ms 42 rfl) rfl
theorem qs43 : (Cond.selects "EdgeWalk" ⟨"EdgeWalk", "doNotesFit", "()Z"⟩ ⟨"EdgeWalk", "doNotesFit", "()Z"⟩) ∈ lw_all := lw_g (lw_at lw_ms 43 rfl) rfl
theorem qs44 : (Cond.selects "EdgeWalk" ⟨"EdgeWalk", "cellThen", "(II)I"⟩ ⟨"EdgeWalk", "cellThen", "(II)I"⟩) ∈ lw_all := lw_g (lw_at lw_ms 44 rfl) rfl
theorem qs45 : (Cond.selects "EdgeWalk" ⟨"EdgeWalk", "mostAlike", "(II)I"⟩ ⟨"EdgeWalk", "mostAlike", "(II)I"⟩) ∈ lw_all := lw_g (lw_at lw_ms 45 rfl) rfl
theorem qs46 : (Cond.selects "EdgeWalk" ⟨"EdgeWalk", "couldFold", "(I)Z"⟩ ⟨"EdgeWalk", "couldFold", "(I)Z"⟩) ∈ lw_all := lw_g (lw_at lw_ms 46 rfl) rfl
theorem qs47 : (Cond.selects "EdgeWalk" ⟨"EdgeWalk", "drawsGust", "(I)V"⟩ ⟨"EdgeWalk", "drawsGust", "(I)V"⟩) ∈ lw_all := lw_g (lw_at lw_ms 47 rfl) rfl
theorem qs48 : (Cond.selects "EdgeWalk" ⟨"EdgeWalk", "draws", "(I)I"⟩ ⟨"EdgeWalk", "draws", "(I)I"⟩) ∈ lw_all := lw_g (lw_at lw_ms 48 rfl) rfl
theorem qs49 : (Cond.selects "EdgeWalkModel" ⟨"EdgeWalkModel", "four", "(I)V"⟩ ⟨"EdgeWalkModel", "four", "(I)V"⟩) ∈ lw_all := lw_g (lw_at lw_ms 49 rfl) rfl
theorem qs50 : (Cond.selects "EdgeWalkModel" ⟨"EdgeWalkModel", "readsAll", "()Z"⟩ ⟨"EdgeWalkModel", "readsAll", "()Z"⟩) ∈ lw_all := lw_g (lw_at lw_ms 50 rfl) rfl
theorem qs51 : (Cond.selects "EdgeWalkModel" ⟨"EdgeWalkModel", "clauseHere", "()Z"⟩ ⟨"EdgeWalkModel", "clauseHere", "()Z"⟩) ∈ lw_all := lw_g (lw_at lw_ms 51 rfl) rfl
theorem qs52 : (Cond.selects "EdgeWalkModel" ⟨"EdgeWalkModel", "see", "()I"⟩ ⟨"EdgeWalkModel", "see", "()I"⟩) ∈ lw_all := lw_g (lw_at lw_ms 52 rfl) rfl
theorem qs53 : (Cond.selects "EdgeWalkModel" ⟨"EdgeWalkModel", "isSheetWord", "()Z"⟩ ⟨"EdgeWalkModel", "isSheetWord", "()Z"⟩) ∈ lw_all := lw_g (lw_at lw_ms 53 rfl) rfl
theorem qs54 : (Cond.selects "EdgeWalkModel" ⟨"EdgeWalkModel", "isWord", "(J)Z"⟩ ⟨"EdgeWalkModel", "isWord", "(J)Z"⟩) ∈ lw_all := lw_g (lw_at lw_ms 54 rfl) rfl
theorem qs55 : (Cond.selects "EdgeWalkModel" ⟨"EdgeWalkModel", "isLetter", "(I)Z"⟩ ⟨"EdgeWalkModel", "isLetter", "(I)Z"⟩) ∈ lw_all := lw_g (lw_at lw_ms 55 rfl) rfl
theorem qs56 : (Cond.selects "EdgeWalkModel" ⟨"EdgeWalkModel", "fails", "(II)Z"⟩ ⟨"EdgeWalkModel", "fails", "(II)Z"⟩) ∈ lw_all := lw_g (lw_at lw_ms 56 rfl) rfl
theorem qs57 : (Cond.selects "EdgeWalkModel" ⟨"EdgeWalkModel", "sheetLineHere", "(I)Z"⟩ ⟨"EdgeWalkModel", "sheetLineHere", "(I)Z"⟩) ∈ lw_all := lw_g (lw_at lw_ms 57 rfl) rfl
theorem qs58 : (Cond.selects "EdgeWalkModel" ⟨"EdgeWalkModel", "isSheetHere", "(I)Z"⟩ ⟨"EdgeWalkModel", "isSheetHere", "(I)Z"⟩) ∈ lw_all := lw_g (lw_at lw_ms 58 rfl) rfl
theorem qs59 : (Cond.selects "EdgeWalkModel" ⟨"EdgeWalkModel", "passWord", "()V"⟩ ⟨"EdgeWalkModel", "passWord", "()V"⟩) ∈ lw_all := lw_g (lw_at lw_ms 59 rfl) rfl
theorem qs60 : (Cond.selects "EdgeWalkModel" ⟨"EdgeWalkModel", "cellHere", "(III)Z"⟩ ⟨"EdgeWalkModel", "cellHere", "(III)Z"⟩) ∈ lw_all := lw_g (lw_at lw_ms 60 rfl) rfl
theorem qs61 : (Cond.selects "EdgeWalkModel" ⟨"EdgeWalkModel", "numberHere", "(II)Z"⟩ ⟨"EdgeWalkModel", "numberHere", "(II)Z"⟩) ∈ lw_all := lw_g (lw_at lw_ms 61 rfl) rfl
theorem qs62 : (Cond.selects "EdgeWalkModel" ⟨"EdgeWalkModel", "isDigit", "(I)Z"⟩ ⟨"EdgeWalkModel", "isDigit", "(I)Z"⟩) ∈ lw_all := lw_g (lw_at lw_ms 62 rfl) rfl
theorem qs63 : (Cond.selects "EdgeWalkModel" ⟨"EdgeWalkModel", "isGoerHere", "(I)Z"⟩ ⟨"EdgeWalkModel", "isGoerHere", "(I)Z"⟩) ∈ lw_all := lw_g (lw_at lw_ms 63 rfl) rfl
theorem qs64 : (Cond.selects "EdgeWalkModel" ⟨"EdgeWalkModel", "lastCell", "()I"⟩ ⟨"EdgeWalkModel", "lastCell", "()I"⟩) ∈ lw_all := lw_g (lw_at lw_ms 64 rfl) rfl
theorem qs65 : (Cond.selects "EdgeWalkModel" ⟨"EdgeWalkModel", "isJoinHere", "()Z"⟩ ⟨"EdgeWalkModel", "isJoinHere", "()Z"⟩) ∈ lw_all := lw_g (lw_at lw_ms 65 rfl) rfl
theorem qs66 : (Cond.selects "EdgeWalkModel" ⟨"EdgeWalkModel", "isStoneHere", "()Z"⟩ ⟨"EdgeWalkModel", "isStoneHere", "()Z"⟩) ∈ lw_all := lw_g (lw_at lw_ms 66 rfl) rfl
theorem qs67 : (Cond.selects "EdgeWalkModel" ⟨"EdgeWalkModel", "isTurnHere", "()Z"⟩ ⟨"EdgeWalkModel", "isTurnHere", "()Z"⟩) ∈ lw_all := lw_g (lw_at lw_ms 67 rfl) rfl
theorem qs68 : (Cond.selects "EdgeWalkModel" ⟨"EdgeWalkModel", "sum", "()Z"⟩ ⟨"EdgeWalkModel", "sum", "()Z"⟩) ∈ lw_all := lw_g (lw_at lw_ms 68 rfl) rfl
theorem qs69 : (Cond.selects "EdgeWalkModel" ⟨"EdgeWalkModel", "term", "()Z"⟩ ⟨"EdgeWalkModel", "term", "()Z"⟩) ∈ lw_all := lw_g (lw_at lw_ms 69 rfl) rfl
theorem qs70 : (Cond.selects "EdgeWalkModel" ⟨"EdgeWalkModel", "value", "()Z"⟩ ⟨"EdgeWalkModel", "value", "()Z"⟩) ∈ lw_all := lw_g (lw_at lw_ms 70 rfl) rfl
theorem qs71 : (Cond.selects "EdgeWalkModel" ⟨"EdgeWalkModel", "makes", "(I)Z"⟩ ⟨"EdgeWalkModel", "makes", "(I)Z"⟩) ∈ lw_all := lw_g (lw_at lw_ms 71 rfl) rfl
theorem qs72 : (Cond.selects "EdgeWalkModel" ⟨"EdgeWalkModel", "puts", "(II)V"⟩ ⟨"EdgeWalkModel", "puts", "(II)V"⟩) ∈ lw_all := lw_g (lw_at lw_ms 72 rfl) rfl
theorem qs73 : (Cond.selects "EdgeWalkModel" ⟨"EdgeWalkModel", "wordHere", "()I"⟩ ⟨"EdgeWalkModel", "wordHere", "()I"⟩) ∈ lw_all := lw_g (lw_at lw_ms 73 rfl) rfl
theorem qs74 : (Cond.selects "EdgeWalkModel" ⟨"EdgeWalkModel", "takesWord", "(J)Z"⟩ ⟨"EdgeWalkModel", "takesWord", "(J)Z"⟩) ∈ lw_all := lw_g (lw_at lw_ms 74 rfl) rfl
theorem qs75 : (Cond.selects "EdgeWalkModel" ⟨"EdgeWalkModel", "tested", "()Z"⟩ ⟨"EdgeWalkModel", "tested", "()Z"⟩) ∈ lw_all := lw_g (lw_at lw_ms 75 rfl) rfl
theorem qs76 : (Cond.selects "EdgeWalkModel" ⟨"EdgeWalkModel", "fact", "()Z"⟩ ⟨"EdgeWalkModel", "fact", "()Z"⟩) ∈ lw_all := lw_g (lw_at lw_ms 76 rfl) rfl
theorem qs77 : (Cond.selects "EdgeWalkModel" ⟨"EdgeWalkModel", "opens", "(I)Z"⟩ ⟨"EdgeWalkModel", "opens", "(I)Z"⟩) ∈ lw_all := lw_g (lw_at lw_ms 77 rfl) rfl
theorem qs78 : (Cond.selects "EdgeWalkModel" ⟨"EdgeWalkModel", "compare", "()Z"⟩ ⟨"EdgeWalkModel", "compare", "()Z"⟩) ∈ lw_all := lw_g (lw_at lw_ms 78 rfl) rfl
theorem qs79 : (Cond.selects "EdgeWalkModel" ⟨"EdgeWalkModel", "closes", "()V"⟩ ⟨"EdgeWalkModel", "closes", "()V"⟩) ∈ lw_all := lw_g (lw_at lw_ms 79 rfl) rfl
theorem qs80 : (Cond.selects "EdgeWalkModel" ⟨"EdgeWalkModel", "layDown", "(I)V"⟩ ⟨"EdgeWalkModel", "layDown", "(I)V"⟩) ∈ lw_all := lw_g (lw_at lw_ms 80 rfl) rfl
theorem qs81 : (Cond.selects "EdgeWalkModel" ⟨"EdgeWalkModel", "isInside", "()Z"⟩ ⟨"EdgeWalkModel", "isInside", "()Z"⟩) ∈ lw_all := lw_g (lw_at lw_ms 81 rfl) rfl
theorem qs82 : (Cond.selects "EdgeWalkModel" ⟨"EdgeWalkModel", "begins", "()V"⟩ ⟨"EdgeWalkModel", "begins", "()V"⟩) ∈ lw_all := lw_g (lw_at lw_ms 82 rfl) rfl
theorem qs83 : (Cond.selects "EdgeWalkModel" ⟨"EdgeWalkModel", "isRule", "(I)Z"⟩ ⟨"EdgeWalkModel", "isRule", "(I)Z"⟩) ∈ lw_all := lw_g (lw_at lw_ms 83 rfl) rfl
theorem qs84 : (Cond.selects "EdgeWalkModel" ⟨"EdgeWalkModel", "isGoer", "(I)Z"⟩ ⟨"EdgeWalkModel", "isGoer", "(I)Z"⟩) ∈ lw_all := lw_g (lw_at lw_ms 84 rfl) rfl
theorem qs85 : (Cond.selects "EdgeWalkModel" ⟨"EdgeWalkModel", "isOn", "(I)Z"⟩ ⟨"EdgeWalkModel", "isOn", "(I)Z"⟩) ∈ lw_all := lw_g (lw_at lw_ms 85 rfl) rfl
theorem qs86 : (Cond.selects "EdgeWalkModel" ⟨"EdgeWalkModel", "statusOf", "(I)I"⟩ ⟨"EdgeWalkModel", "statusOf", "(I)I"⟩) ∈ lw_all := lw_g (lw_at lw_ms 86 rfl) rfl
theorem qs87 : (Cond.selects "EdgeWalkModel" ⟨"EdgeWalkModel", "cellOf", "(I)I"⟩ ⟨"EdgeWalkModel", "cellOf", "(I)I"⟩) ∈ lw_all := lw_g (lw_at lw_ms 87 rfl) rfl
theorem qs88 : (Cond.selects "EdgeWalkModel" ⟨"EdgeWalkModel", "facesOf", "(I)I"⟩ ⟨"EdgeWalkModel", "facesOf", "(I)I"⟩) ∈ lw_all := lw_g (lw_at lw_ms 88 rfl) rfl
theorem qs89 : (Cond.selects "EdgeWalkModel" ⟨"EdgeWalkModel", "foodOf", "(I)I"⟩ ⟨"EdgeWalkModel", "foodOf", "(I)I"⟩) ∈ lw_all := lw_g (lw_at lw_ms 89 rfl) rfl
theorem qs90 : (Cond.selects "EdgeWalkModel" ⟨"EdgeWalkModel", "isEdge", "(I)Z"⟩ ⟨"EdgeWalkModel", "isEdge", "(I)Z"⟩) ∈ lw_all := lw_g (lw_at lw_ms 90 rfl) rfl
theorem qs91 : (Cond.selects "EdgeWalkModel" ⟨"EdgeWalkModel", "isSheet", "()Z"⟩ ⟨"EdgeWalkModel", "isSheet", "()Z"⟩) ∈ lw_all := lw_g (lw_at lw_ms 91 rfl) rfl
theorem qs92 : (Cond.selects "EdgeWalkModel" ⟨"EdgeWalkModel", "isCell", "(I)Z"⟩ ⟨"EdgeWalkModel", "isCell", "(I)Z"⟩) ∈ lw_all := lw_g (lw_at lw_ms 92 rfl) rfl
theorem qs93 : (Cond.selects "EdgeWalkModel" ⟨"EdgeWalkModel", "cells", "()I"⟩ ⟨"EdgeWalkModel", "cells", "()I"⟩) ∈ lw_all := lw_g (lw_at lw_ms 93 rfl) rfl
theorem qs94 : (Cond.selects "EdgeWalkModel" ⟨"EdgeWalkModel", "keepsAct", "()V"⟩ ⟨"EdgeWalkModel", "keepsAct", "()V"⟩) ∈ lw_all := lw_g (lw_at lw_ms 94 rfl) rfl
theorem qs95 : (Cond.selects "EdgeWalkModel" ⟨"EdgeWalkModel", "passes", "()V"⟩ ⟨"EdgeWalkModel", "passes", "()V"⟩) ∈ lw_all := lw_g (lw_at lw_ms 95 rfl) rfl
theorem qs96 : (Cond.selects "EdgeWalkModel" ⟨"EdgeWalkModel", "walks", "(I)V"⟩ ⟨"EdgeWalkModel", "walks", "(I)V"⟩) ∈ lw_all := lw_g (lw_at lw_ms 96 rfl) rfl
theorem qs97 : (Cond.selects "EdgeWalkModel" ⟨"EdgeWalkModel", "quartersOf", "(I)I"⟩ ⟨"EdgeWalkModel", "quartersOf", "(I)I"⟩) ∈ lw_all := lw_g (lw_at lw_ms 97 rfl) rfl
theorem qs98 : (Cond.selects "EdgeWalkModel" ⟨"EdgeWalkModel", "nextOf", "(II)I"⟩ ⟨"EdgeWalkModel", "nextOf", "(II)I"⟩) ∈ lw_all := lw_g (lw_at lw_ms 98 rfl) rfl
theorem qs99 : (Cond.selects "EdgeWalkModel" ⟨"EdgeWalkModel", "marginOf", "(II)I"⟩ ⟨"EdgeWalkModel", "marginOf", "(II)I"⟩) ∈ lw_all := lw_g (lw_at lw_ms 99 rfl) rfl
theorem qs100 : (Cond.selects "EdgeWalkModel" ⟨"EdgeWalkModel", "isStone", "(I)Z"⟩ ⟨"EdgeWalkModel", "isStone", "(I)Z"⟩) ∈ lw_all := lw_g (lw_at lw_ms 100 rfl) rfl
theorem qs101 : (Cond.selects "EdgeWalkModel" ⟨"EdgeWalkModel", "summedBy", "(I)J"⟩ ⟨"EdgeWalkModel", "summedBy", "(I)J"⟩) ∈ lw_all := lw_g (lw_at lw_ms 101 rfl) rfl
theorem qs102 : (Cond.selects "EdgeWalkModel" ⟨"EdgeWalkModel", "reckons", "(III)J"⟩ ⟨"EdgeWalkModel", "reckons", "(III)J"⟩) ∈ lw_all := lw_g (lw_at lw_ms 102 rfl) rfl
theorem qs103 : (Cond.selects "EdgeWalkModel" ⟨"EdgeWalkModel", "push", "(J)V"⟩ ⟨"EdgeWalkModel", "push", "(J)V"⟩) ∈ lw_all := lw_g (lw_at lw_ms 103 rfl) rfl
theorem qs104 : (Cond.selects "EdgeWalkModel" ⟨"EdgeWalkModel", "pop", "()J"⟩ ⟨"EdgeWalkModel", "pop", "()J"⟩) ∈ lw_all := lw_g (lw_at lw_ms 104 rfl) rfl
theorem qs105 : (Cond.selects "EdgeWalkModel" ⟨"EdgeWalkModel", "placeAlong", "(II)I"⟩ ⟨"EdgeWalkModel", "placeAlong", "(II)I"⟩) ∈ lw_all := lw_g (lw_at lw_ms 105 rfl) rfl
theorem qs106 : (Cond.selects "EdgeWalkModel" ⟨"EdgeWalkModel", "goesOut", "(I)V"⟩ ⟨"EdgeWalkModel", "goesOut", "(I)V"⟩) ∈ lw_all := lw_g (lw_at lw_ms 106 rfl) rfl
theorem qs107 : (Cond.selects "EdgeWalkModel" ⟨"EdgeWalkModel", "comesOn", "(I)V"⟩ ⟨"EdgeWalkModel", "comesOn", "(I)V"⟩) ∈ lw_all := lw_g (lw_at lw_ms 107 rfl) rfl
theorem qs108 : (Cond.selects "EdgeWalkModel" ⟨"EdgeWalkModel", "cellAt", "(II)I"⟩ ⟨"EdgeWalkModel", "cellAt", "(II)I"⟩) ∈ lw_all := lw_g (lw_at lw_ms 108 rfl) rfl
theorem qs109 : (Cond.selects "EdgeWalkModel" ⟨"EdgeWalkModel", "onesWhoAre", "(I)I"⟩ ⟨"EdgeWalkModel", "onesWhoAre", "(I)I"⟩) ∈ lw_all := lw_g (lw_at lw_ms 109 rfl) rfl
theorem qs110 : (Cond.selects "EdgeWalkModel" ⟨"EdgeWalkModel", "keeps", "()V"⟩ ⟨"EdgeWalkModel", "keeps", "()V"⟩) ∈ lw_all := lw_g (lw_at lw_ms 110 rfl) rfl
theorem qs111 : (Cond.selects "EdgeWalkModel" ⟨"EdgeWalkModel", "passesAll", "(I)V"⟩ ⟨"EdgeWalkModel", "passesAll", "(I)V"⟩) ∈ lw_all := lw_g (lw_at lw_ms 111 rfl) rfl
theorem qs112 : (Cond.selects "EdgeWalkModel" ⟨"EdgeWalkModel", "laysBack", "()V"⟩ ⟨"EdgeWalkModel", "laysBack", "()V"⟩) ∈ lw_all := lw_g (lw_at lw_ms 112 rfl) rfl
theorem qs113 : (Cond.selects "EdgeWalkModel" ⟨"EdgeWalkModel", "goesFrom", "(II)Z"⟩ ⟨"EdgeWalkModel", "goesFrom", "(II)Z"⟩) ∈ lw_all := lw_g (lw_at lw_ms 113 rfl) rfl
theorem qs114 : (Cond.selects "EdgeWalkModel" ⟨"EdgeWalkModel", "nears", "(II)Z"⟩ ⟨"EdgeWalkModel", "nears", "(II)Z"⟩) ∈ lw_all := lw_g (lw_at lw_ms 114 rfl) rfl
theorem qs115 : (Cond.selects "EdgeWalkModel" ⟨"EdgeWalkModel", "weighs", "(II)V"⟩ ⟨"EdgeWalkModel", "weighs", "(II)V"⟩) ∈ lw_all := lw_g (lw_at lw_ms 115 rfl) rfl
theorem qs116 : (Cond.selects "EdgeWalkModel" ⟨"EdgeWalkModel", "foodAll", "()I"⟩ ⟨"EdgeWalkModel", "foodAll", "()I"⟩) ∈ lw_all := lw_g (lw_at lw_ms 116 rfl) rfl
theorem qs117 : (Cond.selects "EdgeWalkModel" ⟨"EdgeWalkModel", "isRest", "(II)Z"⟩ ⟨"EdgeWalkModel", "isRest", "(II)Z"⟩) ∈ lw_all := lw_g (lw_at lw_ms 117 rfl) rfl
theorem qs118 : (Cond.selects "EdgeWalkModel" ⟨"EdgeWalkModel", "whereOf", "(I)I"⟩ ⟨"EdgeWalkModel", "whereOf", "(I)I"⟩) ∈ lw_all := lw_g (lw_at lw_ms 118 rfl) rfl
theorem qs119 : (Cond.selects "EdgeWalkModel" ⟨"EdgeWalkModel", "areAlike", "(II)Z"⟩ ⟨"EdgeWalkModel", "areAlike", "(II)Z"⟩) ∈ lw_all := lw_g (lw_at lw_ms 119 rfl) rfl
theorem qs120 : (Cond.selects "EdgeWalkModel" ⟨"EdgeWalkModel", "shortOf", "(I)I"⟩ ⟨"EdgeWalkModel", "shortOf", "(I)I"⟩) ∈ lw_all := lw_g (lw_at lw_ms 120 rfl) rfl
theorem qs121 : (Cond.selects "EdgeWalkModel" ⟨"EdgeWalkModel", "fillsFits", "(I)V"⟩ ⟨"EdgeWalkModel", "fillsFits", "(I)V"⟩) ∈ lw_all := lw_g (lw_at lw_ms 121 rfl) rfl
theorem qs122 : (Cond.selects "EdgeWalkModel" ⟨"EdgeWalkModel", "areAllSo", "(II)Z"⟩ ⟨"EdgeWalkModel", "areAllSo", "(II)Z"⟩) ∈ lw_all := lw_g (lw_at lw_ms 122 rfl) rfl
theorem qs123 : (Cond.selects "EdgeWalkModel" ⟨"EdgeWalkModel", "areNotesSo", "(I)Z"⟩ ⟨"EdgeWalkModel", "areNotesSo", "(I)Z"⟩) ∈ lw_all := lw_g (lw_at lw_ms 123 rfl) rfl
theorem qs124 : (Cond.selects "EdgeWalkModel" ⟨"EdgeWalkModel", "cellOn", "(I)I"⟩ ⟨"EdgeWalkModel", "cellOn", "(I)I"⟩) ∈ lw_all := lw_g (lw_at lw_ms 124 rfl) rfl
theorem qs125 : (Cond.selects "EdgeWalkModel" ⟨"EdgeWalkModel", "alikeAt", "(I)I"⟩ ⟨"EdgeWalkModel", "alikeAt", "(I)I"⟩) ∈ lw_all := lw_g (lw_at lw_ms 125 rfl) rfl
theorem qs126 : (Cond.selects "EdgeWalkModel" ⟨"EdgeWalkModel", "draw", "(I)I"⟩ ⟨"EdgeWalkModel", "draw", "(I)I"⟩) ∈ lw_all := lw_g (lw_at lw_ms 126 rfl) rfl
theorem qs127 : (Cond.selects "EdgeWalkModel" ⟨"EdgeWalkModel", "blows", "()V"⟩ ⟨"EdgeWalkModel", "blows", "()V"⟩) ∈ lw_all := lw_g (lw_at lw_ms 127 rfl) rfl
