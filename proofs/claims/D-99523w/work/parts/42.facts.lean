/-! THE TABLES' FACTS (printed by gen2.py): fields, calls, classes, constants, by the entries of the pools -/
set_option maxRecDepth 100000
theorem one1 {P : Int → Nat → Prop} {z : Int} {t : Nat} (h : P z t) : ∀ z1 t1, [(z, t)] = [(z1, t1)] → P z1 t1 := fun z1 t1 e => by cases e; exact h
theorem one2 {P : Int → Nat → Int → Nat → Prop} {z y : Int} {t u : Nat} (h : P z t y u) : ∀ z1 t1 y1 u1, [(z, t), (y, u)] = [(z1, t1), (y1, u1)] → P z1 t1 y1 u1 := fun z1 t1 y1 u1 e => by cases e; exact h
theorem one3 {P : Int → Nat → List (Int × Nat) → Prop} {z : Int} {t : Nat} {r : List (Int × Nat)} (h : P z t r) : ∀ z1 t1 r1, (z, t) :: r = (z1, t1) :: r1 → P z1 t1 r1 := fun z1 t1 r1 e => by cases e; exact h
theorem all0 {α : Type} {P : α → Prop} : ∀ q ∈ ([] : List α), P q := fun q h => by cases h
theorem allc {α : Type} {P : α → Prop} {a : α} {r : List α} (h : P a) (hr : ∀ q ∈ r, P q) : ∀ q ∈ a :: r, P q := fun q hq => (List.mem_cons.mp hq).elim (fun e => e ▸ h) (hr q)
theorem okc {M : MD} {pc : Nat} {b : Bool} {x y : INS} (h1 : InsOK M pc x) (h2 : InsOK M pc y) : InsOK M pc (cond b x y) := by cases b; exact h2; exact h1
theorem okl {M : MD} {K : Nat} {x : INS} (pc : Nat) (h : InsOK M K x) : InsOK M pc (cond (Nat.beq pc K) x (.nop, 0, 0, [])) := by
  cases hb : Nat.beq pc K with
  | false => exact trivial
  | true => rw [Nat.eq_of_beq_eq_true hb]; exact h
theorem cj {M : MD} {pc j : Nat} (h : j < NJ ∧ mL (MT j) ≤ 64) (h3 : mH M = false) : CallJ M pc 0 j := ⟨h.1, h.2, by unfold mTab; rw [h3]; exact fun x hx => by cases hx⟩
theorem th0 {M : MD} {pc : Nat} (h3 : mH M = false) : ∀ x ∈ mTab M, covers x pc = false := by unfold mTab; rw [h3]; exact fun x hx => by cases hx
theorem vt {M : MD} {pc hd idx ax ci : Nat} {qq : Int × Nat} (h1 : Nat.ble ci 17 = true) (h2 : qq.1 = ((16 + ci : Nat) : Int)) (h3 : SiteV (oN M) idx (MT qq.2) ax ci ∨ SiteU (oN M) idx (MT qq.2) ax ci) (h4 : CallJ M pc hd qq.2) : ∃ ci, ci ≤ 17 ∧ qq.1 = ((16 + ci : Nat) : Int) ∧ (SiteV (oN M) idx (MT qq.2) ax ci ∨ SiteU (oN M) idx (MT qq.2) ax ci) ∧ CallJ M pc hd qq.2 := ⟨ci, Nat.le_of_ble_eq_true h1, h2, h3, h4⟩
theorem nm_java_util_AbstractCollection : ("java/util/AbstractCollection" : String) ≠ "java/lang/invoke/MethodHandle" ∧ ("java/util/AbstractCollection" : String) ≠ "java/lang/invoke/VarHandle" := by decide
theorem np___V : npar "()V" 0 := by unfold npar; decide +kernel
theorem SI_J1_1 : SiteI "java/util/AbstractList" 1 MD_J0_init 0 := ⟨rfl, rfl, rfl, q188, q131, nm_java_util_AbstractCollection, np___V, q187, Or.inl q186⟩
theorem cl_0 : 0 < NJ ∧ mL (MT 0) ≤ 64 := ⟨(Nat.le_of_ble_eq_true rfl), (Nat.le_of_ble_eq_true rfl)⟩
theorem P_J1_7 {y : String} : PutOK "java/util/AbstractList" y 7 18 0 0 := ⟨2, 0, RJ2, TJ2, tyJ2, "java/util/AbstractList", rfl, rfl, (Nat.le_of_ble_eq_true rfl), rfl, cf_J2, Or.inl rfl, Or.inl ⟨rfl, Or.inl q196⟩⟩
theorem nm_java_util_AbstractList : ("java/util/AbstractList" : String) ≠ "java/lang/invoke/MethodHandle" ∧ ("java/util/AbstractList" : String) ≠ "java/lang/invoke/VarHandle" := by decide
theorem SI_J2_1 : SiteI "java/util/ArrayList" 1 MD_J1_init 0 := ⟨rfl, rfl, rfl, q185, q132, nm_java_util_AbstractList, np___V, q184, Or.inl q183⟩
theorem cl_1 : 1 < NJ ∧ mL (MT 1) ≤ 64 := ⟨(Nat.le_of_ble_eq_true rfl), (Nat.le_of_ble_eq_true rfl)⟩
theorem P_J2_9 {y : String} : PutOK "java/util/ArrayList" y 9 18 1 2 := ⟨2, 1, RJ2, TJ2, tyJ2, "java/util/ArrayList", rfl, rfl, (Nat.le_of_ble_eq_true rfl), rfl, cf_J2, Or.inl rfl, Or.inl ⟨rfl, Or.inl q194⟩⟩
theorem F_J2_48 : FldOK "java/util/ArrayList" 48 18 2 0 ∨ FldSOK "java/util/ArrayList" 48 18 2 0 := Or.inl ⟨2, 2, RJ2, TJ2, tyJ2, "java/util/ArrayList", rfl, rfl, (Nat.le_of_ble_eq_true rfl), rfl, cf_J2, Or.inl q195, Or.inl rfl⟩
theorem F_J2_63 : FldOK "java/util/ArrayList" 63 18 0 0 ∨ FldSOK "java/util/ArrayList" 63 18 0 0 := Or.inl ⟨2, 0, RJ2, TJ2, tyJ2, "java/util/ArrayList", rfl, rfl, (Nat.le_of_ble_eq_true rfl), rfl, cf_J2, Or.inl q197, Or.inr q198⟩
theorem P_J2_63 {y : String} : PutOK "java/util/ArrayList" y 63 18 0 0 := ⟨2, 0, RJ2, TJ2, tyJ2, "java/util/ArrayList", rfl, rfl, (Nat.le_of_ble_eq_true rfl), rfl, cf_J2, Or.inr q198, Or.inl ⟨rfl, Or.inl q197⟩⟩
theorem F_J2_9 : FldOK "java/util/ArrayList" 9 18 1 2 ∨ FldSOK "java/util/ArrayList" 9 18 1 2 := Or.inl ⟨2, 1, RJ2, TJ2, tyJ2, "java/util/ArrayList", rfl, rfl, (Nat.le_of_ble_eq_true rfl), rfl, cf_J2, Or.inl q194, Or.inl rfl⟩
theorem nm_java_util_ArrayList : ("java/util/ArrayList" : String) ≠ "java/lang/invoke/MethodHandle" ∧ ("java/util/ArrayList" : String) ≠ "java/lang/invoke/VarHandle" := by decide
theorem np__Ljava_lang_Object__Ljava_lang_Object_I_V : npar "(Ljava/lang/Object;[Ljava/lang/Object;I)V" 3 := by unfold npar; decide +kernel
theorem SV_J2_131 : SiteV "java/util/ArrayList" 131 MD_J2_add_2 3 2 := ⟨q623, q133, nm_java_util_ArrayList, np__Ljava_lang_Object__Ljava_lang_Object_I_V, q622, qs11, Or.inl q620⟩
theorem cl_5 : 5 < NJ ∧ mL (MT 5) ≤ 64 := ⟨(Nat.le_of_ble_eq_true rfl), (Nat.le_of_ble_eq_true rfl)⟩
theorem np____Ljava_lang_Object_ : npar "()[Ljava/lang/Object;" 0 := by unfold npar; decide +kernel
theorem SV_J2_129 : SiteV "java/util/ArrayList" 129 MD_J2_grow 0 2 := ⟨q627, q133, nm_java_util_ArrayList, np____Ljava_lang_Object_, q626, qs12, Or.inl q624⟩
theorem cl_6 : 6 < NJ ∧ mL (MT 6) ≤ 64 := ⟨(Nat.le_of_ble_eq_true rfl), (Nat.le_of_ble_eq_true rfl)⟩
theorem P_J2_48 {y : String} : PutOK "java/util/ArrayList" y 48 18 2 0 := ⟨2, 2, RJ2, TJ2, tyJ2, "java/util/ArrayList", rfl, rfl, (Nat.le_of_ble_eq_true rfl), rfl, cf_J2, Or.inl rfl, Or.inl ⟨rfl, Or.inl q195⟩⟩
theorem np__I__Ljava_lang_Object_ : npar "(I)[Ljava/lang/Object;" 1 := by unfold npar; decide +kernel
theorem SV_J2_69 : SiteV "java/util/ArrayList" 69 MD_J2_grow_2 1 2 := ⟨q631, q133, nm_java_util_ArrayList, np__I__Ljava_lang_Object_, q630, qs13, Or.inl q628⟩
theorem cl_7 : 7 < NJ ∧ mL (MT 7) ≤ 64 := ⟨(Nat.le_of_ble_eq_true rfl), (Nat.le_of_ble_eq_true rfl)⟩
theorem nm_jdk_internal_util_ArraysSupport : ("jdk/internal/util/ArraysSupport" : String) ≠ "java/lang/invoke/MethodHandle" ∧ ("jdk/internal/util/ArraysSupport" : String) ≠ "java/lang/invoke/VarHandle" := by decide
theorem np__III_I : npar "(III)I" 3 := by unfold npar; decide +kernel
theorem SS_J2_73 : SiteS "java/util/ArrayList" 73 MD_J10_newLength 3 := ⟨rfl, q636, q146, nm_jdk_internal_util_ArraysSupport, np__III_I, q635, Or.inl q634⟩
theorem cl_18 : 18 < NJ ∧ mL (MT 18) ≤ 64 := ⟨(Nat.le_of_ble_eq_true rfl), (Nat.le_of_ble_eq_true rfl)⟩
theorem nm_java_util_Arrays : ("java/util/Arrays" : String) ≠ "java/lang/invoke/MethodHandle" ∧ ("java/util/Arrays" : String) ≠ "java/lang/invoke/VarHandle" := by decide
theorem np___Ljava_lang_Object_I__Ljava_lang_Object_ : npar "([Ljava/lang/Object;I)[Ljava/lang/Object;" 2 := by unfold npar; decide +kernel
theorem SS_J2_66 : SiteS "java/util/ArrayList" 66 MD_J12_copyOf 2 := ⟨rfl, q646, q148, nm_java_util_Arrays, np___Ljava_lang_Object_I__Ljava_lang_Object_, q645, Or.inl q644⟩
theorem cl_22 : 22 < NJ ∧ mL (MT 22) ≤ 64 := ⟨(Nat.le_of_ble_eq_true rfl), (Nat.le_of_ble_eq_true rfl)⟩
theorem b8_10 : (Int8.ofInt 10).toInt32 = Int32.ofInt 10 := by decide +kernel
theorem nm_java_lang_Math : ("java/lang/Math" : String) ≠ "java/lang/invoke/MethodHandle" ∧ ("java/lang/Math" : String) ≠ "java/lang/invoke/VarHandle" := by decide
theorem np__II_I : npar "(II)I" 2 := by unfold npar; decide +kernel
theorem SS_J2_79 : SiteS "java/util/ArrayList" 79 MD_J11_max 2 := ⟨rfl, q639, q147, nm_java_lang_Math, np__II_I, q638, Or.inl q679⟩
theorem cl_19 : 19 < NJ ∧ mL (MT 19) ≤ 64 := ⟨(Nat.le_of_ble_eq_true rfl), (Nat.le_of_ble_eq_true rfl)⟩
theorem nm_java_util_Objects : ("java/util/Objects" : String) ≠ "java/lang/invoke/MethodHandle" ∧ ("java/util/Objects" : String) ≠ "java/lang/invoke/VarHandle" := by decide
theorem SS_J2_118 : SiteS "java/util/ArrayList" 118 MD_J13_checkIndex 2 := ⟨rfl, q701, q150, nm_java_util_Objects, np__II_I, q700, Or.inl q699⟩
theorem cl_24 : 24 < NJ ∧ mL (MT 24) ≤ 64 := ⟨(Nat.le_of_ble_eq_true rfl), (Nat.le_of_ble_eq_true rfl)⟩
theorem np__I_Ljava_lang_Object_ : npar "(I)Ljava/lang/Object;" 1 := by unfold npar; decide +kernel
theorem SV_J2_123 : SiteV "java/util/ArrayList" 123 MD_J2_elementData 1 2 := ⟨q706, q133, nm_java_util_ArrayList, np__I_Ljava_lang_Object_, q704, q705, Or.inl q703⟩
theorem cl_9 : 9 < NJ ∧ mL (MT 9) ≤ 64 := ⟨(Nat.le_of_ble_eq_true rfl), (Nat.le_of_ble_eq_true rfl)⟩
theorem F_J5_9 : FldOK "java/lang/String" 9 33 0 2 ∨ FldSOK "java/lang/String" 9 33 0 2 := Or.inr ⟨rfl, Or.inl ⟨rfl, rfl, q1941⟩⟩
theorem nm_java_lang_String : ("java/lang/String" : String) ≠ "java/lang/invoke/MethodHandle" ∧ ("java/lang/String" : String) ≠ "java/lang/invoke/VarHandle" := by decide
theorem np___B : npar "()B" 0 := by unfold npar; decide +kernel
theorem SV_J5_335 : SiteV "java/lang/String" 335 MD_J5_coder 0 17 := ⟨q522, q140, nm_java_lang_String, np___B, q520, q521, Or.inl q519⟩
theorem cl_11 : 11 < NJ ∧ mL (MT 11) ≤ 64 := ⟨(Nat.le_of_ble_eq_true rfl), (Nat.le_of_ble_eq_true rfl)⟩
theorem F_J5_15 : FldOK "java/lang/String" 15 33 1 0 ∨ FldSOK "java/lang/String" 15 33 1 0 := Or.inr ⟨rfl, Or.inr ⟨rfl, rfl, q1942⟩⟩
theorem np___Z : npar "()Z" 0 := by unfold npar; decide +kernel
theorem SV_J5_492 : SiteV "java/lang/String" 492 MD_J5_isLatin1 0 17 := ⟨q532, q140, nm_java_lang_String, np___Z, q530, q531, Or.inl q529⟩
theorem cl_13 : 13 < NJ ∧ mL (MT 13) ≤ 64 := ⟨(Nat.le_of_ble_eq_true rfl), (Nat.le_of_ble_eq_true rfl)⟩
theorem nm_java_lang_StringLatin1 : ("java/lang/StringLatin1" : String) ≠ "java/lang/invoke/MethodHandle" ∧ ("java/lang/StringLatin1" : String) ≠ "java/lang/invoke/VarHandle" := by decide
theorem np___BI_C : npar "([BI)C" 2 := by unfold npar; decide +kernel
theorem SS_J5_495 : SiteS "java/lang/String" 495 MD_J6_charAt 2 := ⟨rfl, q535, q141, nm_java_lang_StringLatin1, np___BI_C, q534, Or.inl q533⟩
theorem cl_15 : 15 < NJ ∧ mL (MT 15) ≤ 64 := ⟨(Nat.le_of_ble_eq_true rfl), (Nat.le_of_ble_eq_true rfl)⟩
theorem nm_jdk_internal_util_Preconditions : ("jdk/internal/util/Preconditions" : String) ≠ "java/lang/invoke/MethodHandle" ∧ ("jdk/internal/util/Preconditions" : String) ≠ "java/lang/invoke/VarHandle" := by decide
theorem np__IILjava_util_function_BiFunction__I : npar "(IILjava/util/function/BiFunction;)I" 3 := by unfold npar; decide +kernel
theorem SS_J5_1059 : SiteS "java/lang/String" 1059 MD_J7_checkIndex 3 := ⟨rfl, q543, q142, nm_jdk_internal_util_Preconditions, np__IILjava_util_function_BiFunction__I, q542, Or.inl q541⟩
theorem cl_16 : 16 < NJ ∧ mL (MT 16) ≤ 64 := ⟨(Nat.le_of_ble_eq_true rfl), (Nat.le_of_ble_eq_true rfl)⟩
theorem np__II_V : npar "(II)V" 2 := by unfold npar; decide +kernel
theorem SS_J6_9 : SiteS "java/lang/StringLatin1" 9 MD_J5_checkIndex 2 := ⟨rfl, q538, q140, nm_java_lang_String, np__II_V, q537, Or.inl q536⟩
theorem cl_14 : 14 < NJ ∧ mL (MT 14) ≤ 64 := ⟨(Nat.le_of_ble_eq_true rfl), (Nat.le_of_ble_eq_true rfl)⟩
theorem b16_255 : (Int16.ofInt 255).toInt32 = Int32.ofInt 255 := by decide +kernel
theorem SS_J10_194 : SiteS "jdk/internal/util/ArraysSupport" 194 MD_J11_max 2 := ⟨rfl, q639, q147, nm_java_lang_Math, np__II_I, q638, Or.inl q637⟩
theorem K_J10_200 : Jvm.Cond.constant "jdk/internal/util/ArraysSupport" 200 (Int32.ofInt (2147483639)) ∈ lw_all := by
  have e : Int32.ofInt (2147483639) = (2147483639 : Int32) := by decide +kernel
  rw [e]
  exact q640
theorem np___Ljava_lang_Object_ILjava_lang_Class___Ljava_lang_Object_ : npar "([Ljava/lang/Object;ILjava/lang/Class;)[Ljava/lang/Object;" 3 := by unfold npar; decide +kernel
theorem SS_J12_300 : SiteS "java/util/Arrays" 300 MD_J12_copyOf_2 3 := ⟨rfl, q670, q148, nm_java_util_Arrays, np___Ljava_lang_Object_ILjava_lang_Class___Ljava_lang_Object_, q669, Or.inl q668⟩
theorem cl_23 : 23 < NJ ∧ mL (MT 23) ≤ 64 := ⟨(Nat.le_of_ble_eq_true rfl), (Nat.le_of_ble_eq_true rfl)⟩
theorem SS_J12_304 : SiteS "java/util/Arrays" 304 MD_J11_min 2 := ⟨rfl, q675, q147, nm_java_lang_Math, np__II_I, q674, Or.inl q673⟩
theorem cl_20 : 20 < NJ ∧ mL (MT 20) ≤ 64 := ⟨(Nat.le_of_ble_eq_true rfl), (Nat.le_of_ble_eq_true rfl)⟩
theorem SS_J13_105 : SiteS "java/util/Objects" 105 MD_J7_checkIndex 3 := ⟨rfl, q543, q142, nm_jdk_internal_util_Preconditions, np__IILjava_util_function_BiFunction__I, q542, Or.inl q702⟩
theorem KL_J14_314 : Jvm.Cond.constantLong "java/lang/Long" 314 (Int64.ofInt (6148914691236517205)) ∈ lw_all := by
  have e : Int64.ofInt (6148914691236517205) = (6148914691236517205 : Int64) := by decide +kernel
  rw [e]
  exact q1079
theorem KL_J14_316 : Jvm.Cond.constantLong "java/lang/Long" 316 (Int64.ofInt (3689348814741910323)) ∈ lw_all := by
  have e : Int64.ofInt (3689348814741910323) = (3689348814741910323 : Int64) := by decide +kernel
  rw [e]
  exact q1080
theorem KL_J14_318 : Jvm.Cond.constantLong "java/lang/Long" 318 (Int64.ofInt (1085102592571150095)) ∈ lw_all := by
  have e : Int64.ofInt (1085102592571150095) = (1085102592571150095 : Int64) := by decide +kernel
  rw [e]
  exact q1081
theorem b8_8 : (Int8.ofInt 8).toInt32 = Int32.ofInt 8 := by decide +kernel
theorem b8_16 : (Int8.ofInt 16).toInt32 = Int32.ofInt 16 := by decide +kernel
theorem b8_32 : (Int8.ofInt 32).toInt32 = Int32.ofInt 32 := by decide +kernel
theorem b8_127 : (Int8.ofInt 127).toInt32 = Int32.ofInt 127 := by decide +kernel
theorem K_J15_265 : Jvm.Cond.constant "java/lang/Integer" 265 (Int32.ofInt (1431655765)) ∈ lw_all := by
  have e : Int32.ofInt (1431655765) = (1431655765 : Int32) := by decide +kernel
  rw [e]
  exact q1112
theorem K_J15_266 : Jvm.Cond.constant "java/lang/Integer" 266 (Int32.ofInt (858993459)) ∈ lw_all := by
  have e : Int32.ofInt (858993459) = (858993459 : Int32) := by decide +kernel
  rw [e]
  exact q1113
theorem K_J15_267 : Jvm.Cond.constant "java/lang/Integer" 267 (Int32.ofInt (252645135)) ∈ lw_all := by
  have e : Int32.ofInt (252645135) = (252645135 : Int32) := by decide +kernel
  rw [e]
  exact q1114
theorem b8_63 : (Int8.ofInt 63).toInt32 = Int32.ofInt 63 := by decide +kernel
theorem N_X0_7 : NewOK "EdgeWalk" 7 17 5 := ⟨1, RX1, TX1, tyX1, rfl, cf_X1, q172, q173, q130⟩
theorem nm_EdgeWalk_Sheet : ("EdgeWalk$Sheet" : String) ≠ "java/lang/invoke/MethodHandle" ∧ ("EdgeWalk$Sheet" : String) ≠ "java/lang/invoke/VarHandle" := by decide
theorem SI_X0_9 : SiteI "EdgeWalk" 9 MD_X1_init 0 := ⟨rfl, rfl, rfl, q176, q130, nm_EdgeWalk_Sheet, np___V, q175, Or.inr ⟨_, q174⟩⟩
theorem cl_93 : 93 < NJ ∧ mL (MT 93) ≤ 64 := ⟨(Nat.le_of_ble_eq_true rfl), (Nat.le_of_ble_eq_true rfl)⟩
theorem P_X0_10 {y : String} : PutOK "EdgeWalk" y 10 16 0 2 := ⟨0, 0, RX0, TX0, tyX0, "EdgeWalk", rfl, rfl, (Nat.le_of_ble_eq_true rfl), rfl, cf_X0, Or.inl rfl, Or.inl ⟨rfl, Or.inl q350⟩⟩
theorem N_X0_16 : NewOK "EdgeWalk" 16 19 10 := ⟨3, RX2, TX2, tyX2, rfl, cf_X2, q233, q234, q134⟩
theorem nm_EdgeWalk_State : ("EdgeWalk$State" : String) ≠ "java/lang/invoke/MethodHandle" ∧ ("EdgeWalk$State" : String) ≠ "java/lang/invoke/VarHandle" := by decide
theorem SI_X0_18 : SiteI "EdgeWalk" 18 MD_X2_init 0 := ⟨rfl, rfl, rfl, q237, q134, nm_EdgeWalk_State, np___V, q236, Or.inr ⟨_, q235⟩⟩
theorem cl_100 : 100 < NJ ∧ mL (MT 100) ≤ 64 := ⟨(Nat.le_of_ble_eq_true rfl), (Nat.le_of_ble_eq_true rfl)⟩
theorem P_X0_19 : PutOK "EdgeWalk" "<init>" 19 16 1 2 := ⟨0, 1, RX0, TX0, tyX0, "EdgeWalk", rfl, rfl, (Nat.le_of_ble_eq_true rfl), rfl, cf_X0, Or.inl rfl, Or.inr ⟨rfl, rfl, rfl, q352⟩⟩
theorem P_X0_23 : PutOK "EdgeWalk" "<init>" 23 16 2 2 := ⟨0, 2, RX0, TX0, tyX0, "EdgeWalk", rfl, rfl, (Nat.le_of_ble_eq_true rfl), rfl, cf_X0, Or.inl rfl, Or.inr ⟨rfl, rfl, rfl, q353⟩⟩
theorem N_X0_26 : NewOK "EdgeWalk" 26 18 3 := ⟨2, RJ2, TJ2, tyJ2, rfl, cf_J2, q280, q179, q133⟩
theorem np__I_V : npar "(I)V" 1 := by unfold npar; decide +kernel
theorem SI_X0_28 : SiteI "EdgeWalk" 28 MD_J2_init 1 := ⟨rfl, rfl, rfl, q182, q133, nm_java_util_ArrayList, np__I_V, q181, Or.inl q281⟩
theorem cl_2 : 2 < NJ ∧ mL (MT 2) ≤ 64 := ⟨(Nat.le_of_ble_eq_true rfl), (Nat.le_of_ble_eq_true rfl)⟩
theorem P_X0_31 : PutOK "EdgeWalk" "<init>" 31 16 3 2 := ⟨0, 3, RX0, TX0, tyX0, "EdgeWalk", rfl, rfl, (Nat.le_of_ble_eq_true rfl), rfl, cf_X0, Or.inl rfl, Or.inr ⟨rfl, rfl, rfl, q354⟩⟩
theorem P_X0_35 {y : String} : PutOK "EdgeWalk" y 35 16 4 0 := ⟨0, 4, RX0, TX0, tyX0, "EdgeWalk", rfl, rfl, (Nat.le_of_ble_eq_true rfl), rfl, cf_X0, Or.inl rfl, Or.inl ⟨rfl, Or.inl q357⟩⟩
theorem P_X0_42 : PutOK "EdgeWalk" "<init>" 42 16 5 2 := ⟨0, 5, RX0, TX0, tyX0, "EdgeWalk", rfl, rfl, (Nat.le_of_ble_eq_true rfl), rfl, cf_X0, Or.inl rfl, Or.inr ⟨rfl, rfl, rfl, q358⟩⟩
theorem b16_400 : (Int16.ofInt 400).toInt32 = Int32.ofInt 400 := by decide +kernel
theorem P_X0_46 : PutOK "EdgeWalk" "<init>" 46 16 6 2 := ⟨0, 6, RX0, TX0, tyX0, "EdgeWalk", rfl, rfl, (Nat.le_of_ble_eq_true rfl), rfl, cf_X0, Or.inl rfl, Or.inr ⟨rfl, rfl, rfl, q360⟩⟩
theorem P_X0_50 : PutOK "EdgeWalk" "<init>" 50 16 8 2 := ⟨0, 8, RX0, TX0, tyX0, "EdgeWalk", rfl, rfl, (Nat.le_of_ble_eq_true rfl), rfl, cf_X0, Or.inl rfl, Or.inr ⟨rfl, rfl, rfl, q364⟩⟩
theorem P_X0_54 : PutOK "EdgeWalk" "<init>" 54 16 9 2 := ⟨0, 9, RX0, TX0, tyX0, "EdgeWalk", rfl, rfl, (Nat.le_of_ble_eq_true rfl), rfl, cf_X0, Or.inl rfl, Or.inr ⟨rfl, rfl, rfl, q366⟩⟩
theorem P_X0_57 : PutOK "EdgeWalk" "<init>" 57 16 10 2 := ⟨0, 10, RX0, TX0, tyX0, "EdgeWalk", rfl, rfl, (Nat.le_of_ble_eq_true rfl), rfl, cf_X0, Or.inl rfl, Or.inr ⟨rfl, rfl, rfl, q368⟩⟩
theorem P_X0_64 : PutOK "EdgeWalk" "<init>" 64 16 13 2 := ⟨0, 13, RX0, TX0, tyX0, "EdgeWalk", rfl, rfl, (Nat.le_of_ble_eq_true rfl), rfl, cf_X0, Or.inl rfl, Or.inr ⟨rfl, rfl, rfl, q373⟩⟩
theorem b8_20 : (Int8.ofInt 20).toInt32 = Int32.ofInt 20 := by decide +kernel
theorem nm_EdgeWalk : ("EdgeWalk" : String) ≠ "java/lang/invoke/MethodHandle" ∧ ("EdgeWalk" : String) ≠ "java/lang/invoke/VarHandle" := by decide
theorem np__I__LEdgeWalk_State_ : npar "(I)[LEdgeWalk$State;" 1 := by unfold npar; decide +kernel
theorem SS_X0_68 : SiteS "EdgeWalk" 68 MD_X0_newStates 1 := ⟨rfl, q345, q129, nm_EdgeWalk, np__I__LEdgeWalk_State_, q344, Or.inl q343⟩
theorem cl_28 : 28 < NJ ∧ mL (MT 28) ≤ 64 := ⟨(Nat.le_of_ble_eq_true rfl), (Nat.le_of_ble_eq_true rfl)⟩
theorem P_X0_72 : PutOK "EdgeWalk" "<init>" 72 16 14 2 := ⟨0, 14, RX0, TX0, tyX0, "EdgeWalk", rfl, rfl, (Nat.le_of_ble_eq_true rfl), rfl, cf_X0, Or.inl rfl, Or.inr ⟨rfl, rfl, rfl, q374⟩⟩
theorem b8_36 : (Int8.ofInt 36).toInt32 = Int32.ofInt 36 := by decide +kernel
theorem P_X0_76 : PutOK "EdgeWalk" "<init>" 76 16 17 2 := ⟨0, 17, RX0, TX0, tyX0, "EdgeWalk", rfl, rfl, (Nat.le_of_ble_eq_true rfl), rfl, cf_X0, Or.inl rfl, Or.inr ⟨rfl, rfl, rfl, q378⟩⟩
theorem P_X0_79 : PutOK "EdgeWalk" "<init>" 79 16 20 2 := ⟨0, 20, RX0, TX0, tyX0, "EdgeWalk", rfl, rfl, (Nat.le_of_ble_eq_true rfl), rfl, cf_X0, Or.inl rfl, Or.inr ⟨rfl, rfl, rfl, q381⟩⟩
theorem P_X0_82 : PutOK "EdgeWalk" "<init>" 82 16 21 2 := ⟨0, 21, RX0, TX0, tyX0, "EdgeWalk", rfl, rfl, (Nat.le_of_ble_eq_true rfl), rfl, cf_X0, Or.inl rfl, Or.inr ⟨rfl, rfl, rfl, q382⟩⟩
theorem b16_1525 : (Int16.ofInt 1525).toInt32 = Int32.ofInt 1525 := by decide +kernel
theorem P_X0_85 : PutOK "EdgeWalk" "<init>" 85 16 22 2 := ⟨0, 22, RX0, TX0, tyX0, "EdgeWalk", rfl, rfl, (Nat.le_of_ble_eq_true rfl), rfl, cf_X0, Or.inl rfl, Or.inr ⟨rfl, rfl, rfl, q383⟩⟩
theorem b8_35 : (Int8.ofInt 35).toInt32 = Int32.ofInt 35 := by decide +kernel
theorem P_X0_88 : PutOK "EdgeWalk" "<init>" 88 16 23 2 := ⟨0, 23, RX0, TX0, tyX0, "EdgeWalk", rfl, rfl, (Nat.le_of_ble_eq_true rfl), rfl, cf_X0, Or.inl rfl, Or.inr ⟨rfl, rfl, rfl, q384⟩⟩
theorem P_X0_93 : PutOK "EdgeWalk" "<init>" 93 16 24 2 := ⟨0, 24, RX0, TX0, tyX0, "EdgeWalk", rfl, rfl, (Nat.le_of_ble_eq_true rfl), rfl, cf_X0, Or.inl rfl, Or.inr ⟨rfl, rfl, rfl, q385⟩⟩
theorem F_X0_114 : FldOK "EdgeWalk" 114 16 7 0 ∨ FldSOK "EdgeWalk" 114 16 7 0 := Or.inl ⟨0, 7, RX0, TX0, tyX0, "EdgeWalk", rfl, rfl, (Nat.le_of_ble_eq_true rfl), rfl, cf_X0, Or.inl q362, Or.inl rfl⟩
theorem SV_X0_117 : SiteV "EdgeWalk" 117 MD_X0_put 1 0 := ⟨q446, q129, nm_EdgeWalk, np__I_V, q445, qs1, Or.inl q443⟩
theorem cl_30 : 30 < NJ ∧ mL (MT 30) ≤ 64 := ⟨(Nat.le_of_ble_eq_true rfl), (Nat.le_of_ble_eq_true rfl)⟩
theorem b8_24 : (Int8.ofInt 24).toInt32 = Int32.ofInt 24 := by decide +kernel
theorem F_X0_46 : FldOK "EdgeWalk" 46 16 6 2 ∨ FldSOK "EdgeWalk" 46 16 6 2 := Or.inl ⟨0, 6, RX0, TX0, tyX0, "EdgeWalk", rfl, rfl, (Nat.le_of_ble_eq_true rfl), rfl, cf_X0, Or.inl q360, Or.inl rfl⟩
theorem P_X0_114 {y : String} : PutOK "EdgeWalk" y 114 16 7 0 := ⟨0, 7, RX0, TX0, tyX0, "EdgeWalk", rfl, rfl, (Nat.le_of_ble_eq_true rfl), rfl, cf_X0, Or.inl rfl, Or.inl ⟨rfl, Or.inl q362⟩⟩
theorem N_X0_120 : NewOK "EdgeWalk" 120 22 7 := ⟨6, RX5, TX5, tyX5, rfl, cf_X5, q455, q456, q139⟩
theorem b8_40 : (Int8.ofInt 40).toInt32 = Int32.ofInt 40 := by decide +kernel
theorem nm_EdgeWalk_Parser : ("EdgeWalk$Parser" : String) ≠ "java/lang/invoke/MethodHandle" ∧ ("EdgeWalk$Parser" : String) ≠ "java/lang/invoke/VarHandle" := by decide
theorem np__LEdgeWalk__Ljava_lang_String_I_V : npar "(LEdgeWalk;[Ljava/lang/String;I)V" 3 := by unfold npar; decide +kernel
theorem SI_X0_122 : SiteI "EdgeWalk" 122 MD_X5_init 3 := ⟨rfl, rfl, rfl, q459, q139, nm_EdgeWalk_Parser, np__LEdgeWalk__Ljava_lang_String_I_V, q458, Or.inl q457⟩
theorem cl_229 : 229 < NJ ∧ mL (MT 229) ≤ 64 := ⟨(Nat.le_of_ble_eq_true rfl), (Nat.le_of_ble_eq_true rfl)⟩
theorem np___LEdgeWalk_Sheet_ : npar "()LEdgeWalk$Sheet;" 0 := by unfold npar; decide +kernel
theorem SV_X0_125 : SiteV "EdgeWalk" 125 MD_X5_sheet 0 6 := ⟨q486, q139, nm_EdgeWalk_Parser, np___LEdgeWalk_Sheet_, q484, q485, Or.inl q483⟩
theorem cl_230 : 230 < NJ ∧ mL (MT 230) ≤ 64 := ⟨(Nat.le_of_ble_eq_true rfl), (Nat.le_of_ble_eq_true rfl)⟩
theorem F_X0_19 : FldOK "EdgeWalk" 19 16 1 2 ∨ FldSOK "EdgeWalk" 19 16 1 2 := Or.inl ⟨0, 1, RX0, TX0, tyX0, "EdgeWalk", rfl, rfl, (Nat.le_of_ble_eq_true rfl), rfl, cf_X0, Or.inl q352, Or.inl rfl⟩
theorem F_X0_10 : FldOK "EdgeWalk" 10 16 0 2 ∨ FldSOK "EdgeWalk" 10 16 0 2 := Or.inl ⟨0, 0, RX0, TX0, tyX0, "EdgeWalk", rfl, rfl, (Nat.le_of_ble_eq_true rfl), rfl, cf_X0, Or.inl q350, Or.inl rfl⟩
theorem np__LEdgeWalk_Sheet__V : npar "(LEdgeWalk$Sheet;)V" 1 := by unfold npar; decide +kernel
theorem SV_X0_128 : SiteV "EdgeWalk" 128 MD_X2_begin 1 3 := ⟨q693, q134, nm_EdgeWalk_State, np__LEdgeWalk_Sheet__V, q691, q692, Or.inl q690⟩
theorem cl_101 : 101 < NJ ∧ mL (MT 101) ≤ 64 := ⟨(Nat.le_of_ble_eq_true rfl), (Nat.le_of_ble_eq_true rfl)⟩
theorem P_X0_132 {y : String} : PutOK "EdgeWalk" y 132 16 11 0 := ⟨0, 11, RX0, TX0, tyX0, "EdgeWalk", rfl, rfl, (Nat.le_of_ble_eq_true rfl), rfl, cf_X0, Or.inl rfl, Or.inl ⟨rfl, Or.inl q370⟩⟩
theorem P_X0_135 {y : String} : PutOK "EdgeWalk" y 135 16 15 0 := ⟨0, 15, RX0, TX0, tyX0, "EdgeWalk", rfl, rfl, (Nat.le_of_ble_eq_true rfl), rfl, cf_X0, Or.inl rfl, Or.inl ⟨rfl, Or.inl q376⟩⟩
theorem np___I : npar "()I" 0 := by unfold npar; decide +kernel
theorem SV_X0_100 : SiteV "EdgeWalk" 100 MD_X1_goers 0 1 := ⟨q581, q130, nm_EdgeWalk_Sheet, np___I, q579, q580, Or.inl q708⟩
theorem cl_94 : 94 < NJ ∧ mL (MT 94) ≤ 64 := ⟨(Nat.le_of_ble_eq_true rfl), (Nat.le_of_ble_eq_true rfl)⟩
theorem b8___2_ : (Int8.ofInt (-2)).toInt32 = Int32.ofInt (-2) := by decide +kernel
theorem F_X0_111 : FldOK "EdgeWalk" 111 20 0 0 ∨ FldSOK "EdgeWalk" 111 20 0 0 := Or.inl ⟨4, 0, RX3, TW3, (fun _ => .int), "EdgeWalk$Wrong", rfl, rfl, (Nat.le_of_ble_eq_true rfl), rfl, cf_X3, Or.inr ⟨_, q326⟩, Or.inl rfl⟩
theorem F_X0_42 : FldOK "EdgeWalk" 42 16 5 2 ∨ FldSOK "EdgeWalk" 42 16 5 2 := Or.inl ⟨0, 5, RX0, TX0, tyX0, "EdgeWalk", rfl, rfl, (Nat.le_of_ble_eq_true rfl), rfl, cf_X0, Or.inl q358, Or.inl rfl⟩
theorem P_X0_111 {y : String} : PutOK "EdgeWalk" y 111 20 0 0 := ⟨4, 0, RX3, TW3, (fun _ => .int), "EdgeWalk$Wrong", rfl, rfl, (Nat.le_of_ble_eq_true rfl), rfl, cf_X3, Or.inl rfl, Or.inl ⟨rfl, Or.inr ⟨_, q326⟩⟩⟩
theorem F_X0_31 : FldOK "EdgeWalk" 31 16 3 2 ∨ FldSOK "EdgeWalk" 31 16 3 2 := Or.inl ⟨0, 3, RX0, TX0, tyX0, "EdgeWalk", rfl, rfl, (Nat.le_of_ble_eq_true rfl), rfl, cf_X0, Or.inl q354, Or.inl rfl⟩
theorem SV_X0_138 : SiteV "EdgeWalk" 138 MD_J2_size 0 2 := ⟨q585, q133, nm_java_util_ArrayList, np___I, q583, q584, Or.inl q713⟩
theorem cl_3 : 3 < NJ ∧ mL (MT 3) ≤ 64 := ⟨(Nat.le_of_ble_eq_true rfl), (Nat.le_of_ble_eq_true rfl)⟩
theorem b8_6 : (Int8.ofInt 6).toInt32 = Int32.ofInt 6 := by decide +kernel
theorem b8_12 : (Int8.ofInt 12).toInt32 = Int32.ofInt 12 := by decide +kernel
theorem SV_X0_141 : SiteV "EdgeWalk" 141 MD_X5_rule 0 6 := ⟨q717, q139, nm_EdgeWalk_Parser, np___I, q715, q716, Or.inl q714⟩
theorem cl_241 : 241 < NJ ∧ mL (MT 241) ≤ 64 := ⟨(Nat.le_of_ble_eq_true rfl), (Nat.le_of_ble_eq_true rfl)⟩
theorem KL_X0_144 : Jvm.Cond.constantLong "EdgeWalk" 144 (Int64.ofInt (-1)) ∈ lw_all := by
  have e : Int64.ofInt (-1) = (-1 : Int64) := by decide +kernel
  rw [e]
  exact q883
theorem np__JJJ_Z : npar "(JJJ)Z" 3 := by unfold npar; decide +kernel
theorem SS_X0_104 : SiteS "EdgeWalk" 104 MD_X0_in 3 := ⟨rfl, q514, q129, nm_EdgeWalk, np__JJJ_Z, q513, Or.inl q884⟩
theorem cl_33 : 33 < NJ ∧ mL (MT 33) ≤ 64 := ⟨(Nat.le_of_ble_eq_true rfl), (Nat.le_of_ble_eq_true rfl)⟩
theorem F_X0_35 : FldOK "EdgeWalk" 35 16 4 0 ∨ FldSOK "EdgeWalk" 35 16 4 0 := Or.inl ⟨0, 4, RX0, TX0, tyX0, "EdgeWalk", rfl, rfl, (Nat.le_of_ble_eq_true rfl), rfl, cf_X0, Or.inl q357, Or.inl rfl⟩
theorem np__I_Z : npar "(I)Z" 1 := by unfold npar; decide +kernel
theorem SV_X0_146 : SiteV "EdgeWalk" 146 MD_X0_isGoer 1 0 := ⟨q892, q129, nm_EdgeWalk, np__I_Z, q891, qs26, Or.inl q889⟩
theorem cl_38 : 38 < NJ ∧ mL (MT 38) ≤ 64 := ⟨(Nat.le_of_ble_eq_true rfl), (Nat.le_of_ble_eq_true rfl)⟩
theorem TS_X0_goer_12 : InsOK MD_X0_goer 12 (.tableswitch 100 0 5 #[40, 50, 60, 70, 80, 90], 52, 112, [(0, 52), (1, 62), (2, 72), (3, 82), (4, 92), (5, 102)]) := And.intro (Exists.intro _ dX0_goer_12) (And.intro rfl (And.intro (allc ⟨by decide, by decide, (40), rfl, rfl⟩ (allc ⟨by decide, by decide, (50), rfl, rfl⟩ (allc ⟨by decide, by decide, (60), rfl, rfl⟩ (allc ⟨by decide, by decide, (70), rfl, rfl⟩ (allc ⟨by decide, by decide, (80), rfl, rfl⟩ (allc ⟨by decide, by decide, (90), rfl, rfl⟩ all0)))))) (by
  intro z h1 h2
  have h3 : z = 0 ∨ z = 1 ∨ z = 2 ∨ z = 3 ∨ z = 4 ∨ z = 5 := by omega
  rcases h3 with rfl | rfl | rfl | rfl | rfl | rfl
  · exact ⟨(0, 52), List.mem_of_getElem? (i := 0) rfl, rfl⟩
  · exact ⟨(1, 62), List.mem_of_getElem? (i := 1) rfl, rfl⟩
  · exact ⟨(2, 72), List.mem_of_getElem? (i := 2) rfl, rfl⟩
  · exact ⟨(3, 82), List.mem_of_getElem? (i := 3) rfl, rfl⟩
  · exact ⟨(4, 92), List.mem_of_getElem? (i := 4) rfl, rfl⟩
  · exact ⟨(5, 102), List.mem_of_getElem? (i := 5) rfl, rfl⟩)))
theorem F_X0_150 : FldOK "EdgeWalk" 150 19 1 2 ∨ FldSOK "EdgeWalk" 150 19 1 2 := Or.inl ⟨3, 1, RX2, TX2, tyX2, "EdgeWalk$State", rfl, rfl, (Nat.le_of_ble_eq_true rfl), rfl, cf_X2, Or.inr ⟨_, q242⟩, Or.inl rfl⟩
theorem F_X0_153 : FldOK "EdgeWalk" 153 19 2 2 ∨ FldSOK "EdgeWalk" 153 19 2 2 := Or.inl ⟨3, 2, RX2, TX2, tyX2, "EdgeWalk$State", rfl, rfl, (Nat.le_of_ble_eq_true rfl), rfl, cf_X2, Or.inr ⟨_, q244⟩, Or.inl rfl⟩
theorem F_X0_156 : FldOK "EdgeWalk" 156 19 3 2 ∨ FldSOK "EdgeWalk" 156 19 3 2 := Or.inl ⟨3, 3, RX2, TX2, tyX2, "EdgeWalk$State", rfl, rfl, (Nat.le_of_ble_eq_true rfl), rfl, cf_X2, Or.inr ⟨_, q246⟩, Or.inl rfl⟩
theorem F_X0_159 : FldOK "EdgeWalk" 159 19 0 2 ∨ FldSOK "EdgeWalk" 159 19 0 2 := Or.inl ⟨3, 0, RX2, TX2, tyX2, "EdgeWalk$State", rfl, rfl, (Nat.le_of_ble_eq_true rfl), rfl, cf_X2, Or.inr ⟨_, q240⟩, Or.inl rfl⟩
theorem F_X0_162 : FldOK "EdgeWalk" 162 19 4 2 ∨ FldSOK "EdgeWalk" 162 19 4 2 := Or.inl ⟨3, 4, RX2, TX2, tyX2, "EdgeWalk$State", rfl, rfl, (Nat.le_of_ble_eq_true rfl), rfl, cf_X2, Or.inr ⟨_, q248⟩, Or.inl rfl⟩
theorem F_X0_165 : FldOK "EdgeWalk" 165 19 6 2 ∨ FldSOK "EdgeWalk" 165 19 6 2 := Or.inl ⟨3, 6, RX2, TX2, tyX2, "EdgeWalk$State", rfl, rfl, (Nat.le_of_ble_eq_true rfl), rfl, cf_X2, Or.inr ⟨_, q252⟩, Or.inl rfl⟩
theorem SV_X0_168 : SiteV "EdgeWalk" 168 MD_X0_isSheet 0 0 := ⟨q900, q129, nm_EdgeWalk, np___Z, q899, qs27, Or.inl q897⟩
theorem cl_40 : 40 < NJ ∧ mL (MT 40) ≤ 64 := ⟨(Nat.le_of_ble_eq_true rfl), (Nat.le_of_ble_eq_true rfl)⟩
theorem KL_X0_172 : Jvm.Cond.constantLong "EdgeWalk" 172 (Int64.ofInt (3)) ∈ lw_all := by
  have e : Int64.ofInt (3) = (3 : Int64) := by decide +kernel
  rw [e]
  exact q901
theorem F_X0_174 : FldOK "EdgeWalk" 174 19 7 2 ∨ FldSOK "EdgeWalk" 174 19 7 2 := Or.inl ⟨3, 7, RX2, TX2, tyX2, "EdgeWalk$State", rfl, rfl, (Nat.le_of_ble_eq_true rfl), rfl, cf_X2, Or.inr ⟨_, q254⟩, Or.inl rfl⟩
theorem F_X0_177 : FldOK "EdgeWalk" 177 17 2 2 ∨ FldSOK "EdgeWalk" 177 17 2 2 := Or.inl ⟨1, 2, RX1, TX1, tyX1, "EdgeWalk$Sheet", rfl, rfl, (Nat.le_of_ble_eq_true rfl), rfl, cf_X1, Or.inr ⟨_, q214⟩, Or.inl rfl⟩
theorem F_X0_97 : FldOK "EdgeWalk" 97 17 3 0 ∨ FldSOK "EdgeWalk" 97 17 3 0 := Or.inl ⟨1, 3, RX1, TX1, tyX1, "EdgeWalk$Sheet", rfl, rfl, (Nat.le_of_ble_eq_true rfl), rfl, cf_X1, Or.inr ⟨_, q217⟩, Or.inl rfl⟩
theorem SV_X0_180 : SiteV "EdgeWalk" 180 MD_X0_isCell 1 0 := ⟨q909, q129, nm_EdgeWalk, np__I_Z, q908, qs28, Or.inl q906⟩
theorem cl_42 : 42 < NJ ∧ mL (MT 42) ≤ 64 := ⟨(Nat.le_of_ble_eq_true rfl), (Nat.le_of_ble_eq_true rfl)⟩
theorem SV_X0_183 : SiteV "EdgeWalk" 183 MD_X2_isStone 1 3 := ⟨q914, q134, nm_EdgeWalk_State, np__I_Z, q912, q913, Or.inl q911⟩
theorem cl_102 : 102 < NJ ∧ mL (MT 102) ≤ 64 := ⟨(Nat.le_of_ble_eq_true rfl), (Nat.le_of_ble_eq_true rfl)⟩
theorem np__Z_I : npar "(Z)I" 1 := by unfold npar; decide +kernel
theorem SS_X0_186 : SiteS "EdgeWalk" 186 MD_X0_bit 1 := ⟨rfl, q917, q129, nm_EdgeWalk, np__Z_I, q916, Or.inl q915⟩
theorem cl_43 : 43 < NJ ∧ mL (MT 43) ≤ 64 := ⟨(Nat.le_of_ble_eq_true rfl), (Nat.le_of_ble_eq_true rfl)⟩
theorem SV_X0_108 : SiteV "EdgeWalk" 108 MD_X1_cells 0 1 := ⟨q593, q130, nm_EdgeWalk_Sheet, np___I, q591, q592, Or.inl q910⟩
theorem cl_95 : 95 < NJ ∧ mL (MT 95) ≤ 64 := ⟨(Nat.le_of_ble_eq_true rfl), (Nat.le_of_ble_eq_true rfl)⟩
theorem F_X0_135 : FldOK "EdgeWalk" 135 16 15 0 ∨ FldSOK "EdgeWalk" 135 16 15 0 := Or.inl ⟨0, 15, RX0, TX0, tyX0, "EdgeWalk", rfl, rfl, (Nat.le_of_ble_eq_true rfl), rfl, cf_X0, Or.inl q376, Or.inl rfl⟩
theorem F_X0_233 : FldOK "EdgeWalk" 233 16 16 0 ∨ FldSOK "EdgeWalk" 233 16 16 0 := Or.inl ⟨0, 16, RX0, TX0, tyX0, "EdgeWalk", rfl, rfl, (Nat.le_of_ble_eq_true rfl), rfl, cf_X0, Or.inl q377, Or.inl rfl⟩
theorem P_X0_233 {y : String} : PutOK "EdgeWalk" y 233 16 16 0 := ⟨0, 16, RX0, TX0, tyX0, "EdgeWalk", rfl, rfl, (Nat.le_of_ble_eq_true rfl), rfl, cf_X0, Or.inl rfl, Or.inl ⟨rfl, Or.inl q377⟩⟩
theorem F_X0_72 : FldOK "EdgeWalk" 72 16 14 2 ∨ FldSOK "EdgeWalk" 72 16 14 2 := Or.inl ⟨0, 14, RX0, TX0, tyX0, "EdgeWalk", rfl, rfl, (Nat.le_of_ble_eq_true rfl), rfl, cf_X0, Or.inl q374, Or.inl rfl⟩
theorem np__LEdgeWalk_State__V : npar "(LEdgeWalk$State;)V" 1 := by unfold npar; decide +kernel
theorem SV_X0_236 : SiteV "EdgeWalk" 236 MD_X2_copyFrom 1 3 := ⟨q925, q134, nm_EdgeWalk_State, np__LEdgeWalk_State__V, q923, q924, Or.inl q922⟩
theorem cl_103 : 103 < NJ ∧ mL (MT 103) ≤ 64 := ⟨(Nat.le_of_ble_eq_true rfl), (Nat.le_of_ble_eq_true rfl)⟩
theorem F_X0_201 : FldOK "EdgeWalk" 201 19 8 0 ∨ FldSOK "EdgeWalk" 201 19 8 0 := Or.inl ⟨3, 8, RX2, TX2, tyX2, "EdgeWalk$State", rfl, rfl, (Nat.le_of_ble_eq_true rfl), rfl, cf_X2, Or.inr ⟨_, q256⟩, Or.inl rfl⟩
theorem b16_999 : (Int16.ofInt 999).toInt32 = Int32.ofInt 999 := by decide +kernel
theorem SV_X0_245 : SiteV "EdgeWalk" 245 MD_X0_keeps 0 0 := ⟨q933, q129, nm_EdgeWalk, np___V, q932, qs29, Or.inl q930⟩
theorem cl_46 : 46 < NJ ∧ mL (MT 46) ≤ 64 := ⟨(Nat.le_of_ble_eq_true rfl), (Nat.le_of_ble_eq_true rfl)⟩
theorem np__LEdgeWalk_State__I : npar "(LEdgeWalk$State;)I" 1 := by unfold npar; decide +kernel
theorem SV_X0_230 : SiteV "EdgeWalk" 230 MD_X0_goesOn 1 0 := ⟨q938, q129, nm_EdgeWalk, np__LEdgeWalk_State__I, q937, qs30, Or.inl q935⟩
theorem cl_47 : 47 < NJ ∧ mL (MT 47) ≤ 64 := ⟨(Nat.le_of_ble_eq_true rfl), (Nat.le_of_ble_eq_true rfl)⟩
theorem SS_X0_240 : SiteS "EdgeWalk" 240 MD_J11_min 2 := ⟨rfl, q675, q147, nm_java_lang_Math, np__II_I, q674, Or.inl q934⟩
theorem np__LEdgeWalk_Sheet_I_V : npar "(LEdgeWalk$Sheet;I)V" 2 := by unfold npar; decide +kernel
theorem SV_X0_214 : SiteV "EdgeWalk" 214 MD_X2_isOut 2 3 := ⟨q942, q134, nm_EdgeWalk_State, np__LEdgeWalk_Sheet_I_V, q940, q941, Or.inl q939⟩
theorem cl_104 : 104 < NJ ∧ mL (MT 104) ≤ 64 := ⟨(Nat.le_of_ble_eq_true rfl), (Nat.le_of_ble_eq_true rfl)⟩
theorem np__LEdgeWalk_State_I_I : npar "(LEdgeWalk$State;I)I" 2 := by unfold npar; decide +kernel
theorem SV_X0_218 : SiteV "EdgeWalk" 218 MD_X0_turnOf 2 0 := ⟨q951, q129, nm_EdgeWalk, np__LEdgeWalk_State_I_I, q950, qs31, Or.inl q948⟩
theorem cl_48 : 48 < NJ ∧ mL (MT 48) ≤ 64 := ⟨(Nat.le_of_ble_eq_true rfl), (Nat.le_of_ble_eq_true rfl)⟩
theorem SV_X0_222 : SiteV "EdgeWalk" 222 MD_X2_goesOn 2 3 := ⟨q1013, q134, nm_EdgeWalk_State, np__LEdgeWalk_Sheet_I_V, q1011, q1012, Or.inl q1010⟩
theorem cl_106 : 106 < NJ ∧ mL (MT 106) ≤ 64 := ⟨(Nat.le_of_ble_eq_true rfl), (Nat.le_of_ble_eq_true rfl)⟩
theorem P_X0_201 {y : String} : PutOK "EdgeWalk" y 201 19 8 0 := ⟨3, 8, RX2, TX2, tyX2, "EdgeWalk$State", rfl, rfl, (Nat.le_of_ble_eq_true rfl), rfl, cf_X2, Or.inl rfl, Or.inl ⟨rfl, Or.inr ⟨_, q256⟩⟩⟩
theorem SV_X0_225 : SiteV "EdgeWalk" 225 MD_X0_those 2 0 := ⟨q1023, q129, nm_EdgeWalk, np__LEdgeWalk_State_I_I, q1022, qs32, Or.inl q1020⟩
theorem cl_49 : 49 < NJ ∧ mL (MT 49) ≤ 64 := ⟨(Nat.le_of_ble_eq_true rfl), (Nat.le_of_ble_eq_true rfl)⟩
theorem SV_X0_190 : SiteV "EdgeWalk" 190 MD_X1_margin 2 1 := ⟨q955, q130, nm_EdgeWalk_Sheet, np__II_I, q953, q954, Or.inl q952⟩
theorem cl_97 : 97 < NJ ∧ mL (MT 97) ≤ 64 := ⟨(Nat.le_of_ble_eq_true rfl), (Nat.le_of_ble_eq_true rfl)⟩
theorem F_X0_64 : FldOK "EdgeWalk" 64 16 13 2 ∨ FldSOK "EdgeWalk" 64 16 13 2 := Or.inl ⟨0, 13, RX0, TX0, tyX0, "EdgeWalk", rfl, rfl, (Nat.le_of_ble_eq_true rfl), rfl, cf_X0, Or.inl q373, Or.inl rfl⟩
theorem b8_7 : (Int8.ofInt 7).toInt32 = Int32.ofInt 7 := by decide +kernel
theorem SV_X0_194 : SiteV "EdgeWalk" 194 MD_X1_next 2 1 := ⟨q959, q130, nm_EdgeWalk_Sheet, np__II_I, q957, q958, Or.inl q956⟩
theorem cl_98 : 98 < NJ ∧ mL (MT 98) ≤ 64 := ⟨(Nat.le_of_ble_eq_true rfl), (Nat.le_of_ble_eq_true rfl)⟩
theorem np__I_I : npar "(I)I" 1 := by unfold npar; decide +kernel
theorem SV_X0_197 : SiteV "EdgeWalk" 197 MD_X2_othersWith 1 3 := ⟨q963, q134, nm_EdgeWalk_State, np__I_I, q961, q962, Or.inl q960⟩
theorem cl_105 : 105 < NJ ∧ mL (MT 105) ≤ 64 := ⟨(Nat.le_of_ble_eq_true rfl), (Nat.le_of_ble_eq_true rfl)⟩
theorem b8_9 : (Int8.ofInt 9).toInt32 = Int32.ofInt 9 := by decide +kernel
theorem SV_X0_204 : SiteV "EdgeWalk" 204 MD_J2_get 1 2 := ⟨q698, q133, nm_java_util_ArrayList, np__I_Ljava_lang_Object_, q696, q697, Or.inl q965⟩
theorem cl_8 : 8 < NJ ∧ mL (MT 8) ≤ 64 := ⟨(Nat.le_of_ble_eq_true rfl), (Nat.le_of_ble_eq_true rfl)⟩
theorem nm_EdgeWalk_Rule : ("EdgeWalk$Rule" : String) ≠ "java/lang/invoke/MethodHandle" ∧ ("EdgeWalk$Rule" : String) ≠ "java/lang/invoke/VarHandle" := by decide
theorem np___J_I : npar "([J)I" 1 := by unfold npar; decide +kernel
theorem SV_X0_210 : SiteV "EdgeWalk" 210 MD_X7_turns 1 8 := ⟨q970, q151, nm_EdgeWalk_Rule, np___J_I, q968, q969, Or.inl q967⟩
theorem cl_254 : 254 < NJ ∧ mL (MT 254) ≤ 64 := ⟨(Nat.le_of_ble_eq_true rfl), (Nat.le_of_ble_eq_true rfl)⟩
theorem SV_X0_228 : SiteV "EdgeWalk" 228 MD_X2_those 2 3 := ⟨q1027, q134, nm_EdgeWalk_State, np__II_I, q1025, q1026, Or.inl q1024⟩
theorem cl_107 : 107 < NJ ∧ mL (MT 107) ≤ 64 := ⟨(Nat.le_of_ble_eq_true rfl), (Nat.le_of_ble_eq_true rfl)⟩
theorem KL_X0_248 : Jvm.Cond.constantLong "EdgeWalk" 248 (Int64.ofInt (20)) ∈ lw_all := by
  have e : Int64.ofInt (20) = (20 : Int64) := by decide +kernel
  rw [e]
  exact q1032
theorem b8_99 : (Int8.ofInt 99).toInt32 = Int32.ofInt 99 := by decide +kernel
theorem F_X0_250 : FldOK "EdgeWalk" 250 19 9 1 ∨ FldSOK "EdgeWalk" 250 19 9 1 := Or.inl ⟨3, 9, RX2, TX2, tyX2, "EdgeWalk$State", rfl, rfl, (Nat.le_of_ble_eq_true rfl), rfl, cf_X2, Or.inr ⟨_, q258⟩, Or.inl rfl⟩
theorem P_X0_250 {y : String} : PutOK "EdgeWalk" y 250 19 9 1 := ⟨3, 9, RX2, TX2, tyX2, "EdgeWalk$State", rfl, rfl, (Nat.le_of_ble_eq_true rfl), rfl, cf_X2, Or.inl rfl, Or.inl ⟨rfl, Or.inr ⟨_, q258⟩⟩⟩
theorem SV_X0_254 : SiteV "EdgeWalk" 254 MD_X0_stoneIn 1 0 := ⟨q905, q129, nm_EdgeWalk, np__I_I, q903, q904, Or.inl q1041⟩
theorem cl_41 : 41 < NJ ∧ mL (MT 41) ≤ 64 := ⟨(Nat.le_of_ble_eq_true rfl), (Nat.le_of_ble_eq_true rfl)⟩
theorem KL_X0_257 : Jvm.Cond.constantLong "EdgeWalk" 257 (Int64.ofInt (100)) ∈ lw_all := by
  have e : Int64.ofInt (100) = (100 : Int64) := by decide +kernel
  rw [e]
  exact q1050
theorem KL_X0_259 : Jvm.Cond.constantLong "EdgeWalk" 259 (Int64.ofInt (2)) ∈ lw_all := by
  have e : Int64.ofInt (2) = (2 : Int64) := by decide +kernel
  rw [e]
  exact q1051
theorem F_X0_23 : FldOK "EdgeWalk" 23 16 2 2 ∨ FldSOK "EdgeWalk" 23 16 2 2 := Or.inl ⟨0, 2, RX0, TX0, tyX0, "EdgeWalk", rfl, rfl, (Nat.le_of_ble_eq_true rfl), rfl, cf_X0, Or.inl q353, Or.inl rfl⟩
theorem SV_X0_261 : SiteV "EdgeWalk" 261 MD_X0_goesTill 1 0 := ⟨q1055, q129, nm_EdgeWalk, np__I_V, q1054, qs33, Or.inl q1052⟩
theorem cl_55 : 55 < NJ ∧ mL (MT 55) ≤ 64 := ⟨(Nat.le_of_ble_eq_true rfl), (Nat.le_of_ble_eq_true rfl)⟩
theorem b16_200 : (Int16.ofInt 200).toInt32 = Int32.ofInt 200 := by decide +kernel
theorem b8_60 : (Int8.ofInt 60).toInt32 = Int32.ofInt 60 := by decide +kernel
theorem nm_java_lang_Long : ("java/lang/Long" : String) ≠ "java/lang/invoke/MethodHandle" ∧ ("java/lang/Long" : String) ≠ "java/lang/invoke/VarHandle" := by decide
theorem np__J_I : npar "(J)I" 1 := by unfold npar; decide +kernel
theorem SS_X0_264 : SiteS "EdgeWalk" 264 MD_J14_bitCount 1 := ⟨rfl, q1078, q161, nm_java_lang_Long, np__J_I, q1077, Or.inl q1076⟩
theorem cl_25 : 25 < NJ ∧ mL (MT 25) ≤ 64 := ⟨(Nat.le_of_ble_eq_true rfl), (Nat.le_of_ble_eq_true rfl)⟩
theorem F_X0_79 : FldOK "EdgeWalk" 79 16 20 2 ∨ FldSOK "EdgeWalk" 79 16 20 2 := Or.inl ⟨0, 20, RX0, TX0, tyX0, "EdgeWalk", rfl, rfl, (Nat.le_of_ble_eq_true rfl), rfl, cf_X0, Or.inl q381, Or.inl rfl⟩
theorem F_X0_76 : FldOK "EdgeWalk" 76 16 17 2 ∨ FldSOK "EdgeWalk" 76 16 17 2 := Or.inl ⟨0, 17, RX0, TX0, tyX0, "EdgeWalk", rfl, rfl, (Nat.le_of_ble_eq_true rfl), rfl, cf_X0, Or.inl q378, Or.inl rfl⟩
theorem b8_100 : (Int8.ofInt 100).toInt32 = Int32.ofInt 100 := by decide +kernel
theorem np__II_Z : npar "(II)Z" 2 := by unfold npar; decide +kernel
theorem SV_X0_276 : SiteV "EdgeWalk" 276 MD_X0_comesNearer 2 0 := ⟨q1093, q129, nm_EdgeWalk, np__II_Z, q1092, qs34, Or.inl q1090⟩
theorem cl_63 : 63 < NJ ∧ mL (MT 63) ≤ 64 := ⟨(Nat.le_of_ble_eq_true rfl), (Nat.le_of_ble_eq_true rfl)⟩
theorem SV_X0_270 : SiteV "EdgeWalk" 270 MD_X1_placeAlong 2 1 := ⟨q1018, q130, nm_EdgeWalk_Sheet, np__II_I, q1016, q1017, Or.inl q1094⟩
theorem cl_99 : 99 < NJ ∧ mL (MT 99) ≤ 64 := ⟨(Nat.le_of_ble_eq_true rfl), (Nat.le_of_ble_eq_true rfl)⟩
theorem SV_X0_273 : SiteV "EdgeWalk" 273 MD_X1_cellAt 2 1 := ⟨q946, q130, nm_EdgeWalk_Sheet, np__II_I, q944, q945, Or.inl q1095⟩
theorem cl_96 : 96 < NJ ∧ mL (MT 96) ≤ 64 := ⟨(Nat.le_of_ble_eq_true rfl), (Nat.le_of_ble_eq_true rfl)⟩
theorem KL_X0_293 : Jvm.Cond.constantLong "EdgeWalk" 293 (Int64.ofInt (40)) ∈ lw_all := by
  have e : Int64.ofInt (40) = (40 : Int64) := by decide +kernel
  rw [e]
  exact q1100
theorem SV_X0_295 : SiteV "EdgeWalk" 295 MD_X0_tries 0 0 := ⟨q1104, q129, nm_EdgeWalk, np___V, q1103, qs35, Or.inl q1101⟩
theorem cl_65 : 65 < NJ ∧ mL (MT 65) ≤ 64 := ⟨(Nat.le_of_ble_eq_true rfl), (Nat.le_of_ble_eq_true rfl)⟩
theorem SV_X0_298 : SiteV "EdgeWalk" 298 MD_X0_isBetter 1 0 := ⟨q1108, q129, nm_EdgeWalk, np__I_Z, q1107, qs36, Or.inl q1105⟩
theorem cl_66 : 66 < NJ ∧ mL (MT 66) ≤ 64 := ⟨(Nat.le_of_ble_eq_true rfl), (Nat.le_of_ble_eq_true rfl)⟩
theorem F_X0_287 : FldOK "EdgeWalk" 287 16 18 0 ∨ FldSOK "EdgeWalk" 287 16 18 0 := Or.inl ⟨0, 18, RX0, TX0, tyX0, "EdgeWalk", rfl, rfl, (Nat.le_of_ble_eq_true rfl), rfl, cf_X0, Or.inl q379, Or.inl rfl⟩
theorem F_X0_290 : FldOK "EdgeWalk" 290 16 19 0 ∨ FldSOK "EdgeWalk" 290 16 19 0 := Or.inl ⟨0, 19, RX0, TX0, tyX0, "EdgeWalk", rfl, rfl, (Nat.le_of_ble_eq_true rfl), rfl, cf_X0, Or.inl q380, Or.inl rfl⟩
theorem P_X0_287 {y : String} : PutOK "EdgeWalk" y 287 16 18 0 := ⟨0, 18, RX0, TX0, tyX0, "EdgeWalk", rfl, rfl, (Nat.le_of_ble_eq_true rfl), rfl, cf_X0, Or.inl rfl, Or.inl ⟨rfl, Or.inl q379⟩⟩
theorem nm_java_lang_Integer : ("java/lang/Integer" : String) ≠ "java/lang/invoke/MethodHandle" ∧ ("java/lang/Integer" : String) ≠ "java/lang/invoke/VarHandle" := by decide
theorem SS_X0_280 : SiteS "EdgeWalk" 280 MD_J15_bitCount 1 := ⟨rfl, q1111, q162, nm_java_lang_Integer, np__I_I, q1110, Or.inl q1109⟩
theorem cl_26 : 26 < NJ ∧ mL (MT 26) ≤ 64 := ⟨(Nat.le_of_ble_eq_true rfl), (Nat.le_of_ble_eq_true rfl)⟩
theorem SV_X0_284 : SiteV "EdgeWalk" 284 MD_X2_allFood 0 3 := ⟨q1118, q134, nm_EdgeWalk_State, np___I, q1116, q1117, Or.inl q1115⟩
theorem cl_108 : 108 < NJ ∧ mL (MT 108) ≤ 64 := ⟨(Nat.le_of_ble_eq_true rfl), (Nat.le_of_ble_eq_true rfl)⟩
theorem P_X0_290 {y : String} : PutOK "EdgeWalk" y 290 16 19 0 := ⟨0, 19, RX0, TX0, tyX0, "EdgeWalk", rfl, rfl, (Nat.le_of_ble_eq_true rfl), rfl, cf_X0, Or.inl rfl, Or.inl ⟨rfl, Or.inl q380⟩⟩
theorem np__III_V : npar "(III)V" 3 := by unfold npar; decide +kernel
theorem SV_X0_304 : SiteV "EdgeWalk" 304 MD_X0_laysFaces 3 0 := ⟨q1130, q129, nm_EdgeWalk, np__III_V, q1129, qs37, Or.inl q1127⟩
theorem cl_69 : 69 < NJ ∧ mL (MT 69) ≤ 64 := ⟨(Nat.le_of_ble_eq_true rfl), (Nat.le_of_ble_eq_true rfl)⟩
theorem SV_X0_308 : SiteV "EdgeWalk" 308 MD_X0_isRest 1 0 := ⟨q1137, q129, nm_EdgeWalk, np__I_Z, q1136, qs38, Or.inl q1134⟩
theorem cl_71 : 71 < NJ ∧ mL (MT 71) ≤ 64 := ⟨(Nat.le_of_ble_eq_true rfl), (Nat.le_of_ble_eq_true rfl)⟩
theorem F_X0_82 : FldOK "EdgeWalk" 82 16 21 2 ∨ FldSOK "EdgeWalk" 82 16 21 2 := Or.inl ⟨0, 21, RX0, TX0, tyX0, "EdgeWalk", rfl, rfl, (Nat.le_of_ble_eq_true rfl), rfl, cf_X0, Or.inl q382, Or.inl rfl⟩
theorem SS_X0_301 : SiteS "EdgeWalk" 301 MD_X0_has 2 := ⟨rfl, q1133, q129, nm_EdgeWalk, np__II_Z, q1132, Or.inl q1131⟩
theorem cl_70 : 70 < NJ ∧ mL (MT 70) ≤ 64 := ⟨(Nat.le_of_ble_eq_true rfl), (Nat.le_of_ble_eq_true rfl)⟩
theorem SV_X0_314 : SiteV "EdgeWalk" 314 MD_X0_laysAll 0 0 := ⟨q1145, q129, nm_EdgeWalk, np___V, q1144, qs39, Or.inl q1142⟩
theorem cl_73 : 73 < NJ ∧ mL (MT 73) ≤ 64 := ⟨(Nat.le_of_ble_eq_true rfl), (Nat.le_of_ble_eq_true rfl)⟩
theorem SV_X0_317 : SiteV "EdgeWalk" 317 MD_X0_areAlike 2 0 := ⟨q1149, q129, nm_EdgeWalk, np__II_Z, q1148, qs40, Or.inl q1146⟩
theorem cl_74 : 74 < NJ ∧ mL (MT 74) ≤ 64 := ⟨(Nat.le_of_ble_eq_true rfl), (Nat.le_of_ble_eq_true rfl)⟩
theorem F_X0_85 : FldOK "EdgeWalk" 85 16 22 2 ∨ FldSOK "EdgeWalk" 85 16 22 2 := Or.inl ⟨0, 22, RX0, TX0, tyX0, "EdgeWalk", rfl, rfl, (Nat.le_of_ble_eq_true rfl), rfl, cf_X0, Or.inl q383, Or.inl rfl⟩
theorem F_X0_311 : FldOK "EdgeWalk" 311 19 5 2 ∨ FldSOK "EdgeWalk" 311 19 5 2 := Or.inl ⟨3, 5, RX2, TX2, tyX2, "EdgeWalk$State", rfl, rfl, (Nat.le_of_ble_eq_true rfl), rfl, cf_X2, Or.inr ⟨_, q250⟩, Or.inl rfl⟩
theorem b8_25 : (Int8.ofInt 25).toInt32 = Int32.ofInt 25 := by decide +kernel
theorem KL_X0_320 : Jvm.Cond.constantLong "EdgeWalk" 320 (Int64.ofInt (9999)) ∈ lw_all := by
  have e : Int64.ofInt (9999) = (9999 : Int64) := by decide +kernel
  rw [e]
  exact q1154
theorem SV_X0_322 : SiteV "EdgeWalk" 322 MD_X0_shortOf 1 0 := ⟨q1158, q129, nm_EdgeWalk, np__I_I, q1157, qs41, Or.inl q1155⟩
theorem cl_76 : 76 < NJ ∧ mL (MT 76) ≤ 64 := ⟨(Nat.le_of_ble_eq_true rfl), (Nat.le_of_ble_eq_true rfl)⟩
theorem KL_X0_325 : Jvm.Cond.constantLong "EdgeWalk" 325 (Int64.ofInt (60)) ∈ lw_all := by
  have e : Int64.ofInt (60) = (60 : Int64) := by decide +kernel
  rw [e]
  exact q1163
theorem F_X0_132 : FldOK "EdgeWalk" 132 16 11 0 ∨ FldSOK "EdgeWalk" 132 16 11 0 := Or.inl ⟨0, 11, RX0, TX0, tyX0, "EdgeWalk", rfl, rfl, (Nat.le_of_ble_eq_true rfl), rfl, cf_X0, Or.inl q370, Or.inl rfl⟩
theorem F_X0_50 : FldOK "EdgeWalk" 50 16 8 2 ∨ FldSOK "EdgeWalk" 50 16 8 2 := Or.inl ⟨0, 8, RX0, TX0, tyX0, "EdgeWalk", rfl, rfl, (Nat.le_of_ble_eq_true rfl), rfl, cf_X0, Or.inl q364, Or.inl rfl⟩
theorem F_X0_54 : FldOK "EdgeWalk" 54 16 9 2 ∨ FldSOK "EdgeWalk" 54 16 9 2 := Or.inl ⟨0, 9, RX0, TX0, tyX0, "EdgeWalk", rfl, rfl, (Nat.le_of_ble_eq_true rfl), rfl, cf_X0, Or.inl q366, Or.inl rfl⟩
theorem F_X0_57 : FldOK "EdgeWalk" 57 16 10 2 ∨ FldSOK "EdgeWalk" 57 16 10 2 := Or.inl ⟨0, 10, RX0, TX0, tyX0, "EdgeWalk", rfl, rfl, (Nat.le_of_ble_eq_true rfl), rfl, cf_X0, Or.inl q368, Or.inl rfl⟩
theorem b8___3_ : (Int8.ofInt (-3)).toInt32 = Int32.ofInt (-3) := by decide +kernel
theorem SV_X0_333 : SiteV "EdgeWalk" 333 MD_X0_couldRule 1 0 := ⟨q1171, q129, nm_EdgeWalk, np__I_Z, q1170, qs42, Or.inl q1168⟩
theorem cl_79 : 79 < NJ ∧ mL (MT 79) ≤ 64 := ⟨(Nat.le_of_ble_eq_true rfl), (Nat.le_of_ble_eq_true rfl)⟩
theorem SV_X0_330 : SiteV "EdgeWalk" 330 MD_X0_doNotesFit 0 0 := ⟨q1175, q129, nm_EdgeWalk, np___Z, q1174, qs43, Or.inl q1172⟩
theorem cl_80 : 80 < NJ ∧ mL (MT 80) ≤ 64 := ⟨(Nat.le_of_ble_eq_true rfl), (Nat.le_of_ble_eq_true rfl)⟩
theorem SV_X0_327 : SiteV "EdgeWalk" 327 MD_X0_cellThen 2 0 := ⟨q1179, q129, nm_EdgeWalk, np__II_I, q1178, qs44, Or.inl q1176⟩
theorem cl_81 : 81 < NJ ∧ mL (MT 81) ≤ 64 := ⟨(Nat.le_of_ble_eq_true rfl), (Nat.le_of_ble_eq_true rfl)⟩
theorem F_X0_88 : FldOK "EdgeWalk" 88 16 23 2 ∨ FldSOK "EdgeWalk" 88 16 23 2 := Or.inl ⟨0, 23, RX0, TX0, tyX0, "EdgeWalk", rfl, rfl, (Nat.le_of_ble_eq_true rfl), rfl, cf_X0, Or.inl q384, Or.inl rfl⟩
theorem SV_X0_339 : SiteV "EdgeWalk" 339 MD_X0_mostAlike 2 0 := ⟨q1187, q129, nm_EdgeWalk, np__II_I, q1186, qs45, Or.inl q1184⟩
theorem cl_83 : 83 < NJ ∧ mL (MT 83) ≤ 64 := ⟨(Nat.le_of_ble_eq_true rfl), (Nat.le_of_ble_eq_true rfl)⟩
theorem SS_X0_336 : SiteS "EdgeWalk" 336 MD_J11_max 2 := ⟨rfl, q639, q147, nm_java_lang_Math, np__II_I, q638, Or.inl q1188⟩
theorem b16_256 : (Int16.ofInt 256).toInt32 = Int32.ofInt 256 := by decide +kernel
theorem SV_X0_342 : SiteV "EdgeWalk" 342 MD_X0_couldFold 1 0 := ⟨q1196, q129, nm_EdgeWalk, np__I_Z, q1195, qs46, Or.inl q1193⟩
theorem cl_85 : 85 < NJ ∧ mL (MT 85) ≤ 64 := ⟨(Nat.le_of_ble_eq_true rfl), (Nat.le_of_ble_eq_true rfl)⟩
theorem F_X0_345 : FldOK "EdgeWalk" 345 16 12 0 ∨ FldSOK "EdgeWalk" 345 16 12 0 := Or.inl ⟨0, 12, RX0, TX0, tyX0, "EdgeWalk", rfl, rfl, (Nat.le_of_ble_eq_true rfl), rfl, cf_X0, Or.inl q372, Or.inl rfl⟩
theorem P_X0_345 {y : String} : PutOK "EdgeWalk" y 345 16 12 0 := ⟨0, 12, RX0, TX0, tyX0, "EdgeWalk", rfl, rfl, (Nat.le_of_ble_eq_true rfl), rfl, cf_X0, Or.inl rfl, Or.inl ⟨rfl, Or.inl q372⟩⟩
theorem KL_X0_358 : Jvm.Cond.constantLong "EdgeWalk" 358 (Int64.ofInt (10)) ∈ lw_all := by
  have e : Int64.ofInt (10) = (10 : Int64) := by decide +kernel
  rw [e]
  exact q1205
theorem SV_X0_360 : SiteV "EdgeWalk" 360 MD_X0_drawsGust 1 0 := ⟨q1209, q129, nm_EdgeWalk, np__I_V, q1208, qs47, Or.inl q1206⟩
theorem cl_88 : 88 < NJ ∧ mL (MT 88) ≤ 64 := ⟨(Nat.le_of_ble_eq_true rfl), (Nat.le_of_ble_eq_true rfl)⟩
theorem SV_X0_355 : SiteV "EdgeWalk" 355 MD_X0_draws 1 0 := ⟨q1213, q129, nm_EdgeWalk, np__I_I, q1212, qs48, Or.inl q1210⟩
theorem cl_89 : 89 < NJ ∧ mL (MT 89) ≤ 64 := ⟨(Nat.le_of_ble_eq_true rfl), (Nat.le_of_ble_eq_true rfl)⟩
theorem KL_X0_348 : Jvm.Cond.constantLong "EdgeWalk" 348 (Int64.ofInt (1103515245)) ∈ lw_all := by
  have e : Int64.ofInt (1103515245) = (1103515245 : Int64) := by decide +kernel
  rw [e]
  exact q1214
theorem KL_X0_350 : Jvm.Cond.constantLong "EdgeWalk" 350 (Int64.ofInt (12345)) ∈ lw_all := by
  have e : Int64.ofInt (12345) = (12345 : Int64) := by decide +kernel
  rw [e]
  exact q1215
theorem KL_X0_352 : Jvm.Cond.constantLong "EdgeWalk" 352 (Int64.ofInt (2147483648)) ∈ lw_all := by
  have e : Int64.ofInt (2147483648) = (2147483648 : Int64) := by decide +kernel
  rw [e]
  exact q1216
theorem K_X0_354 : Jvm.Cond.constant "EdgeWalk" 354 (Int32.ofInt (65536)) ∈ lw_all := by
  have e : Int32.ofInt (65536) = (65536 : Int32) := by decide +kernel
  rw [e]
  exact q1217
theorem TS_X0_count_1 : InsOK MD_X0_count 1 (.tableswitch 163 0 12 #[67, 75, 83, 91, 96, 104, 114, 124, 132, 143, 148, 153, 158], 68, 164, [(0, 68), (1, 76), (2, 84), (3, 92), (4, 97), (5, 105), (6, 115), (7, 125), (8, 133), (9, 144), (10, 149), (11, 154), (12, 159)]) := And.intro (Exists.intro _ dX0_count_1) (And.intro rfl (And.intro (allc ⟨by decide, by decide, (67), rfl, rfl⟩ (allc ⟨by decide, by decide, (75), rfl, rfl⟩ (allc ⟨by decide, by decide, (83), rfl, rfl⟩ (allc ⟨by decide, by decide, (91), rfl, rfl⟩ (allc ⟨by decide, by decide, (96), rfl, rfl⟩ (allc ⟨by decide, by decide, (104), rfl, rfl⟩ (allc ⟨by decide, by decide, (114), rfl, rfl⟩ (allc ⟨by decide, by decide, (124), rfl, rfl⟩ (allc ⟨by decide, by decide, (132), rfl, rfl⟩ (allc ⟨by decide, by decide, (143), rfl, rfl⟩ (allc ⟨by decide, by decide, (148), rfl, rfl⟩ (allc ⟨by decide, by decide, (153), rfl, rfl⟩ (allc ⟨by decide, by decide, (158), rfl, rfl⟩ all0))))))))))))) (by
  intro z h1 h2
  have h3 : z = 0 ∨ z = 1 ∨ z = 2 ∨ z = 3 ∨ z = 4 ∨ z = 5 ∨ z = 6 ∨ z = 7 ∨ z = 8 ∨ z = 9 ∨ z = 10 ∨ z = 11 ∨ z = 12 := by omega
  rcases h3 with rfl | rfl | rfl | rfl | rfl | rfl | rfl | rfl | rfl | rfl | rfl | rfl | rfl
  · exact ⟨(0, 68), List.mem_of_getElem? (i := 0) rfl, rfl⟩
  · exact ⟨(1, 76), List.mem_of_getElem? (i := 1) rfl, rfl⟩
  · exact ⟨(2, 84), List.mem_of_getElem? (i := 2) rfl, rfl⟩
  · exact ⟨(3, 92), List.mem_of_getElem? (i := 3) rfl, rfl⟩
  · exact ⟨(4, 97), List.mem_of_getElem? (i := 4) rfl, rfl⟩
  · exact ⟨(5, 105), List.mem_of_getElem? (i := 5) rfl, rfl⟩
  · exact ⟨(6, 115), List.mem_of_getElem? (i := 6) rfl, rfl⟩
  · exact ⟨(7, 125), List.mem_of_getElem? (i := 7) rfl, rfl⟩
  · exact ⟨(8, 133), List.mem_of_getElem? (i := 8) rfl, rfl⟩
  · exact ⟨(9, 144), List.mem_of_getElem? (i := 9) rfl, rfl⟩
  · exact ⟨(10, 149), List.mem_of_getElem? (i := 10) rfl, rfl⟩
  · exact ⟨(11, 154), List.mem_of_getElem? (i := 11) rfl, rfl⟩
  · exact ⟨(12, 159), List.mem_of_getElem? (i := 12) rfl, rfl⟩)))
theorem F_X0_93 : FldOK "EdgeWalk" 93 16 24 2 ∨ FldSOK "EdgeWalk" 93 16 24 2 := Or.inl ⟨0, 24, RX0, TX0, tyX0, "EdgeWalk", rfl, rfl, (Nat.le_of_ble_eq_true rfl), rfl, cf_X0, Or.inl q385, Or.inl rfl⟩
theorem N_X0_91 : NewOK "EdgeWalk" 91 32 9 := ⟨16, RX17, TX17, tyX17, rfl, cf_X17, q347, q1226, q163⟩
theorem nm_EdgeWalk_Image : ("EdgeWalk$Image" : String) ≠ "java/lang/invoke/MethodHandle" ∧ ("EdgeWalk$Image" : String) ≠ "java/lang/invoke/VarHandle" := by decide
theorem np__LEdgeWalk__V : npar "(LEdgeWalk;)V" 1 := by unfold npar; decide +kernel
theorem SI_X0_363 : SiteI "EdgeWalk" 363 MD_X17_init 1 := ⟨rfl, rfl, rfl, q1229, q163, nm_EdgeWalk_Image, np__LEdgeWalk__V, q1228, Or.inr ⟨_, q1227⟩⟩
theorem cl_271 : 271 < NJ ∧ mL (MT 271) ≤ 64 := ⟨(Nat.le_of_ble_eq_true rfl), (Nat.le_of_ble_eq_true rfl)⟩
theorem SV_X0_366 : SiteV "EdgeWalk" 366 MD_X17_keep 0 16 := ⟨q1264, q163, nm_EdgeWalk_Image, np___V, q1262, q1263, Or.inl q1261⟩
theorem cl_272 : 272 < NJ ∧ mL (MT 272) ≤ 64 := ⟨(Nat.le_of_ble_eq_true rfl), (Nat.le_of_ble_eq_true rfl)⟩
theorem SV_X0_369 : SiteV "EdgeWalk" 369 MD_X17_back 0 16 := ⟨q1273, q163, nm_EdgeWalk_Image, np___V, q1271, q1272, Or.inl q1270⟩
theorem cl_273 : 273 < NJ ∧ mL (MT 273) ≤ 64 := ⟨(Nat.le_of_ble_eq_true rfl), (Nat.le_of_ble_eq_true rfl)⟩
theorem N_X1_9 : NewOK "EdgeWalk$Sheet" 9 18 3 := ⟨2, RJ2, TJ2, tyJ2, rfl, cf_J2, q178, q179, q133⟩
theorem SI_X1_11 : SiteI "EdgeWalk$Sheet" 11 MD_J2_init 1 := ⟨rfl, rfl, rfl, q182, q133, nm_java_util_ArrayList, np__I_V, q181, Or.inl q180⟩
theorem P_X1_14 : PutOK "EdgeWalk$Sheet" "<init>" 14 17 0 2 := ⟨1, 0, RX1, TX1, tyX1, "EdgeWalk$Sheet", rfl, rfl, (Nat.le_of_ble_eq_true rfl), rfl, cf_X1, Or.inl rfl, Or.inr ⟨rfl, rfl, rfl, q206⟩⟩
theorem P_X1_20 : PutOK "EdgeWalk$Sheet" "<init>" 20 17 1 2 := ⟨1, 1, RX1, TX1, tyX1, "EdgeWalk$Sheet", rfl, rfl, (Nat.le_of_ble_eq_true rfl), rfl, cf_X1, Or.inl rfl, Or.inr ⟨rfl, rfl, rfl, q209⟩⟩
theorem P_X1_24 : PutOK "EdgeWalk$Sheet" "<init>" 24 17 2 2 := ⟨1, 2, RX1, TX1, tyX1, "EdgeWalk$Sheet", rfl, rfl, (Nat.le_of_ble_eq_true rfl), rfl, cf_X1, Or.inl rfl, Or.inr ⟨rfl, rfl, rfl, q212⟩⟩
theorem F_X1_14 : FldOK "EdgeWalk$Sheet" 14 17 0 2 ∨ FldSOK "EdgeWalk$Sheet" 14 17 0 2 := Or.inl ⟨1, 0, RX1, TX1, tyX1, "EdgeWalk$Sheet", rfl, rfl, (Nat.le_of_ble_eq_true rfl), rfl, cf_X1, Or.inl q206, Or.inl rfl⟩
theorem SV_X1_27 : SiteV "EdgeWalk$Sheet" 27 MD_J2_size 0 2 := ⟨q585, q133, nm_java_util_ArrayList, np___I, q583, q584, Or.inl q582⟩
theorem F_X1_31 : FldOK "EdgeWalk$Sheet" 31 17 3 0 ∨ FldSOK "EdgeWalk$Sheet" 31 17 3 0 := Or.inl ⟨1, 3, RX1, TX1, tyX1, "EdgeWalk$Sheet", rfl, rfl, (Nat.le_of_ble_eq_true rfl), rfl, cf_X1, Or.inl q216, Or.inl rfl⟩
theorem TS_X1_cellAt_1 : InsOK MD_X1_cellAt 1 (.tableswitch 57 0 2 #[27, 29, 43], 28, 58, [(0, 28), (1, 30), (2, 44)]) := And.intro (Exists.intro _ dX1_cellAt_1) (And.intro rfl (And.intro (allc ⟨by decide, by decide, (27), rfl, rfl⟩ (allc ⟨by decide, by decide, (29), rfl, rfl⟩ (allc ⟨by decide, by decide, (43), rfl, rfl⟩ all0))) (by
  intro z h1 h2
  have h3 : z = 0 ∨ z = 1 ∨ z = 2 := by omega
  rcases h3 with rfl | rfl | rfl
  · exact ⟨(0, 28), List.mem_of_getElem? (i := 0) rfl, rfl⟩
  · exact ⟨(1, 30), List.mem_of_getElem? (i := 1) rfl, rfl⟩
  · exact ⟨(2, 44), List.mem_of_getElem? (i := 2) rfl, rfl⟩)))
theorem TS_X1_margin_1 : InsOK MD_X1_margin 1 (.tableswitch 62 0 2 #[27, 34, 48], 28, 63, [(0, 28), (1, 35), (2, 49)]) := And.intro (Exists.intro _ dX1_margin_1) (And.intro rfl (And.intro (allc ⟨by decide, by decide, (27), rfl, rfl⟩ (allc ⟨by decide, by decide, (34), rfl, rfl⟩ (allc ⟨by decide, by decide, (48), rfl, rfl⟩ all0))) (by
  intro z h1 h2
  have h3 : z = 0 ∨ z = 1 ∨ z = 2 := by omega
  rcases h3 with rfl | rfl | rfl
  · exact ⟨(0, 28), List.mem_of_getElem? (i := 0) rfl, rfl⟩
  · exact ⟨(1, 35), List.mem_of_getElem? (i := 1) rfl, rfl⟩
  · exact ⟨(2, 49), List.mem_of_getElem? (i := 2) rfl, rfl⟩)))
theorem P_X2_9 : PutOK "EdgeWalk$State" "<init>" 9 19 0 2 := ⟨3, 0, RX2, TX2, tyX2, "EdgeWalk$State", rfl, rfl, (Nat.le_of_ble_eq_true rfl), rfl, cf_X2, Or.inl rfl, Or.inr ⟨rfl, rfl, rfl, q239⟩⟩
theorem P_X2_15 : PutOK "EdgeWalk$State" "<init>" 15 19 1 2 := ⟨3, 1, RX2, TX2, tyX2, "EdgeWalk$State", rfl, rfl, (Nat.le_of_ble_eq_true rfl), rfl, cf_X2, Or.inl rfl, Or.inr ⟨rfl, rfl, rfl, q241⟩⟩
theorem P_X2_18 : PutOK "EdgeWalk$State" "<init>" 18 19 2 2 := ⟨3, 2, RX2, TX2, tyX2, "EdgeWalk$State", rfl, rfl, (Nat.le_of_ble_eq_true rfl), rfl, cf_X2, Or.inl rfl, Or.inr ⟨rfl, rfl, rfl, q243⟩⟩
theorem P_X2_21 : PutOK "EdgeWalk$State" "<init>" 21 19 3 2 := ⟨3, 3, RX2, TX2, tyX2, "EdgeWalk$State", rfl, rfl, (Nat.le_of_ble_eq_true rfl), rfl, cf_X2, Or.inl rfl, Or.inr ⟨rfl, rfl, rfl, q245⟩⟩
theorem P_X2_24 : PutOK "EdgeWalk$State" "<init>" 24 19 4 2 := ⟨3, 4, RX2, TX2, tyX2, "EdgeWalk$State", rfl, rfl, (Nat.le_of_ble_eq_true rfl), rfl, cf_X2, Or.inl rfl, Or.inr ⟨rfl, rfl, rfl, q247⟩⟩
theorem P_X2_27 : PutOK "EdgeWalk$State" "<init>" 27 19 5 2 := ⟨3, 5, RX2, TX2, tyX2, "EdgeWalk$State", rfl, rfl, (Nat.le_of_ble_eq_true rfl), rfl, cf_X2, Or.inl rfl, Or.inr ⟨rfl, rfl, rfl, q249⟩⟩
theorem P_X2_30 : PutOK "EdgeWalk$State" "<init>" 30 19 6 2 := ⟨3, 6, RX2, TX2, tyX2, "EdgeWalk$State", rfl, rfl, (Nat.le_of_ble_eq_true rfl), rfl, cf_X2, Or.inl rfl, Or.inr ⟨rfl, rfl, rfl, q251⟩⟩
theorem P_X2_33 : PutOK "EdgeWalk$State" "<init>" 33 19 7 2 := ⟨3, 7, RX2, TX2, tyX2, "EdgeWalk$State", rfl, rfl, (Nat.le_of_ble_eq_true rfl), rfl, cf_X2, Or.inl rfl, Or.inr ⟨rfl, rfl, rfl, q253⟩⟩
theorem SV_X2_44 : SiteV "EdgeWalk$State" 44 MD_X1_goers 0 1 := ⟨q581, q130, nm_EdgeWalk_Sheet, np___I, q579, q580, Or.inl q694⟩
theorem F_X2_9 : FldOK "EdgeWalk$State" 9 19 0 2 ∨ FldSOK "EdgeWalk$State" 9 19 0 2 := Or.inl ⟨3, 0, RX2, TX2, tyX2, "EdgeWalk$State", rfl, rfl, (Nat.le_of_ble_eq_true rfl), rfl, cf_X2, Or.inl q239, Or.inl rfl⟩
theorem F_X2_15 : FldOK "EdgeWalk$State" 15 19 1 2 ∨ FldSOK "EdgeWalk$State" 15 19 1 2 := Or.inl ⟨3, 1, RX2, TX2, tyX2, "EdgeWalk$State", rfl, rfl, (Nat.le_of_ble_eq_true rfl), rfl, cf_X2, Or.inl q241, Or.inl rfl⟩
theorem F_X2_50 : FldOK "EdgeWalk$State" 50 17 0 2 ∨ FldSOK "EdgeWalk$State" 50 17 0 2 := Or.inl ⟨1, 0, RX1, TX1, tyX1, "EdgeWalk$Sheet", rfl, rfl, (Nat.le_of_ble_eq_true rfl), rfl, cf_X1, Or.inr ⟨_, q207⟩, Or.inl rfl⟩
theorem SV_X2_53 : SiteV "EdgeWalk$State" 53 MD_J2_get 1 2 := ⟨q698, q133, nm_java_util_ArrayList, np__I_Ljava_lang_Object_, q696, q697, Or.inl q695⟩
theorem F_X2_61 : FldOK "EdgeWalk$State" 61 23 0 0 ∨ FldSOK "EdgeWalk$State" 61 23 0 0 := Or.inl ⟨7, 0, RX6, TX6, tyX6, "EdgeWalk$Goer", rfl, rfl, (Nat.le_of_ble_eq_true rfl), rfl, cf_X6, Or.inr ⟨_, q604⟩, Or.inl rfl⟩
theorem F_X2_18 : FldOK "EdgeWalk$State" 18 19 2 2 ∨ FldSOK "EdgeWalk$State" 18 19 2 2 := Or.inl ⟨3, 2, RX2, TX2, tyX2, "EdgeWalk$State", rfl, rfl, (Nat.le_of_ble_eq_true rfl), rfl, cf_X2, Or.inl q243, Or.inl rfl⟩
theorem F_X2_63 : FldOK "EdgeWalk$State" 63 23 1 0 ∨ FldSOK "EdgeWalk$State" 63 23 1 0 := Or.inl ⟨7, 1, RX6, TX6, tyX6, "EdgeWalk$Goer", rfl, rfl, (Nat.le_of_ble_eq_true rfl), rfl, cf_X6, Or.inr ⟨_, q606⟩, Or.inl rfl⟩
theorem F_X2_21 : FldOK "EdgeWalk$State" 21 19 3 2 ∨ FldSOK "EdgeWalk$State" 21 19 3 2 := Or.inl ⟨3, 3, RX2, TX2, tyX2, "EdgeWalk$State", rfl, rfl, (Nat.le_of_ble_eq_true rfl), rfl, cf_X2, Or.inl q245, Or.inl rfl⟩
theorem F_X2_65 : FldOK "EdgeWalk$State" 65 23 2 0 ∨ FldSOK "EdgeWalk$State" 65 23 2 0 := Or.inl ⟨7, 2, RX6, TX6, tyX6, "EdgeWalk$Goer", rfl, rfl, (Nat.le_of_ble_eq_true rfl), rfl, cf_X6, Or.inr ⟨_, q608⟩, Or.inl rfl⟩
theorem F_X2_24 : FldOK "EdgeWalk$State" 24 19 4 2 ∨ FldSOK "EdgeWalk$State" 24 19 4 2 := Or.inl ⟨3, 4, RX2, TX2, tyX2, "EdgeWalk$State", rfl, rfl, (Nat.le_of_ble_eq_true rfl), rfl, cf_X2, Or.inl q247, Or.inl rfl⟩
theorem F_X2_27 : FldOK "EdgeWalk$State" 27 19 5 2 ∨ FldSOK "EdgeWalk$State" 27 19 5 2 := Or.inl ⟨3, 5, RX2, TX2, tyX2, "EdgeWalk$State", rfl, rfl, (Nat.le_of_ble_eq_true rfl), rfl, cf_X2, Or.inl q249, Or.inl rfl⟩
theorem F_X2_30 : FldOK "EdgeWalk$State" 30 19 6 2 ∨ FldSOK "EdgeWalk$State" 30 19 6 2 := Or.inl ⟨3, 6, RX2, TX2, tyX2, "EdgeWalk$State", rfl, rfl, (Nat.le_of_ble_eq_true rfl), rfl, cf_X2, Or.inl q251, Or.inl rfl⟩
theorem F_X2_33 : FldOK "EdgeWalk$State" 33 19 7 2 ∨ FldSOK "EdgeWalk$State" 33 19 7 2 := Or.inl ⟨3, 7, RX2, TX2, tyX2, "EdgeWalk$State", rfl, rfl, (Nat.le_of_ble_eq_true rfl), rfl, cf_X2, Or.inl q253, Or.inl rfl⟩
theorem F_X2_67 : FldOK "EdgeWalk$State" 67 17 1 2 ∨ FldSOK "EdgeWalk$State" 67 17 1 2 := Or.inl ⟨1, 1, RX1, TX1, tyX1, "EdgeWalk$Sheet", rfl, rfl, (Nat.le_of_ble_eq_true rfl), rfl, cf_X1, Or.inr ⟨_, q210⟩, Or.inl rfl⟩
theorem P_X2_36 {y : String} : PutOK "EdgeWalk$State" y 36 19 8 0 := ⟨3, 8, RX2, TX2, tyX2, "EdgeWalk$State", rfl, rfl, (Nat.le_of_ble_eq_true rfl), rfl, cf_X2, Or.inl rfl, Or.inl ⟨rfl, Or.inl q255⟩⟩
theorem F_X2_68 : FldOK "EdgeWalk$State" 68 17 4 1 ∨ FldSOK "EdgeWalk$State" 68 17 4 1 := Or.inl ⟨1, 4, RX1, TX1, tyX1, "EdgeWalk$Sheet", rfl, rfl, (Nat.le_of_ble_eq_true rfl), rfl, cf_X1, Or.inr ⟨_, q219⟩, Or.inl rfl⟩
theorem P_X2_40 {y : String} : PutOK "EdgeWalk$State" y 40 19 9 1 := ⟨3, 9, RX2, TX2, tyX2, "EdgeWalk$State", rfl, rfl, (Nat.le_of_ble_eq_true rfl), rfl, cf_X2, Or.inl rfl, Or.inl ⟨rfl, Or.inl q257⟩⟩
theorem F_X2_40 : FldOK "EdgeWalk$State" 40 19 9 1 ∨ FldSOK "EdgeWalk$State" 40 19 9 1 := Or.inl ⟨3, 9, RX2, TX2, tyX2, "EdgeWalk$State", rfl, rfl, (Nat.le_of_ble_eq_true rfl), rfl, cf_X2, Or.inl q257, Or.inl rfl⟩
theorem F_X2_36 : FldOK "EdgeWalk$State" 36 19 8 0 ∨ FldSOK "EdgeWalk$State" 36 19 8 0 := Or.inl ⟨3, 8, RX2, TX2, tyX2, "EdgeWalk$State", rfl, rfl, (Nat.le_of_ble_eq_true rfl), rfl, cf_X2, Or.inl q255, Or.inl rfl⟩
theorem SV_X2_90 : SiteV "EdgeWalk$State" 90 MD_X1_cellAt 2 1 := ⟨q946, q130, nm_EdgeWalk_Sheet, np__II_I, q944, q945, Or.inl q943⟩
theorem SV_X2_86 : SiteV "EdgeWalk$State" 86 MD_X2_isStone 1 3 := ⟨q914, q134, nm_EdgeWalk_State, np__I_Z, q912, q913, Or.inl q947⟩
theorem SS_X2_69 : SiteS "EdgeWalk$State" 69 MD_X0_bit 1 := ⟨rfl, q917, q129, nm_EdgeWalk, np__Z_I, q916, Or.inr ⟨_, q964⟩⟩
theorem SV_X2_73 : SiteV "EdgeWalk$State" 73 MD_X1_margin 2 1 := ⟨q955, q130, nm_EdgeWalk_Sheet, np__II_I, q953, q954, Or.inl q1014⟩
theorem SV_X2_77 : SiteV "EdgeWalk$State" 77 MD_X1_placeAlong 2 1 := ⟨q1018, q130, nm_EdgeWalk_Sheet, np__II_I, q1016, q1017, Or.inl q1015⟩
theorem F_X2_80 : FldOK "EdgeWalk$State" 80 17 2 2 ∨ FldSOK "EdgeWalk$State" 80 17 2 2 := Or.inl ⟨1, 2, RX1, TX1, tyX1, "EdgeWalk$Sheet", rfl, rfl, (Nat.le_of_ble_eq_true rfl), rfl, cf_X1, Or.inr ⟨_, q213⟩, Or.inl rfl⟩
theorem SV_X2_83 : SiteV "EdgeWalk$State" 83 MD_X1_next 2 1 := ⟨q959, q130, nm_EdgeWalk_Sheet, np__II_I, q957, q958, Or.inl q1019⟩
theorem P_X4_7 : PutOK "EdgeWalkModel" "<init>" 7 21 0 2 := ⟨5, 0, RX4, TX4, tyX4, "EdgeWalkModel", rfl, rfl, (Nat.le_of_ble_eq_true rfl), rfl, cf_X4, Or.inl rfl, Or.inr ⟨rfl, rfl, rfl, q1280⟩⟩
theorem b16_2400 : (Int16.ofInt 2400).toInt32 = Int32.ofInt 2400 := by decide +kernel
theorem P_X4_13 : PutOK "EdgeWalkModel" "<init>" 13 21 3 2 := ⟨5, 3, RX4, TX4, tyX4, "EdgeWalkModel", rfl, rfl, (Nat.le_of_ble_eq_true rfl), rfl, cf_X4, Or.inl rfl, Or.inr ⟨rfl, rfl, rfl, q1283⟩⟩
theorem P_X4_17 : PutOK "EdgeWalkModel" "<init>" 17 21 4 2 := ⟨5, 4, RX4, TX4, tyX4, "EdgeWalkModel", rfl, rfl, (Nat.le_of_ble_eq_true rfl), rfl, cf_X4, Or.inl rfl, Or.inr ⟨rfl, rfl, rfl, q1284⟩⟩
theorem b16_288 : (Int16.ofInt 288).toInt32 = Int32.ofInt 288 := by decide +kernel
theorem P_X4_20 : PutOK "EdgeWalkModel" "<init>" 20 21 5 2 := ⟨5, 5, RX4, TX4, tyX4, "EdgeWalkModel", rfl, rfl, (Nat.le_of_ble_eq_true rfl), rfl, cf_X4, Or.inl rfl, Or.inr ⟨rfl, rfl, rfl, q1285⟩⟩
theorem P_X4_23 : PutOK "EdgeWalkModel" "<init>" 23 21 6 2 := ⟨5, 6, RX4, TX4, tyX4, "EdgeWalkModel", rfl, rfl, (Nat.le_of_ble_eq_true rfl), rfl, cf_X4, Or.inl rfl, Or.inr ⟨rfl, rfl, rfl, q1286⟩⟩
theorem b16_145 : (Int16.ofInt 145).toInt32 = Int32.ofInt 145 := by decide +kernel
theorem P_X4_26 : PutOK "EdgeWalkModel" "<init>" 26 21 7 2 := ⟨5, 7, RX4, TX4, tyX4, "EdgeWalkModel", rfl, rfl, (Nat.le_of_ble_eq_true rfl), rfl, cf_X4, Or.inl rfl, Or.inr ⟨rfl, rfl, rfl, q1287⟩⟩
theorem P_X4_29 : PutOK "EdgeWalkModel" "<init>" 29 21 15 2 := ⟨5, 15, RX4, TX4, tyX4, "EdgeWalkModel", rfl, rfl, (Nat.le_of_ble_eq_true rfl), rfl, cf_X4, Or.inl rfl, Or.inr ⟨rfl, rfl, rfl, q1295⟩⟩
theorem b8_64 : (Int8.ofInt 64).toInt32 = Int32.ofInt 64 := by decide +kernel
theorem P_X4_32 : PutOK "EdgeWalkModel" "<init>" 32 21 17 2 := ⟨5, 17, RX4, TX4, tyX4, "EdgeWalkModel", rfl, rfl, (Nat.le_of_ble_eq_true rfl), rfl, cf_X4, Or.inl rfl, Or.inr ⟨rfl, rfl, rfl, q1297⟩⟩
theorem b8_11 : (Int8.ofInt 11).toInt32 = Int32.ofInt 11 := by decide +kernel
theorem P_X4_36 : PutOK "EdgeWalkModel" "<init>" 36 21 19 2 := ⟨5, 19, RX4, TX4, tyX4, "EdgeWalkModel", rfl, rfl, (Nat.le_of_ble_eq_true rfl), rfl, cf_X4, Or.inl rfl, Or.inr ⟨rfl, rfl, rfl, q1299⟩⟩
theorem b16_176 : (Int16.ofInt 176).toInt32 = Int32.ofInt 176 := by decide +kernel
theorem P_X4_39 : PutOK "EdgeWalkModel" "<init>" 39 21 20 2 := ⟨5, 20, RX4, TX4, tyX4, "EdgeWalkModel", rfl, rfl, (Nat.le_of_ble_eq_true rfl), rfl, cf_X4, Or.inl rfl, Or.inr ⟨rfl, rfl, rfl, q1300⟩⟩
theorem P_X4_42 {y : String} : PutOK "EdgeWalkModel" y 42 21 21 0 := ⟨5, 21, RX4, TX4, tyX4, "EdgeWalkModel", rfl, rfl, (Nat.le_of_ble_eq_true rfl), rfl, cf_X4, Or.inl rfl, Or.inl ⟨rfl, Or.inl q1301⟩⟩
theorem b16_1520 : (Int16.ofInt 1520).toInt32 = Int32.ofInt 1520 := by decide +kernel
theorem P_X4_46 : PutOK "EdgeWalkModel" "<init>" 46 21 23 2 := ⟨5, 23, RX4, TX4, tyX4, "EdgeWalkModel", rfl, rfl, (Nat.le_of_ble_eq_true rfl), rfl, cf_X4, Or.inl rfl, Or.inr ⟨rfl, rfl, rfl, q1303⟩⟩
theorem b8_76 : (Int8.ofInt 76).toInt32 = Int32.ofInt 76 := by decide +kernel
theorem P_X4_49 : PutOK "EdgeWalkModel" "<init>" 49 21 25 2 := ⟨5, 25, RX4, TX4, tyX4, "EdgeWalkModel", rfl, rfl, (Nat.le_of_ble_eq_true rfl), rfl, cf_X4, Or.inl rfl, Or.inr ⟨rfl, rfl, rfl, q1305⟩⟩
theorem P_X4_52 : PutOK "EdgeWalkModel" "<init>" 52 21 26 2 := ⟨5, 26, RX4, TX4, tyX4, "EdgeWalkModel", rfl, rfl, (Nat.le_of_ble_eq_true rfl), rfl, cf_X4, Or.inl rfl, Or.inr ⟨rfl, rfl, rfl, q1306⟩⟩
theorem P_X4_55 : PutOK "EdgeWalkModel" "<init>" 55 21 27 2 := ⟨5, 27, RX4, TX4, tyX4, "EdgeWalkModel", rfl, rfl, (Nat.le_of_ble_eq_true rfl), rfl, cf_X4, Or.inl rfl, Or.inr ⟨rfl, rfl, rfl, q1307⟩⟩
theorem P_X4_59 : PutOK "EdgeWalkModel" "<init>" 59 21 28 2 := ⟨5, 28, RX4, TX4, tyX4, "EdgeWalkModel", rfl, rfl, (Nat.le_of_ble_eq_true rfl), rfl, cf_X4, Or.inl rfl, Or.inr ⟨rfl, rfl, rfl, q1308⟩⟩
theorem P_X4_62 : PutOK "EdgeWalkModel" "<init>" 62 21 32 2 := ⟨5, 32, RX4, TX4, tyX4, "EdgeWalkModel", rfl, rfl, (Nat.le_of_ble_eq_true rfl), rfl, cf_X4, Or.inl rfl, Or.inr ⟨rfl, rfl, rfl, q1312⟩⟩
theorem b16_305 : (Int16.ofInt 305).toInt32 = Int32.ofInt 305 := by decide +kernel
theorem P_X4_65 : PutOK "EdgeWalkModel" "<init>" 65 21 33 2 := ⟨5, 33, RX4, TX4, tyX4, "EdgeWalkModel", rfl, rfl, (Nat.le_of_ble_eq_true rfl), rfl, cf_X4, Or.inl rfl, Or.inr ⟨rfl, rfl, rfl, q1313⟩⟩
theorem P_X4_68 : PutOK "EdgeWalkModel" "<init>" 68 21 34 2 := ⟨5, 34, RX4, TX4, tyX4, "EdgeWalkModel", rfl, rfl, (Nat.le_of_ble_eq_true rfl), rfl, cf_X4, Or.inl rfl, Or.inr ⟨rfl, rfl, rfl, q1314⟩⟩
theorem P_X4_71 : PutOK "EdgeWalkModel" "<init>" 71 21 35 2 := ⟨5, 35, RX4, TX4, tyX4, "EdgeWalkModel", rfl, rfl, (Nat.le_of_ble_eq_true rfl), rfl, cf_X4, Or.inl rfl, Or.inr ⟨rfl, rfl, rfl, q1315⟩⟩
theorem b16_704 : (Int16.ofInt 704).toInt32 = Int32.ofInt 704 := by decide +kernel
theorem P_X4_74 : PutOK "EdgeWalkModel" "<init>" 74 21 37 2 := ⟨5, 37, RX4, TX4, tyX4, "EdgeWalkModel", rfl, rfl, (Nat.le_of_ble_eq_true rfl), rfl, cf_X4, Or.inl rfl, Or.inr ⟨rfl, rfl, rfl, q1317⟩⟩
theorem P_X4_77 : PutOK "EdgeWalkModel" "<init>" 77 21 38 2 := ⟨5, 38, RX4, TX4, tyX4, "EdgeWalkModel", rfl, rfl, (Nat.le_of_ble_eq_true rfl), rfl, cf_X4, Or.inl rfl, Or.inr ⟨rfl, rfl, rfl, q1318⟩⟩
theorem P_X4_80 : PutOK "EdgeWalkModel" "<init>" 80 21 39 2 := ⟨5, 39, RX4, TX4, tyX4, "EdgeWalkModel", rfl, rfl, (Nat.le_of_ble_eq_true rfl), rfl, cf_X4, Or.inl rfl, Or.inr ⟨rfl, rfl, rfl, q1319⟩⟩
theorem P_X4_83 : PutOK "EdgeWalkModel" "<init>" 83 21 40 2 := ⟨5, 40, RX4, TX4, tyX4, "EdgeWalkModel", rfl, rfl, (Nat.le_of_ble_eq_true rfl), rfl, cf_X4, Or.inl rfl, Or.inr ⟨rfl, rfl, rfl, q1320⟩⟩
theorem F_X4_86 : FldOK "EdgeWalkModel" 86 21 1 0 ∨ FldSOK "EdgeWalkModel" 86 21 1 0 := Or.inl ⟨5, 1, RX4, TX4, tyX4, "EdgeWalkModel", rfl, rfl, (Nat.le_of_ble_eq_true rfl), rfl, cf_X4, Or.inl q1281, Or.inl rfl⟩
theorem nm_EdgeWalkModel : ("EdgeWalkModel" : String) ≠ "java/lang/invoke/MethodHandle" ∧ ("EdgeWalkModel" : String) ≠ "java/lang/invoke/VarHandle" := by decide
theorem SV_X4_89 : SiteV "EdgeWalkModel" 89 MD_X4_four 1 5 := ⟨q1412, q138, nm_EdgeWalkModel, np__I_V, q1411, qs49, Or.inl q1409⟩
theorem cl_111 : 111 < NJ ∧ mL (MT 111) ≤ 64 := ⟨(Nat.le_of_ble_eq_true rfl), (Nat.le_of_ble_eq_true rfl)⟩
theorem F_X4_7 : FldOK "EdgeWalkModel" 7 21 0 2 ∨ FldSOK "EdgeWalkModel" 7 21 0 2 := Or.inl ⟨5, 0, RX4, TX4, tyX4, "EdgeWalkModel", rfl, rfl, (Nat.le_of_ble_eq_true rfl), rfl, cf_X4, Or.inl q1280, Or.inl rfl⟩
theorem P_X4_86 {y : String} : PutOK "EdgeWalkModel" y 86 21 1 0 := ⟨5, 1, RX4, TX4, tyX4, "EdgeWalkModel", rfl, rfl, (Nat.le_of_ble_eq_true rfl), rfl, cf_X4, Or.inl rfl, Or.inl ⟨rfl, Or.inl q1281⟩⟩
theorem F_X4_262 : FldOK "EdgeWalkModel" 262 21 2 0 ∨ FldSOK "EdgeWalkModel" 262 21 2 0 := Or.inl ⟨5, 2, RX4, TX4, tyX4, "EdgeWalkModel", rfl, rfl, (Nat.le_of_ble_eq_true rfl), rfl, cf_X4, Or.inl q1282, Or.inl rfl⟩
theorem P_X4_150 {y : String} : PutOK "EdgeWalkModel" y 150 21 11 0 := ⟨5, 11, RX4, TX4, tyX4, "EdgeWalkModel", rfl, rfl, (Nat.le_of_ble_eq_true rfl), rfl, cf_X4, Or.inl rfl, Or.inl ⟨rfl, Or.inl q1291⟩⟩
theorem F_X4_23 : FldOK "EdgeWalkModel" 23 21 6 2 ∨ FldSOK "EdgeWalkModel" 23 21 6 2 := Or.inl ⟨5, 6, RX4, TX4, tyX4, "EdgeWalkModel", rfl, rfl, (Nat.le_of_ble_eq_true rfl), rfl, cf_X4, Or.inl q1286, Or.inl rfl⟩
theorem F_X4_150 : FldOK "EdgeWalkModel" 150 21 11 0 ∨ FldSOK "EdgeWalkModel" 150 21 11 0 := Or.inl ⟨5, 11, RX4, TX4, tyX4, "EdgeWalkModel", rfl, rfl, (Nat.le_of_ble_eq_true rfl), rfl, cf_X4, Or.inl q1291, Or.inl rfl⟩
theorem SV_X4_265 : SiteV "EdgeWalkModel" 265 MD_X4_readsAll 0 5 := ⟨q1424, q138, nm_EdgeWalkModel, np___Z, q1423, qs50, Or.inl q1421⟩
theorem cl_114 : 114 < NJ ∧ mL (MT 114) ≤ 64 := ⟨(Nat.le_of_ble_eq_true rfl), (Nat.le_of_ble_eq_true rfl)⟩
theorem F_X4_93 : FldOK "EdgeWalkModel" 93 21 9 0 ∨ FldSOK "EdgeWalkModel" 93 21 9 0 := Or.inl ⟨5, 9, RX4, TX4, tyX4, "EdgeWalkModel", rfl, rfl, (Nat.le_of_ble_eq_true rfl), rfl, cf_X4, Or.inl q1289, Or.inl rfl⟩
theorem P_X4_262 {y : String} : PutOK "EdgeWalkModel" y 262 21 2 0 := ⟨5, 2, RX4, TX4, tyX4, "EdgeWalkModel", rfl, rfl, (Nat.le_of_ble_eq_true rfl), rfl, cf_X4, Or.inl rfl, Or.inl ⟨rfl, Or.inl q1282⟩⟩
theorem F_X4_17 : FldOK "EdgeWalkModel" 17 21 4 2 ∨ FldSOK "EdgeWalkModel" 17 21 4 2 := Or.inl ⟨5, 4, RX4, TX4, tyX4, "EdgeWalkModel", rfl, rfl, (Nat.le_of_ble_eq_true rfl), rfl, cf_X4, Or.inl q1284, Or.inl rfl⟩
theorem P_X4_250 {y : String} : PutOK "EdgeWalkModel" y 250 21 14 0 := ⟨5, 14, RX4, TX4, tyX4, "EdgeWalkModel", rfl, rfl, (Nat.le_of_ble_eq_true rfl), rfl, cf_X4, Or.inl rfl, Or.inl ⟨rfl, Or.inl q1294⟩⟩
theorem P_X4_96 {y : String} : PutOK "EdgeWalkModel" y 96 21 8 0 := ⟨5, 8, RX4, TX4, tyX4, "EdgeWalkModel", rfl, rfl, (Nat.le_of_ble_eq_true rfl), rfl, cf_X4, Or.inl rfl, Or.inl ⟨rfl, Or.inl q1288⟩⟩
theorem P_X4_93 {y : String} : PutOK "EdgeWalkModel" y 93 21 9 0 := ⟨5, 9, RX4, TX4, tyX4, "EdgeWalkModel", rfl, rfl, (Nat.le_of_ble_eq_true rfl), rfl, cf_X4, Or.inl rfl, Or.inl ⟨rfl, Or.inl q1289⟩⟩
theorem P_X4_153 {y : String} : PutOK "EdgeWalkModel" y 153 21 12 0 := ⟨5, 12, RX4, TX4, tyX4, "EdgeWalkModel", rfl, rfl, (Nat.le_of_ble_eq_true rfl), rfl, cf_X4, Or.inl rfl, Or.inl ⟨rfl, Or.inl q1292⟩⟩
theorem SV_X4_259 : SiteV "EdgeWalkModel" 259 MD_X4_clauseHere 0 5 := ⟨q1428, q138, nm_EdgeWalkModel, np___Z, q1427, qs51, Or.inl q1425⟩
theorem cl_115 : 115 < NJ ∧ mL (MT 115) ≤ 64 := ⟨(Nat.le_of_ble_eq_true rfl), (Nat.le_of_ble_eq_true rfl)⟩
theorem SV_X4_99 : SiteV "EdgeWalkModel" 99 MD_X4_see 0 5 := ⟨q1432, q138, nm_EdgeWalkModel, np___I, q1431, qs52, Or.inl q1429⟩
theorem cl_116 : 116 < NJ ∧ mL (MT 116) ≤ 64 := ⟨(Nat.le_of_ble_eq_true rfl), (Nat.le_of_ble_eq_true rfl)⟩
theorem b8_59 : (Int8.ofInt 59).toInt32 = Int32.ofInt 59 := by decide +kernel
theorem F_X4_96 : FldOK "EdgeWalkModel" 96 21 8 0 ∨ FldSOK "EdgeWalkModel" 96 21 8 0 := Or.inl ⟨5, 8, RX4, TX4, tyX4, "EdgeWalkModel", rfl, rfl, (Nat.le_of_ble_eq_true rfl), rfl, cf_X4, Or.inl q1288, Or.inl rfl⟩
theorem SV_X4_117 : SiteV "EdgeWalkModel" 117 MD_X4_fails 2 5 := ⟨q1453, q138, nm_EdgeWalkModel, np__II_Z, q1452, qs56, Or.inl q1450⟩
theorem cl_120 : 120 < NJ ∧ mL (MT 120) ≤ 64 := ⟨(Nat.le_of_ble_eq_true rfl), (Nat.le_of_ble_eq_true rfl)⟩
theorem SV_X4_245 : SiteV "EdgeWalkModel" 245 MD_X4_isSheetWord 0 5 := ⟨q1436, q138, nm_EdgeWalkModel, np___Z, q1435, qs53, Or.inl q1433⟩
theorem cl_117 : 117 < NJ ∧ mL (MT 117) ≤ 64 := ⟨(Nat.le_of_ble_eq_true rfl), (Nat.le_of_ble_eq_true rfl)⟩
theorem KL_X4_248 : Jvm.Cond.constantLong "EdgeWalkModel" 248 (Int64.ofInt (1953854062)) ∈ lw_all := by
  have e : Int64.ofInt (1953854062) = (1953854062 : Int64) := by decide +kernel
  rw [e]
  exact q1449
theorem np__J_Z : npar "(J)Z" 1 := by unfold npar; decide +kernel
theorem SV_X4_107 : SiteV "EdgeWalkModel" 107 MD_X4_isWord 1 5 := ⟨q1441, q138, nm_EdgeWalkModel, np__J_Z, q1440, qs54, Or.inl q1438⟩
theorem cl_118 : 118 < NJ ∧ mL (MT 118) ≤ 64 := ⟨(Nat.le_of_ble_eq_true rfl), (Nat.le_of_ble_eq_true rfl)⟩
theorem F_X4_250 : FldOK "EdgeWalkModel" 250 21 14 0 ∨ FldSOK "EdgeWalkModel" 250 21 14 0 := Or.inl ⟨5, 14, RX4, TX4, tyX4, "EdgeWalkModel", rfl, rfl, (Nat.le_of_ble_eq_true rfl), rfl, cf_X4, Or.inl q1294, Or.inl rfl⟩
theorem SV_X4_253 : SiteV "EdgeWalkModel" 253 MD_X4_sheetLineHere 1 5 := ⟨q1457, q138, nm_EdgeWalkModel, np__I_Z, q1456, qs57, Or.inl q1454⟩
theorem cl_121 : 121 < NJ ∧ mL (MT 121) ≤ 64 := ⟨(Nat.le_of_ble_eq_true rfl), (Nat.le_of_ble_eq_true rfl)⟩
theorem SV_X4_256 : SiteV "EdgeWalkModel" 256 MD_X4_isTurnHere 0 5 := ⟨q1500, q138, nm_EdgeWalkModel, np___Z, q1499, qs67, Or.inl q1497⟩
theorem cl_132 : 132 < NJ ∧ mL (MT 132) ≤ 64 := ⟨(Nat.le_of_ble_eq_true rfl), (Nat.le_of_ble_eq_true rfl)⟩
theorem KL_X4_229 : Jvm.Cond.constantLong "EdgeWalkModel" 229 (Int64.ofInt (495672714612)) ∈ lw_all := by
  have e : Int64.ofInt (495672714612) = (495672714612 : Int64) := by decide +kernel
  rw [e]
  exact q1437
theorem KL_X4_128 : Jvm.Cond.constantLong "EdgeWalkModel" 128 (Int64.ofInt (1735353714)) ∈ lw_all := by
  have e : Int64.ofInt (1735353714) = (1735353714 : Int64) := by decide +kernel
  rw [e]
  exact q1446
theorem KL_X4_237 : Jvm.Cond.constantLong "EdgeWalkModel" 237 (Int64.ofInt (1785686382)) ∈ lw_all := by
  have e : Int64.ofInt (1785686382) = (1785686382 : Int64) := by decide +kernel
  rw [e]
  exact q1447
theorem KL_X4_142 : Jvm.Cond.constantLong "EdgeWalkModel" 142 (Int64.ofInt (495874698853)) ∈ lw_all := by
  have e : Int64.ofInt (495874698853) = (495874698853 : Int64) := by decide +kernel
  rw [e]
  exact q1448
theorem SV_X4_103 : SiteV "EdgeWalkModel" 103 MD_X4_isLetter 1 5 := ⟨q1445, q138, nm_EdgeWalkModel, np__I_Z, q1444, qs55, Or.inl q1442⟩
theorem cl_119 : 119 < NJ ∧ mL (MT 119) ≤ 64 := ⟨(Nat.le_of_ble_eq_true rfl), (Nat.le_of_ble_eq_true rfl)⟩
theorem b8_97 : (Int8.ofInt 97).toInt32 = Int32.ofInt 97 := by decide +kernel
theorem b8_122 : (Int8.ofInt 122).toInt32 = Int32.ofInt 122 := by decide +kernel
theorem SV_X4_231 : SiteV "EdgeWalkModel" 231 MD_X4_isSheetHere 1 5 := ⟨q1461, q138, nm_EdgeWalkModel, np__I_Z, q1460, qs58, Or.inl q1458⟩
theorem cl_122 : 122 < NJ ∧ mL (MT 122) ≤ 64 := ⟨(Nat.le_of_ble_eq_true rfl), (Nat.le_of_ble_eq_true rfl)⟩
theorem F_X4_26 : FldOK "EdgeWalkModel" 26 21 7 2 ∨ FldSOK "EdgeWalkModel" 26 21 7 2 := Or.inl ⟨5, 7, RX4, TX4, tyX4, "EdgeWalkModel", rfl, rfl, (Nat.le_of_ble_eq_true rfl), rfl, cf_X4, Or.inl q1287, Or.inl rfl⟩
theorem SV_X4_234 : SiteV "EdgeWalkModel" 234 MD_X4_isGoerHere 1 5 := ⟨q1484, q138, nm_EdgeWalkModel, np__I_Z, q1483, qs63, Or.inl q1481⟩
theorem cl_128 : 128 < NJ ∧ mL (MT 128) ≤ 64 := ⟨(Nat.le_of_ble_eq_true rfl), (Nat.le_of_ble_eq_true rfl)⟩
theorem SV_X4_239 : SiteV "EdgeWalkModel" 239 MD_X4_isJoinHere 0 5 := ⟨q1492, q138, nm_EdgeWalkModel, np___Z, q1491, qs65, Or.inl q1489⟩
theorem cl_130 : 130 < NJ ∧ mL (MT 130) ≤ 64 := ⟨(Nat.le_of_ble_eq_true rfl), (Nat.le_of_ble_eq_true rfl)⟩
theorem SV_X4_242 : SiteV "EdgeWalkModel" 242 MD_X4_isStoneHere 0 5 := ⟨q1496, q138, nm_EdgeWalkModel, np___Z, q1495, qs66, Or.inl q1493⟩
theorem cl_131 : 131 < NJ ∧ mL (MT 131) ≤ 64 := ⟨(Nat.le_of_ble_eq_true rfl), (Nat.le_of_ble_eq_true rfl)⟩
theorem SV_X4_111 : SiteV "EdgeWalkModel" 111 MD_X4_passWord 0 5 := ⟨q1465, q138, nm_EdgeWalkModel, np___V, q1464, qs59, Or.inl q1462⟩
theorem cl_123 : 123 < NJ ∧ mL (MT 123) ≤ 64 := ⟨(Nat.le_of_ble_eq_true rfl), (Nat.le_of_ble_eq_true rfl)⟩
theorem np__III_Z : npar "(III)Z" 3 := by unfold npar; decide +kernel
theorem SV_X4_222 : SiteV "EdgeWalkModel" 222 MD_X4_cellHere 3 5 := ⟨q1469, q138, nm_EdgeWalkModel, np__III_Z, q1468, qs60, Or.inl q1466⟩
theorem cl_124 : 124 < NJ ∧ mL (MT 124) ≤ 64 := ⟨(Nat.le_of_ble_eq_true rfl), (Nat.le_of_ble_eq_true rfl)⟩
theorem SV_X4_171 : SiteV "EdgeWalkModel" 171 MD_X4_numberHere 2 5 := ⟨q1473, q138, nm_EdgeWalkModel, np__II_Z, q1472, qs61, Or.inl q1470⟩
theorem cl_125 : 125 < NJ ∧ mL (MT 125) ≤ 64 := ⟨(Nat.le_of_ble_eq_true rfl), (Nat.le_of_ble_eq_true rfl)⟩
theorem F_X4_121 : FldOK "EdgeWalkModel" 121 21 10 0 ∨ FldSOK "EdgeWalkModel" 121 21 10 0 := Or.inl ⟨5, 10, RX4, TX4, tyX4, "EdgeWalkModel", rfl, rfl, (Nat.le_of_ble_eq_true rfl), rfl, cf_X4, Or.inl q1290, Or.inl rfl⟩
theorem SV_X4_114 : SiteV "EdgeWalkModel" 114 MD_X4_isDigit 1 5 := ⟨q1477, q138, nm_EdgeWalkModel, np__I_Z, q1476, qs62, Or.inl q1474⟩
theorem cl_126 : 126 < NJ ∧ mL (MT 126) ≤ 64 := ⟨(Nat.le_of_ble_eq_true rfl), (Nat.le_of_ble_eq_true rfl)⟩
theorem b8_48 : (Int8.ofInt 48).toInt32 = Int32.ofInt 48 := by decide +kernel
theorem P_X4_121 {y : String} : PutOK "EdgeWalkModel" y 121 21 10 0 := ⟨5, 10, RX4, TX4, tyX4, "EdgeWalkModel", rfl, rfl, (Nat.le_of_ble_eq_true rfl), rfl, cf_X4, Or.inl rfl, Or.inl ⟨rfl, Or.inl q1290⟩⟩
theorem SS_X4_124 : SiteS "EdgeWalkModel" 124 MD_X4_in 3 := ⟨rfl, q1480, q138, nm_EdgeWalkModel, np__JJJ_Z, q1479, Or.inl q1478⟩
theorem cl_127 : 127 < NJ ∧ mL (MT 127) ≤ 64 := ⟨(Nat.le_of_ble_eq_true rfl), (Nat.le_of_ble_eq_true rfl)⟩
theorem b8_57 : (Int8.ofInt 57).toInt32 = Int32.ofInt 57 := by decide +kernel
theorem b8_90 : (Int8.ofInt 90).toInt32 = Int32.ofInt 90 := by decide +kernel
theorem SV_X4_226 : SiteV "EdgeWalkModel" 226 MD_X4_lastCell 0 5 := ⟨q1488, q138, nm_EdgeWalkModel, np___I, q1487, qs64, Or.inl q1485⟩
theorem cl_129 : 129 < NJ ∧ mL (MT 129) ≤ 64 := ⟨(Nat.le_of_ble_eq_true rfl), (Nat.le_of_ble_eq_true rfl)⟩
theorem b8_105 : (Int8.ofInt 105).toInt32 = Int32.ofInt 105 := by decide +kernel
theorem b8_86 : (Int8.ofInt 86).toInt32 = Int32.ofInt 86 := by decide +kernel
theorem b8_109 : (Int8.ofInt 109).toInt32 = Int32.ofInt 109 := by decide +kernel
theorem F_X4_20 : FldOK "EdgeWalkModel" 20 21 5 2 ∨ FldSOK "EdgeWalkModel" 20 21 5 2 := Or.inl ⟨5, 5, RX4, TX4, tyX4, "EdgeWalkModel", rfl, rfl, (Nat.le_of_ble_eq_true rfl), rfl, cf_X4, Or.inl q1285, Or.inl rfl⟩
theorem SV_X4_187 : SiteV "EdgeWalkModel" 187 MD_X4_sum 0 5 := ⟨q1504, q138, nm_EdgeWalkModel, np___Z, q1503, qs68, Or.inl q1501⟩
theorem cl_133 : 133 < NJ ∧ mL (MT 133) ≤ 64 := ⟨(Nat.le_of_ble_eq_true rfl), (Nat.le_of_ble_eq_true rfl)⟩
theorem KL_X4_214 : Jvm.Cond.constantLong "EdgeWalkModel" 214 (Int64.ofInt (26982)) ∈ lw_all := by
  have e : Int64.ofInt (26982) = (26982 : Int64) := by decide +kernel
  rw [e]
  exact q1535
theorem SV_X4_216 : SiteV "EdgeWalkModel" 216 MD_X4_takesWord 1 5 := ⟨q1539, q138, nm_EdgeWalkModel, np__J_Z, q1538, qs74, Or.inl q1536⟩
theorem cl_139 : 139 < NJ ∧ mL (MT 139) ≤ 64 := ⟨(Nat.le_of_ble_eq_true rfl), (Nat.le_of_ble_eq_true rfl)⟩
theorem SV_X4_219 : SiteV "EdgeWalkModel" 219 MD_X4_tested 0 5 := ⟨q1543, q138, nm_EdgeWalkModel, np___Z, q1542, qs75, Or.inl q1540⟩
theorem cl_140 : 140 < NJ ∧ mL (MT 140) ≤ 64 := ⟨(Nat.le_of_ble_eq_true rfl), (Nat.le_of_ble_eq_true rfl)⟩
theorem SV_X4_184 : SiteV "EdgeWalkModel" 184 MD_X4_term 0 5 := ⟨q1508, q138, nm_EdgeWalkModel, np___Z, q1507, qs69, Or.inl q1505⟩
theorem cl_134 : 134 < NJ ∧ mL (MT 134) ≤ 64 := ⟨(Nat.le_of_ble_eq_true rfl), (Nat.le_of_ble_eq_true rfl)⟩
theorem b8_43 : (Int8.ofInt 43).toInt32 = Int32.ofInt 43 := by decide +kernel
theorem b8_45 : (Int8.ofInt 45).toInt32 = Int32.ofInt 45 := by decide +kernel
theorem SV_X4_166 : SiteV "EdgeWalkModel" 166 MD_X4_puts 2 5 := ⟨q1521, q138, nm_EdgeWalkModel, np__II_V, q1520, qs72, Or.inl q1518⟩
theorem cl_137 : 137 < NJ ∧ mL (MT 137) ≤ 64 := ⟨(Nat.le_of_ble_eq_true rfl), (Nat.le_of_ble_eq_true rfl)⟩
theorem SV_X4_180 : SiteV "EdgeWalkModel" 180 MD_X4_value 0 5 := ⟨q1512, q138, nm_EdgeWalkModel, np___Z, q1511, qs70, Or.inl q1509⟩
theorem cl_135 : 135 < NJ ∧ mL (MT 135) ≤ 64 := ⟨(Nat.le_of_ble_eq_true rfl), (Nat.le_of_ble_eq_true rfl)⟩
theorem b8_42 : (Int8.ofInt 42).toInt32 = Int32.ofInt 42 := by decide +kernel
theorem b8_47 : (Int8.ofInt 47).toInt32 = Int32.ofInt 47 := by decide +kernel
theorem b8_37 : (Int8.ofInt 37).toInt32 = Int32.ofInt 37 := by decide +kernel
theorem b8_14 : (Int8.ofInt 14).toInt32 = Int32.ofInt 14 := by decide +kernel
theorem K_X4_170 : Jvm.Cond.constant "EdgeWalkModel" 170 (Int32.ofInt (99999)) ∈ lw_all := by
  have e : Int32.ofInt (99999) = (99999 : Int32) := by decide +kernel
  rw [e]
  exact q1513
theorem SV_X4_174 : SiteV "EdgeWalkModel" 174 MD_X4_makes 1 5 := ⟨q1517, q138, nm_EdgeWalkModel, np__I_Z, q1516, qs71, Or.inl q1514⟩
theorem cl_136 : 136 < NJ ∧ mL (MT 136) ≤ 64 := ⟨(Nat.le_of_ble_eq_true rfl), (Nat.le_of_ble_eq_true rfl)⟩
theorem SV_X4_177 : SiteV "EdgeWalkModel" 177 MD_X4_wordHere 0 5 := ⟨q1525, q138, nm_EdgeWalkModel, np___I, q1524, qs73, Or.inl q1522⟩
theorem cl_138 : 138 < NJ ∧ mL (MT 138) ≤ 64 := ⟨(Nat.le_of_ble_eq_true rfl), (Nat.le_of_ble_eq_true rfl)⟩
theorem F_X4_153 : FldOK "EdgeWalkModel" 153 21 12 0 ∨ FldSOK "EdgeWalkModel" 153 21 12 0 := Or.inl ⟨5, 12, RX4, TX4, tyX4, "EdgeWalkModel", rfl, rfl, (Nat.le_of_ble_eq_true rfl), rfl, cf_X4, Or.inl q1292, Or.inl rfl⟩
theorem F_X4_13 : FldOK "EdgeWalkModel" 13 21 3 2 ∨ FldSOK "EdgeWalkModel" 13 21 3 2 := Or.inl ⟨5, 3, RX4, TX4, tyX4, "EdgeWalkModel", rfl, rfl, (Nat.le_of_ble_eq_true rfl), rfl, cf_X4, Or.inl q1283, Or.inl rfl⟩
theorem KL_X4_130 : Jvm.Cond.constantLong "EdgeWalkModel" 130 (Int64.ofInt (1667591276)) ∈ lw_all := by
  have e : Int64.ofInt (1667591276) = (1667591276 : Int64) := by decide +kernel
  rw [e]
  exact q1526
theorem KL_X4_132 : Jvm.Cond.constantLong "EdgeWalkModel" 132 (Int64.ofInt (7499639)) ∈ lw_all := by
  have e : Int64.ofInt (7499639) = (7499639 : Int64) := by decide +kernel
  rw [e]
  exact q1527
theorem KL_X4_134 : Jvm.Cond.constantLong "EdgeWalkModel" 134 (Int64.ofInt (109330212154734)) ∈ lw_all := by
  have e : Int64.ofInt (109330212154734) = (109330212154734 : Int64) := by decide +kernel
  rw [e]
  exact q1528
theorem KL_X4_136 : Jvm.Cond.constantLong "EdgeWalkModel" 136 (Int64.ofInt (439720568179)) ∈ lw_all := by
  have e : Int64.ofInt (439720568179) = (439720568179 : Int64) := by decide +kernel
  rw [e]
  exact q1529
theorem KL_X4_138 : Jvm.Cond.constantLong "EdgeWalkModel" 138 (Int64.ofInt (1718579044)) ∈ lw_all := by
  have e : Int64.ofInt (1718579044) = (1718579044 : Int64) := by decide +kernel
  rw [e]
  exact q1530
theorem KL_X4_140 : Jvm.Cond.constantLong "EdgeWalkModel" 140 (Int64.ofInt (120265298635118)) ∈ lw_all := by
  have e : Int64.ofInt (120265298635118) = (120265298635118 : Int64) := by decide +kernel
  rw [e]
  exact q1531
theorem KL_X4_144 : Jvm.Cond.constantLong "EdgeWalkModel" 144 (Int64.ofInt (1751478885)) ∈ lw_all := by
  have e : Int64.ofInt (1751478885) = (1751478885 : Int64) := by decide +kernel
  rw [e]
  exact q1532
theorem KL_X4_146 : Jvm.Cond.constantLong "EdgeWalkModel" 146 (Int64.ofInt (1650812270)) ∈ lw_all := by
  have e : Int64.ofInt (1650812270) = (1650812270 : Int64) := by decide +kernel
  rw [e]
  exact q1533
theorem KL_X4_148 : Jvm.Cond.constantLong "EdgeWalkModel" 148 (Int64.ofInt (1937007984)) ∈ lw_all := by
  have e : Int64.ofInt (1937007984) = (1937007984 : Int64) := by decide +kernel
  rw [e]
  exact q1534
theorem P_X4_159 {y : String} : PutOK "EdgeWalkModel" y 159 21 16 0 := ⟨5, 16, RX4, TX4, tyX4, "EdgeWalkModel", rfl, rfl, (Nat.le_of_ble_eq_true rfl), rfl, cf_X4, Or.inl rfl, Or.inl ⟨rfl, Or.inl q1296⟩⟩
theorem P_X4_156 {y : String} : PutOK "EdgeWalkModel" y 156 21 13 0 := ⟨5, 13, RX4, TX4, tyX4, "EdgeWalkModel", rfl, rfl, (Nat.le_of_ble_eq_true rfl), rfl, cf_X4, Or.inl rfl, Or.inl ⟨rfl, Or.inl q1293⟩⟩
theorem SV_X4_204 : SiteV "EdgeWalkModel" 204 MD_X4_fact 0 5 := ⟨q1547, q138, nm_EdgeWalkModel, np___Z, q1546, qs76, Or.inl q1544⟩
theorem cl_141 : 141 < NJ ∧ mL (MT 141) ≤ 64 := ⟨(Nat.le_of_ble_eq_true rfl), (Nat.le_of_ble_eq_true rfl)⟩
theorem SV_X4_207 : SiteV "EdgeWalkModel" 207 MD_X4_closes 0 5 := ⟨q1560, q138, nm_EdgeWalkModel, np___V, q1559, qs79, Or.inl q1557⟩
theorem cl_144 : 144 < NJ ∧ mL (MT 144) ≤ 64 := ⟨(Nat.le_of_ble_eq_true rfl), (Nat.le_of_ble_eq_true rfl)⟩
theorem KL_X4_210 : Jvm.Cond.constantLong "EdgeWalkModel" 210 (Int64.ofInt (6385252)) ∈ lw_all := by
  have e : Int64.ofInt (6385252) = (6385252 : Int64) := by decide +kernel
  rw [e]
  exact q1572
theorem KL_X4_212 : Jvm.Cond.constantLong "EdgeWalkModel" 212 (Int64.ofInt (28530)) ∈ lw_all := by
  have e : Int64.ofInt (28530) = (28530 : Int64) := by decide +kernel
  rw [e]
  exact q1573
theorem b8_13 : (Int8.ofInt 13).toInt32 = Int32.ofInt 13 := by decide +kernel
theorem SS_X4_162 : SiteS "EdgeWalkModel" 162 MD_X4_strength 1 := ⟨rfl, q1567, q138, nm_EdgeWalkModel, np__I_I, q1566, Or.inl q1565⟩
theorem cl_146 : 146 < NJ ∧ mL (MT 146) ≤ 64 := ⟨(Nat.le_of_ble_eq_true rfl), (Nat.le_of_ble_eq_true rfl)⟩
theorem SV_X4_198 : SiteV "EdgeWalkModel" 198 MD_X4_layDown 1 5 := ⟨q1564, q138, nm_EdgeWalkModel, np__I_V, q1563, qs80, Or.inl q1561⟩
theorem cl_145 : 145 < NJ ∧ mL (MT 145) ≤ 64 := ⟨(Nat.le_of_ble_eq_true rfl), (Nat.le_of_ble_eq_true rfl)⟩
theorem F_X4_29 : FldOK "EdgeWalkModel" 29 21 15 2 ∨ FldSOK "EdgeWalkModel" 29 21 15 2 := Or.inl ⟨5, 15, RX4, TX4, tyX4, "EdgeWalkModel", rfl, rfl, (Nat.le_of_ble_eq_true rfl), rfl, cf_X4, Or.inl q1295, Or.inl rfl⟩
theorem F_X4_159 : FldOK "EdgeWalkModel" 159 21 16 0 ∨ FldSOK "EdgeWalkModel" 159 21 16 0 := Or.inl ⟨5, 16, RX4, TX4, tyX4, "EdgeWalkModel", rfl, rfl, (Nat.le_of_ble_eq_true rfl), rfl, cf_X4, Or.inl q1296, Or.inl rfl⟩
theorem SV_X4_201 : SiteV "EdgeWalkModel" 201 MD_X4_isInside 0 5 := ⟨q1571, q138, nm_EdgeWalkModel, np___Z, q1570, qs81, Or.inl q1568⟩
theorem cl_147 : 147 < NJ ∧ mL (MT 147) ≤ 64 := ⟨(Nat.le_of_ble_eq_true rfl), (Nat.le_of_ble_eq_true rfl)⟩
theorem KL_X4_190 : Jvm.Cond.constantLong "EdgeWalkModel" 190 (Int64.ofInt (7237492)) ∈ lw_all := by
  have e : Int64.ofInt (7237492) = (7237492 : Int64) := by decide +kernel
  rw [e]
  exact q1548
theorem SV_X4_192 : SiteV "EdgeWalkModel" 192 MD_X4_opens 1 5 := ⟨q1552, q138, nm_EdgeWalkModel, np__I_Z, q1551, qs77, Or.inl q1549⟩
theorem cl_142 : 142 < NJ ∧ mL (MT 142) ≤ 64 := ⟨(Nat.le_of_ble_eq_true rfl), (Nat.le_of_ble_eq_true rfl)⟩
theorem b8_91 : (Int8.ofInt 91).toInt32 = Int32.ofInt 91 := by decide +kernel
theorem SV_X4_195 : SiteV "EdgeWalkModel" 195 MD_X4_compare 0 5 := ⟨q1556, q138, nm_EdgeWalkModel, np___Z, q1555, qs78, Or.inl q1553⟩
theorem cl_143 : 143 < NJ ∧ mL (MT 143) ≤ 64 := ⟨(Nat.le_of_ble_eq_true rfl), (Nat.le_of_ble_eq_true rfl)⟩
theorem F_X4_156 : FldOK "EdgeWalkModel" 156 21 13 0 ∨ FldSOK "EdgeWalkModel" 156 21 13 0 := Or.inl ⟨5, 13, RX4, TX4, tyX4, "EdgeWalkModel", rfl, rfl, (Nat.le_of_ble_eq_true rfl), rfl, cf_X4, Or.inl q1293, Or.inl rfl⟩
theorem b8_61 : (Int8.ofInt 61).toInt32 = Int32.ofInt 61 := by decide +kernel
theorem b8_62 : (Int8.ofInt 62).toInt32 = Int32.ofInt 62 := by decide +kernel
theorem b8_93 : (Int8.ofInt 93).toInt32 = Int32.ofInt 93 := by decide +kernel
theorem F_X4_39 : FldOK "EdgeWalkModel" 39 21 20 2 ∨ FldSOK "EdgeWalkModel" 39 21 20 2 := Or.inl ⟨5, 20, RX4, TX4, tyX4, "EdgeWalkModel", rfl, rfl, (Nat.le_of_ble_eq_true rfl), rfl, cf_X4, Or.inl q1300, Or.inl rfl⟩
theorem SV_X4_268 : SiteV "EdgeWalkModel" 268 MD_X4_begins 0 5 := ⟨q1581, q138, nm_EdgeWalkModel, np___V, q1580, qs82, Or.inl q1578⟩
theorem cl_149 : 149 < NJ ∧ mL (MT 149) ≤ 64 := ⟨(Nat.le_of_ble_eq_true rfl), (Nat.le_of_ble_eq_true rfl)⟩
theorem P_X4_271 {y : String} : PutOK "EdgeWalkModel" y 271 21 24 0 := ⟨5, 24, RX4, TX4, tyX4, "EdgeWalkModel", rfl, rfl, (Nat.le_of_ble_eq_true rfl), rfl, cf_X4, Or.inl rfl, Or.inl ⟨rfl, Or.inl q1304⟩⟩
theorem b8_46 : (Int8.ofInt 46).toInt32 = Int32.ofInt 46 := by decide +kernel
theorem b8_50 : (Int8.ofInt 50).toInt32 = Int32.ofInt 50 := by decide +kernel
theorem SV_X4_307 : SiteV "EdgeWalkModel" 307 MD_X4_isRule 1 5 := ⟨q1589, q138, nm_EdgeWalkModel, np__I_Z, q1588, qs83, Or.inl q1586⟩
theorem cl_151 : 151 < NJ ∧ mL (MT 151) ≤ 64 := ⟨(Nat.le_of_ble_eq_true rfl), (Nat.le_of_ble_eq_true rfl)⟩
theorem F_X4_42 : FldOK "EdgeWalkModel" 42 21 21 0 ∨ FldSOK "EdgeWalkModel" 42 21 21 0 := Or.inl ⟨5, 21, RX4, TX4, tyX4, "EdgeWalkModel", rfl, rfl, (Nat.le_of_ble_eq_true rfl), rfl, cf_X4, Or.inl q1301, Or.inl rfl⟩
theorem SV_X4_310 : SiteV "EdgeWalkModel" 310 MD_X4_isGoer 1 5 := ⟨q1597, q138, nm_EdgeWalkModel, np__I_Z, q1596, qs84, Or.inl q1594⟩
theorem cl_153 : 153 < NJ ∧ mL (MT 153) ≤ 64 := ⟨(Nat.le_of_ble_eq_true rfl), (Nat.le_of_ble_eq_true rfl)⟩
theorem TS_X4_goer_12 : InsOK MD_X4_goer 12 (.tableswitch 120 0 5 #[40, 58, 64, 70, 76, 104], 52, 132, [(0, 52), (1, 70), (2, 76), (3, 82), (4, 88), (5, 116)]) := And.intro (Exists.intro _ dX4_goer_12) (And.intro rfl (And.intro (allc ⟨by decide, by decide, (40), rfl, rfl⟩ (allc ⟨by decide, by decide, (58), rfl, rfl⟩ (allc ⟨by decide, by decide, (64), rfl, rfl⟩ (allc ⟨by decide, by decide, (70), rfl, rfl⟩ (allc ⟨by decide, by decide, (76), rfl, rfl⟩ (allc ⟨by decide, by decide, (104), rfl, rfl⟩ all0)))))) (by
  intro z h1 h2
  have h3 : z = 0 ∨ z = 1 ∨ z = 2 ∨ z = 3 ∨ z = 4 ∨ z = 5 := by omega
  rcases h3 with rfl | rfl | rfl | rfl | rfl | rfl
  · exact ⟨(0, 52), List.mem_of_getElem? (i := 0) rfl, rfl⟩
  · exact ⟨(1, 70), List.mem_of_getElem? (i := 1) rfl, rfl⟩
  · exact ⟨(2, 76), List.mem_of_getElem? (i := 2) rfl, rfl⟩
  · exact ⟨(3, 82), List.mem_of_getElem? (i := 3) rfl, rfl⟩
  · exact ⟨(4, 88), List.mem_of_getElem? (i := 4) rfl, rfl⟩
  · exact ⟨(5, 116), List.mem_of_getElem? (i := 5) rfl, rfl⟩)))
theorem SV_X4_313 : SiteV "EdgeWalkModel" 313 MD_X4_isOn 1 5 := ⟨q1601, q138, nm_EdgeWalkModel, np__I_Z, q1600, qs85, Or.inl q1598⟩
theorem cl_154 : 154 < NJ ∧ mL (MT 154) ≤ 64 := ⟨(Nat.le_of_ble_eq_true rfl), (Nat.le_of_ble_eq_true rfl)⟩
theorem SV_X4_316 : SiteV "EdgeWalkModel" 316 MD_X4_cellOf 1 5 := ⟨q1609, q138, nm_EdgeWalkModel, np__I_I, q1608, qs87, Or.inl q1606⟩
theorem cl_156 : 156 < NJ ∧ mL (MT 156) ≤ 64 := ⟨(Nat.le_of_ble_eq_true rfl), (Nat.le_of_ble_eq_true rfl)⟩
theorem SV_X4_319 : SiteV "EdgeWalkModel" 319 MD_X4_facesOf 1 5 := ⟨q1613, q138, nm_EdgeWalkModel, np__I_I, q1612, qs88, Or.inl q1610⟩
theorem cl_157 : 157 < NJ ∧ mL (MT 157) ≤ 64 := ⟨(Nat.le_of_ble_eq_true rfl), (Nat.le_of_ble_eq_true rfl)⟩
theorem SV_X4_300 : SiteV "EdgeWalkModel" 300 MD_X4_foodOf 1 5 := ⟨q1617, q138, nm_EdgeWalkModel, np__I_I, q1616, qs89, Or.inl q1614⟩
theorem cl_158 : 158 < NJ ∧ mL (MT 158) ≤ 64 := ⟨(Nat.le_of_ble_eq_true rfl), (Nat.le_of_ble_eq_true rfl)⟩
theorem SV_X4_297 : SiteV "EdgeWalkModel" 297 MD_X4_statusOf 1 5 := ⟨q1605, q138, nm_EdgeWalkModel, np__I_I, q1604, qs86, Or.inl q1602⟩
theorem cl_155 : 155 < NJ ∧ mL (MT 155) ≤ 64 := ⟨(Nat.le_of_ble_eq_true rfl), (Nat.le_of_ble_eq_true rfl)⟩
theorem SV_X4_322 : SiteV "EdgeWalkModel" 322 MD_X4_isEdge 1 5 := ⟨q1625, q138, nm_EdgeWalkModel, np__I_Z, q1624, qs90, Or.inl q1622⟩
theorem cl_160 : 160 < NJ ∧ mL (MT 160) ≤ 64 := ⟨(Nat.le_of_ble_eq_true rfl), (Nat.le_of_ble_eq_true rfl)⟩
theorem SV_X4_292 : SiteV "EdgeWalkModel" 292 MD_X4_isSheet 0 5 := ⟨q1629, q138, nm_EdgeWalkModel, np___Z, q1628, qs91, Or.inl q1626⟩
theorem cl_161 : 161 < NJ ∧ mL (MT 161) ≤ 64 := ⟨(Nat.le_of_ble_eq_true rfl), (Nat.le_of_ble_eq_true rfl)⟩
theorem KL_X4_295 : Jvm.Cond.constantLong "EdgeWalkModel" 295 (Int64.ofInt (3)) ∈ lw_all := by
  have e : Int64.ofInt (3) = (3 : Int64) := by decide +kernel
  rw [e]
  exact q1630
theorem SV_X4_325 : SiteV "EdgeWalkModel" 325 MD_X4_isCell 1 5 := ⟨q1638, q138, nm_EdgeWalkModel, np__I_Z, q1637, qs92, Or.inl q1635⟩
theorem cl_163 : 163 < NJ ∧ mL (MT 163) ≤ 64 := ⟨(Nat.le_of_ble_eq_true rfl), (Nat.le_of_ble_eq_true rfl)⟩
theorem SV_X4_289 : SiteV "EdgeWalkModel" 289 MD_X4_cells 0 5 := ⟨q1642, q138, nm_EdgeWalkModel, np___I, q1641, qs93, Or.inl q1639⟩
theorem cl_164 : 164 < NJ ∧ mL (MT 164) ≤ 64 := ⟨(Nat.le_of_ble_eq_true rfl), (Nat.le_of_ble_eq_true rfl)⟩
theorem F_X4_271 : FldOK "EdgeWalkModel" 271 21 24 0 ∨ FldSOK "EdgeWalkModel" 271 21 24 0 := Or.inl ⟨5, 24, RX4, TX4, tyX4, "EdgeWalkModel", rfl, rfl, (Nat.le_of_ble_eq_true rfl), rfl, cf_X4, Or.inl q1304, Or.inl rfl⟩
theorem F_X4_46 : FldOK "EdgeWalkModel" 46 21 23 2 ∨ FldSOK "EdgeWalkModel" 46 21 23 2 := Or.inl ⟨5, 23, RX4, TX4, tyX4, "EdgeWalkModel", rfl, rfl, (Nat.le_of_ble_eq_true rfl), rfl, cf_X4, Or.inl q1303, Or.inl rfl⟩
theorem SV_X4_363 : SiteV "EdgeWalkModel" 363 MD_X4_keepsAct 0 5 := ⟨q1654, q138, nm_EdgeWalkModel, np___V, q1653, qs94, Or.inl q1651⟩
theorem cl_167 : 167 < NJ ∧ mL (MT 167) ≤ 64 := ⟨(Nat.le_of_ble_eq_true rfl), (Nat.le_of_ble_eq_true rfl)⟩
theorem SV_X4_360 : SiteV "EdgeWalkModel" 360 MD_X4_passes 0 5 := ⟨q1658, q138, nm_EdgeWalkModel, np___V, q1657, qs95, Or.inl q1655⟩
theorem cl_168 : 168 < NJ ∧ mL (MT 168) ≤ 64 := ⟨(Nat.le_of_ble_eq_true rfl), (Nat.le_of_ble_eq_true rfl)⟩
theorem SV_X4_366 : SiteV "EdgeWalkModel" 366 MD_X4_onesWhoAre 1 5 := ⟨q1717, q138, nm_EdgeWalkModel, np__I_I, q1716, qs109, Or.inl q1714⟩
theorem cl_183 : 183 < NJ ∧ mL (MT 183) ≤ 64 := ⟨(Nat.le_of_ble_eq_true rfl), (Nat.le_of_ble_eq_true rfl)⟩
theorem SV_X4_354 : SiteV "EdgeWalkModel" 354 MD_X4_walks 1 5 := ⟨q1662, q138, nm_EdgeWalkModel, np__I_V, q1661, qs96, Or.inl q1659⟩
theorem cl_169 : 169 < NJ ∧ mL (MT 169) ≤ 64 := ⟨(Nat.le_of_ble_eq_true rfl), (Nat.le_of_ble_eq_true rfl)⟩
theorem SV_X4_357 : SiteV "EdgeWalkModel" 357 MD_X4_goesOut 1 5 := ⟨q1705, q138, nm_EdgeWalkModel, np__I_V, q1704, qs106, Or.inl q1702⟩
theorem cl_180 : 180 < NJ ∧ mL (MT 180) ≤ 64 := ⟨(Nat.le_of_ble_eq_true rfl), (Nat.le_of_ble_eq_true rfl)⟩
theorem SV_X4_342 : SiteV "EdgeWalkModel" 342 MD_X4_quartersOf 1 5 := ⟨q1666, q138, nm_EdgeWalkModel, np__I_I, q1665, qs97, Or.inl q1663⟩
theorem cl_170 : 170 < NJ ∧ mL (MT 170) ≤ 64 := ⟨(Nat.le_of_ble_eq_true rfl), (Nat.le_of_ble_eq_true rfl)⟩
theorem SV_X4_332 : SiteV "EdgeWalkModel" 332 MD_X4_nextOf 2 5 := ⟨q1670, q138, nm_EdgeWalkModel, np__II_I, q1669, qs98, Or.inl q1667⟩
theorem cl_171 : 171 < NJ ∧ mL (MT 171) ≤ 64 := ⟨(Nat.le_of_ble_eq_true rfl), (Nat.le_of_ble_eq_true rfl)⟩
theorem SV_X4_345 : SiteV "EdgeWalkModel" 345 MD_X4_placeAlong 2 5 := ⟨q1701, q138, nm_EdgeWalkModel, np__II_I, q1700, qs105, Or.inl q1698⟩
theorem cl_179 : 179 < NJ ∧ mL (MT 179) ≤ 64 := ⟨(Nat.le_of_ble_eq_true rfl), (Nat.le_of_ble_eq_true rfl)⟩
theorem SV_X4_335 : SiteV "EdgeWalkModel" 335 MD_X4_isStone 1 5 := ⟨q1678, q138, nm_EdgeWalkModel, np__I_Z, q1677, qs100, Or.inl q1675⟩
theorem cl_173 : 173 < NJ ∧ mL (MT 173) ≤ 64 := ⟨(Nat.le_of_ble_eq_true rfl), (Nat.le_of_ble_eq_true rfl)⟩
theorem F_X4_36 : FldOK "EdgeWalkModel" 36 21 19 2 ∨ FldSOK "EdgeWalkModel" 36 21 19 2 := Or.inl ⟨5, 19, RX4, TX4, tyX4, "EdgeWalkModel", rfl, rfl, (Nat.le_of_ble_eq_true rfl), rfl, cf_X4, Or.inl q1299, Or.inl rfl⟩
theorem SV_X4_303 : SiteV "EdgeWalkModel" 303 MD_X4_marginOf 2 5 := ⟨q1674, q138, nm_EdgeWalkModel, np__II_I, q1673, qs99, Or.inl q1671⟩
theorem cl_172 : 172 < NJ ∧ mL (MT 172) ≤ 64 := ⟨(Nat.le_of_ble_eq_true rfl), (Nat.le_of_ble_eq_true rfl)⟩
theorem np__I_J : npar "(I)J" 1 := by unfold npar; decide +kernel
theorem SV_X4_338 : SiteV "EdgeWalkModel" 338 MD_X4_summedBy 1 5 := ⟨q1682, q138, nm_EdgeWalkModel, np__I_J, q1681, qs101, Or.inl q1679⟩
theorem cl_174 : 174 < NJ ∧ mL (MT 174) ≤ 64 := ⟨(Nat.le_of_ble_eq_true rfl), (Nat.le_of_ble_eq_true rfl)⟩
theorem TS_X4_marginOf_8 : InsOK MD_X4_marginOf 8 (.tableswitch 48 0 2 #[28, 32, 40], 36, 56, [(0, 36), (1, 40), (2, 48)]) := And.intro (Exists.intro _ dX4_marginOf_8) (And.intro rfl (And.intro (allc ⟨by decide, by decide, (28), rfl, rfl⟩ (allc ⟨by decide, by decide, (32), rfl, rfl⟩ (allc ⟨by decide, by decide, (40), rfl, rfl⟩ all0))) (by
  intro z h1 h2
  have h3 : z = 0 ∨ z = 1 ∨ z = 2 := by omega
  rcases h3 with rfl | rfl | rfl
  · exact ⟨(0, 36), List.mem_of_getElem? (i := 0) rfl, rfl⟩
  · exact ⟨(1, 40), List.mem_of_getElem? (i := 1) rfl, rfl⟩
  · exact ⟨(2, 48), List.mem_of_getElem? (i := 2) rfl, rfl⟩)))
theorem np__III_J : npar "(III)J" 3 := by unfold npar; decide +kernel
theorem SV_X4_328 : SiteV "EdgeWalkModel" 328 MD_X4_reckons 3 5 := ⟨q1686, q138, nm_EdgeWalkModel, np__III_J, q1685, qs102, Or.inl q1683⟩
theorem cl_175 : 175 < NJ ∧ mL (MT 175) ≤ 64 := ⟨(Nat.le_of_ble_eq_true rfl), (Nat.le_of_ble_eq_true rfl)⟩
theorem P_X4_274 {y : String} : PutOK "EdgeWalkModel" y 274 21 18 0 := ⟨5, 18, RX4, TX4, tyX4, "EdgeWalkModel", rfl, rfl, (Nat.le_of_ble_eq_true rfl), rfl, cf_X4, Or.inl rfl, Or.inl ⟨rfl, Or.inl q1298⟩⟩
theorem b8_15 : (Int8.ofInt 15).toInt32 = Int32.ofInt 15 := by decide +kernel
theorem np__J_V : npar "(J)V" 1 := by unfold npar; decide +kernel
theorem SV_X4_277 : SiteV "EdgeWalkModel" 277 MD_X4_push 1 5 := ⟨q1690, q138, nm_EdgeWalkModel, np__J_V, q1689, qs103, Or.inl q1687⟩
theorem cl_176 : 176 < NJ ∧ mL (MT 176) ≤ 64 := ⟨(Nat.le_of_ble_eq_true rfl), (Nat.le_of_ble_eq_true rfl)⟩
theorem np___J : npar "()J" 0 := by unfold npar; decide +kernel
theorem SV_X4_281 : SiteV "EdgeWalkModel" 281 MD_X4_pop 0 5 := ⟨q1694, q138, nm_EdgeWalkModel, np___J, q1693, qs104, Or.inl q1691⟩
theorem cl_177 : 177 < NJ ∧ mL (MT 177) ≤ 64 := ⟨(Nat.le_of_ble_eq_true rfl), (Nat.le_of_ble_eq_true rfl)⟩
theorem np__IJJ_J : npar "(IJJ)J" 3 := by unfold npar; decide +kernel
theorem SS_X4_285 : SiteS "EdgeWalkModel" 285 MD_X4_one 3 := ⟨rfl, q1697, q138, nm_EdgeWalkModel, np__IJJ_J, q1696, Or.inl q1695⟩
theorem cl_178 : 178 < NJ ∧ mL (MT 178) ≤ 64 := ⟨(Nat.le_of_ble_eq_true rfl), (Nat.le_of_ble_eq_true rfl)⟩
theorem F_X4_32 : FldOK "EdgeWalkModel" 32 21 17 2 ∨ FldSOK "EdgeWalkModel" 32 21 17 2 := Or.inl ⟨5, 17, RX4, TX4, tyX4, "EdgeWalkModel", rfl, rfl, (Nat.le_of_ble_eq_true rfl), rfl, cf_X4, Or.inl q1297, Or.inl rfl⟩
theorem F_X4_274 : FldOK "EdgeWalkModel" 274 21 18 0 ∨ FldSOK "EdgeWalkModel" 274 21 18 0 := Or.inl ⟨5, 18, RX4, TX4, tyX4, "EdgeWalkModel", rfl, rfl, (Nat.le_of_ble_eq_true rfl), rfl, cf_X4, Or.inl q1298, Or.inl rfl⟩
theorem TS_X4_one_1 : InsOK MD_X4_one 1 (.tableswitch 171 2 14 #[67, 71, 75, 79, 107, 119, 131, 143, 155, 171, 167, 171, 93], 68, 172, [(2, 68), (3, 72), (4, 76), (5, 80), (6, 108), (7, 120), (8, 132), (9, 144), (10, 156), (11, 172), (12, 168), (13, 172), (14, 94)]) := And.intro (Exists.intro _ dX4_one_1) (And.intro rfl (And.intro (allc ⟨by decide, by decide, (67), rfl, rfl⟩ (allc ⟨by decide, by decide, (71), rfl, rfl⟩ (allc ⟨by decide, by decide, (75), rfl, rfl⟩ (allc ⟨by decide, by decide, (79), rfl, rfl⟩ (allc ⟨by decide, by decide, (107), rfl, rfl⟩ (allc ⟨by decide, by decide, (119), rfl, rfl⟩ (allc ⟨by decide, by decide, (131), rfl, rfl⟩ (allc ⟨by decide, by decide, (143), rfl, rfl⟩ (allc ⟨by decide, by decide, (155), rfl, rfl⟩ (allc ⟨by decide, by decide, (171), rfl, rfl⟩ (allc ⟨by decide, by decide, (167), rfl, rfl⟩ (allc ⟨by decide, by decide, (171), rfl, rfl⟩ (allc ⟨by decide, by decide, (93), rfl, rfl⟩ all0))))))))))))) (by
  intro z h1 h2
  have h3 : z = 2 ∨ z = 3 ∨ z = 4 ∨ z = 5 ∨ z = 6 ∨ z = 7 ∨ z = 8 ∨ z = 9 ∨ z = 10 ∨ z = 11 ∨ z = 12 ∨ z = 13 ∨ z = 14 := by omega
  rcases h3 with rfl | rfl | rfl | rfl | rfl | rfl | rfl | rfl | rfl | rfl | rfl | rfl | rfl
  · exact ⟨(2, 68), List.mem_of_getElem? (i := 0) rfl, rfl⟩
  · exact ⟨(3, 72), List.mem_of_getElem? (i := 1) rfl, rfl⟩
  · exact ⟨(4, 76), List.mem_of_getElem? (i := 2) rfl, rfl⟩
  · exact ⟨(5, 80), List.mem_of_getElem? (i := 3) rfl, rfl⟩
  · exact ⟨(6, 108), List.mem_of_getElem? (i := 4) rfl, rfl⟩
  · exact ⟨(7, 120), List.mem_of_getElem? (i := 5) rfl, rfl⟩
  · exact ⟨(8, 132), List.mem_of_getElem? (i := 6) rfl, rfl⟩
  · exact ⟨(9, 144), List.mem_of_getElem? (i := 7) rfl, rfl⟩
  · exact ⟨(10, 156), List.mem_of_getElem? (i := 8) rfl, rfl⟩
  · exact ⟨(11, 172), List.mem_of_getElem? (i := 9) rfl, rfl⟩
  · exact ⟨(12, 168), List.mem_of_getElem? (i := 10) rfl, rfl⟩
  · exact ⟨(13, 172), List.mem_of_getElem? (i := 11) rfl, rfl⟩
  · exact ⟨(14, 94), List.mem_of_getElem? (i := 12) rfl, rfl⟩)))
theorem SV_X4_351 : SiteV "EdgeWalkModel" 351 MD_X4_comesOn 1 5 := ⟨q1709, q138, nm_EdgeWalkModel, np__I_V, q1708, qs107, Or.inl q1706⟩
theorem cl_181 : 181 < NJ ∧ mL (MT 181) ≤ 64 := ⟨(Nat.le_of_ble_eq_true rfl), (Nat.le_of_ble_eq_true rfl)⟩
theorem SV_X4_348 : SiteV "EdgeWalkModel" 348 MD_X4_cellAt 2 5 := ⟨q1713, q138, nm_EdgeWalkModel, np__II_I, q1712, qs108, Or.inl q1710⟩
theorem cl_182 : 182 < NJ ∧ mL (MT 182) ≤ 64 := ⟨(Nat.le_of_ble_eq_true rfl), (Nat.le_of_ble_eq_true rfl)⟩
theorem TS_X4_cellAt_8 : InsOK MD_X4_cellAt 8 (.tableswitch 46 0 2 #[28, 30, 38], 36, 54, [(0, 36), (1, 38), (2, 46)]) := And.intro (Exists.intro _ dX4_cellAt_8) (And.intro rfl (And.intro (allc ⟨by decide, by decide, (28), rfl, rfl⟩ (allc ⟨by decide, by decide, (30), rfl, rfl⟩ (allc ⟨by decide, by decide, (38), rfl, rfl⟩ all0))) (by
  intro z h1 h2
  have h3 : z = 0 ∨ z = 1 ∨ z = 2 := by omega
  rcases h3 with rfl | rfl | rfl
  · exact ⟨(0, 36), List.mem_of_getElem? (i := 0) rfl, rfl⟩
  · exact ⟨(1, 38), List.mem_of_getElem? (i := 1) rfl, rfl⟩
  · exact ⟨(2, 46), List.mem_of_getElem? (i := 2) rfl, rfl⟩)))
theorem KL_X4_369 : Jvm.Cond.constantLong "EdgeWalkModel" 369 (Int64.ofInt (20)) ∈ lw_all := by
  have e : Int64.ofInt (20) = (20 : Int64) := by decide +kernel
  rw [e]
  exact q1722
theorem KL_X4_371 : Jvm.Cond.constantLong "EdgeWalkModel" 371 (Int64.ofInt (100)) ∈ lw_all := by
  have e : Int64.ofInt (100) = (100 : Int64) := by decide +kernel
  rw [e]
  exact q1739
theorem KL_X4_373 : Jvm.Cond.constantLong "EdgeWalkModel" 373 (Int64.ofInt (2)) ∈ lw_all := by
  have e : Int64.ofInt (2) = (2 : Int64) := by decide +kernel
  rw [e]
  exact q1740
theorem SV_X4_375 : SiteV "EdgeWalkModel" 375 MD_X4_keeps 0 5 := ⟨q1744, q138, nm_EdgeWalkModel, np___V, q1743, qs110, Or.inl q1741⟩
theorem cl_189 : 189 < NJ ∧ mL (MT 189) ≤ 64 := ⟨(Nat.le_of_ble_eq_true rfl), (Nat.le_of_ble_eq_true rfl)⟩
theorem SV_X4_378 : SiteV "EdgeWalkModel" 378 MD_X4_passesAll 1 5 := ⟨q1748, q138, nm_EdgeWalkModel, np__I_V, q1747, qs111, Or.inl q1745⟩
theorem cl_190 : 190 < NJ ∧ mL (MT 190) ≤ 64 := ⟨(Nat.le_of_ble_eq_true rfl), (Nat.le_of_ble_eq_true rfl)⟩
theorem SV_X4_381 : SiteV "EdgeWalkModel" 381 MD_X4_laysBack 0 5 := ⟨q1752, q138, nm_EdgeWalkModel, np___V, q1751, qs112, Or.inl q1749⟩
theorem cl_191 : 191 < NJ ∧ mL (MT 191) ≤ 64 := ⟨(Nat.le_of_ble_eq_true rfl), (Nat.le_of_ble_eq_true rfl)⟩
theorem F_X4_49 : FldOK "EdgeWalkModel" 49 21 25 2 ∨ FldSOK "EdgeWalkModel" 49 21 25 2 := Or.inl ⟨5, 25, RX4, TX4, tyX4, "EdgeWalkModel", rfl, rfl, (Nat.le_of_ble_eq_true rfl), rfl, cf_X4, Or.inl q1305, Or.inl rfl⟩
theorem F_X4_52 : FldOK "EdgeWalkModel" 52 21 26 2 ∨ FldSOK "EdgeWalkModel" 52 21 26 2 := Or.inl ⟨5, 26, RX4, TX4, tyX4, "EdgeWalkModel", rfl, rfl, (Nat.le_of_ble_eq_true rfl), rfl, cf_X4, Or.inl q1306, Or.inl rfl⟩
theorem SV_X4_387 : SiteV "EdgeWalkModel" 387 MD_X4_goesFrom 2 5 := ⟨q1776, q138, nm_EdgeWalkModel, np__II_Z, q1775, qs113, Or.inl q1773⟩
theorem cl_197 : 197 < NJ ∧ mL (MT 197) ≤ 64 := ⟨(Nat.le_of_ble_eq_true rfl), (Nat.le_of_ble_eq_true rfl)⟩
theorem SV_X4_384 : SiteV "EdgeWalkModel" 384 MD_X4_nears 2 5 := ⟨q1780, q138, nm_EdgeWalkModel, np__II_Z, q1779, qs114, Or.inl q1777⟩
theorem cl_198 : 198 < NJ ∧ mL (MT 198) ≤ 64 := ⟨(Nat.le_of_ble_eq_true rfl), (Nat.le_of_ble_eq_true rfl)⟩
theorem F_X4_55 : FldOK "EdgeWalkModel" 55 21 27 2 ∨ FldSOK "EdgeWalkModel" 55 21 27 2 := Or.inl ⟨5, 27, RX4, TX4, tyX4, "EdgeWalkModel", rfl, rfl, (Nat.le_of_ble_eq_true rfl), rfl, cf_X4, Or.inl q1307, Or.inl rfl⟩
theorem F_X4_59 : FldOK "EdgeWalkModel" 59 21 28 2 ∨ FldSOK "EdgeWalkModel" 59 21 28 2 := Or.inl ⟨5, 28, RX4, TX4, tyX4, "EdgeWalkModel", rfl, rfl, (Nat.le_of_ble_eq_true rfl), rfl, cf_X4, Or.inl q1308, Or.inl rfl⟩
theorem KL_X4_405 : Jvm.Cond.constantLong "EdgeWalkModel" 405 (Int64.ofInt (40)) ∈ lw_all := by
  have e : Int64.ofInt (40) = (40 : Int64) := by decide +kernel
  rw [e]
  exact q1793
theorem SV_X4_407 : SiteV "EdgeWalkModel" 407 MD_X4_weighs 2 5 := ⟨q1797, q138, nm_EdgeWalkModel, np__II_V, q1796, qs115, Or.inl q1794⟩
theorem cl_202 : 202 < NJ ∧ mL (MT 202) ≤ 64 := ⟨(Nat.le_of_ble_eq_true rfl), (Nat.le_of_ble_eq_true rfl)⟩
theorem F_X4_396 : FldOK "EdgeWalkModel" 396 21 29 0 ∨ FldSOK "EdgeWalkModel" 396 21 29 0 := Or.inl ⟨5, 29, RX4, TX4, tyX4, "EdgeWalkModel", rfl, rfl, (Nat.le_of_ble_eq_true rfl), rfl, cf_X4, Or.inl q1309, Or.inl rfl⟩
theorem F_X4_399 : FldOK "EdgeWalkModel" 399 21 30 0 ∨ FldSOK "EdgeWalkModel" 399 21 30 0 := Or.inl ⟨5, 30, RX4, TX4, tyX4, "EdgeWalkModel", rfl, rfl, (Nat.le_of_ble_eq_true rfl), rfl, cf_X4, Or.inl q1310, Or.inl rfl⟩
theorem F_X4_402 : FldOK "EdgeWalkModel" 402 21 31 0 ∨ FldSOK "EdgeWalkModel" 402 21 31 0 := Or.inl ⟨5, 31, RX4, TX4, tyX4, "EdgeWalkModel", rfl, rfl, (Nat.le_of_ble_eq_true rfl), rfl, cf_X4, Or.inl q1311, Or.inl rfl⟩
theorem SS_X4_390 : SiteS "EdgeWalkModel" 390 MD_X4_bits 1 := ⟨rfl, q1800, q138, nm_EdgeWalkModel, np__I_I, q1799, Or.inl q1798⟩
theorem cl_203 : 203 < NJ ∧ mL (MT 203) ≤ 64 := ⟨(Nat.le_of_ble_eq_true rfl), (Nat.le_of_ble_eq_true rfl)⟩
theorem SV_X4_393 : SiteV "EdgeWalkModel" 393 MD_X4_foodAll 0 5 := ⟨q1804, q138, nm_EdgeWalkModel, np___I, q1803, qs116, Or.inl q1801⟩
theorem cl_204 : 204 < NJ ∧ mL (MT 204) ≤ 64 := ⟨(Nat.le_of_ble_eq_true rfl), (Nat.le_of_ble_eq_true rfl)⟩
theorem P_X4_396 {y : String} : PutOK "EdgeWalkModel" y 396 21 29 0 := ⟨5, 29, RX4, TX4, tyX4, "EdgeWalkModel", rfl, rfl, (Nat.le_of_ble_eq_true rfl), rfl, cf_X4, Or.inl rfl, Or.inl ⟨rfl, Or.inl q1309⟩⟩
theorem P_X4_399 {y : String} : PutOK "EdgeWalkModel" y 399 21 30 0 := ⟨5, 30, RX4, TX4, tyX4, "EdgeWalkModel", rfl, rfl, (Nat.le_of_ble_eq_true rfl), rfl, cf_X4, Or.inl rfl, Or.inl ⟨rfl, Or.inl q1310⟩⟩
theorem P_X4_402 {y : String} : PutOK "EdgeWalkModel" y 402 21 31 0 := ⟨5, 31, RX4, TX4, tyX4, "EdgeWalkModel", rfl, rfl, (Nat.le_of_ble_eq_true rfl), rfl, cf_X4, Or.inl rfl, Or.inl ⟨rfl, Or.inl q1311⟩⟩
theorem F_X4_62 : FldOK "EdgeWalkModel" 62 21 32 2 ∨ FldSOK "EdgeWalkModel" 62 21 32 2 := Or.inl ⟨5, 32, RX4, TX4, tyX4, "EdgeWalkModel", rfl, rfl, (Nat.le_of_ble_eq_true rfl), rfl, cf_X4, Or.inl q1312, Or.inl rfl⟩
theorem SV_X4_410 : SiteV "EdgeWalkModel" 410 MD_X4_isRest 2 5 := ⟨q1816, q138, nm_EdgeWalkModel, np__II_Z, q1815, qs117, Or.inl q1813⟩
theorem cl_207 : 207 < NJ ∧ mL (MT 207) ≤ 64 := ⟨(Nat.le_of_ble_eq_true rfl), (Nat.le_of_ble_eq_true rfl)⟩
theorem F_X4_65 : FldOK "EdgeWalkModel" 65 21 33 2 ∨ FldSOK "EdgeWalkModel" 65 21 33 2 := Or.inl ⟨5, 33, RX4, TX4, tyX4, "EdgeWalkModel", rfl, rfl, (Nat.le_of_ble_eq_true rfl), rfl, cf_X4, Or.inl q1313, Or.inl rfl⟩
theorem SV_X4_413 : SiteV "EdgeWalkModel" 413 MD_X4_whereOf 1 5 := ⟨q1824, q138, nm_EdgeWalkModel, np__I_I, q1823, qs118, Or.inl q1821⟩
theorem cl_209 : 209 < NJ ∧ mL (MT 209) ≤ 64 := ⟨(Nat.le_of_ble_eq_true rfl), (Nat.le_of_ble_eq_true rfl)⟩
theorem SV_X4_416 : SiteV "EdgeWalkModel" 416 MD_X4_areAlike 2 5 := ⟨q1828, q138, nm_EdgeWalkModel, np__II_Z, q1827, qs119, Or.inl q1825⟩
theorem cl_210 : 210 < NJ ∧ mL (MT 210) ≤ 64 := ⟨(Nat.le_of_ble_eq_true rfl), (Nat.le_of_ble_eq_true rfl)⟩
theorem KL_X4_419 : Jvm.Cond.constantLong "EdgeWalkModel" 419 (Int64.ofInt (9999)) ∈ lw_all := by
  have e : Int64.ofInt (9999) = (9999 : Int64) := by decide +kernel
  rw [e]
  exact q1833
theorem SV_X4_421 : SiteV "EdgeWalkModel" 421 MD_X4_shortOf 1 5 := ⟨q1837, q138, nm_EdgeWalkModel, np__I_I, q1836, qs120, Or.inl q1834⟩
theorem cl_212 : 212 < NJ ∧ mL (MT 212) ≤ 64 := ⟨(Nat.le_of_ble_eq_true rfl), (Nat.le_of_ble_eq_true rfl)⟩
theorem b16_175 : (Int16.ofInt 175).toInt32 = Int32.ofInt 175 := by decide +kernel
theorem KL_X4_424 : Jvm.Cond.constantLong "EdgeWalkModel" 424 (Int64.ofInt (60)) ∈ lw_all := by
  have e : Int64.ofInt (60) = (60 : Int64) := by decide +kernel
  rw [e]
  exact q1842
theorem SV_X4_435 : SiteV "EdgeWalkModel" 435 MD_X4_fillsFits 1 5 := ⟨q1850, q138, nm_EdgeWalkModel, np__I_V, q1849, qs121, Or.inl q1847⟩
theorem cl_215 : 215 < NJ ∧ mL (MT 215) ≤ 64 := ⟨(Nat.le_of_ble_eq_true rfl), (Nat.le_of_ble_eq_true rfl)⟩
theorem F_X4_68 : FldOK "EdgeWalkModel" 68 21 34 2 ∨ FldSOK "EdgeWalkModel" 68 21 34 2 := Or.inl ⟨5, 34, RX4, TX4, tyX4, "EdgeWalkModel", rfl, rfl, (Nat.le_of_ble_eq_true rfl), rfl, cf_X4, Or.inl q1314, Or.inl rfl⟩
theorem SV_X4_432 : SiteV "EdgeWalkModel" 432 MD_X4_areAllSo 2 5 := ⟨q1854, q138, nm_EdgeWalkModel, np__II_Z, q1853, qs122, Or.inl q1851⟩
theorem cl_216 : 216 < NJ ∧ mL (MT 216) ≤ 64 := ⟨(Nat.le_of_ble_eq_true rfl), (Nat.le_of_ble_eq_true rfl)⟩
theorem SV_X4_429 : SiteV "EdgeWalkModel" 429 MD_X4_areNotesSo 1 5 := ⟨q1858, q138, nm_EdgeWalkModel, np__I_Z, q1857, qs123, Or.inl q1855⟩
theorem cl_217 : 217 < NJ ∧ mL (MT 217) ≤ 64 := ⟨(Nat.le_of_ble_eq_true rfl), (Nat.le_of_ble_eq_true rfl)⟩
theorem F_X4_71 : FldOK "EdgeWalkModel" 71 21 35 2 ∨ FldSOK "EdgeWalkModel" 71 21 35 2 := Or.inl ⟨5, 35, RX4, TX4, tyX4, "EdgeWalkModel", rfl, rfl, (Nat.le_of_ble_eq_true rfl), rfl, cf_X4, Or.inl q1315, Or.inl rfl⟩
theorem SV_X4_426 : SiteV "EdgeWalkModel" 426 MD_X4_cellOn 1 5 := ⟨q1862, q138, nm_EdgeWalkModel, np__I_I, q1861, qs124, Or.inl q1859⟩
theorem cl_218 : 218 < NJ ∧ mL (MT 218) ≤ 64 := ⟨(Nat.le_of_ble_eq_true rfl), (Nat.le_of_ble_eq_true rfl)⟩
theorem SV_X4_438 : SiteV "EdgeWalkModel" 438 MD_X4_alikeAt 1 5 := ⟨q1870, q138, nm_EdgeWalkModel, np__I_I, q1869, qs125, Or.inl q1867⟩
theorem cl_220 : 220 < NJ ∧ mL (MT 220) ≤ 64 := ⟨(Nat.le_of_ble_eq_true rfl), (Nat.le_of_ble_eq_true rfl)⟩
theorem KL_X4_441 : Jvm.Cond.constantLong "EdgeWalkModel" 441 (Int64.ofInt (-1)) ∈ lw_all := by
  have e : Int64.ofInt (-1) = (-1 : Int64) := by decide +kernel
  rw [e]
  exact q1875
theorem F_X4_443 : FldOK "EdgeWalkModel" 443 21 22 0 ∨ FldSOK "EdgeWalkModel" 443 21 22 0 := Or.inl ⟨5, 22, RX4, TX4, tyX4, "EdgeWalkModel", rfl, rfl, (Nat.le_of_ble_eq_true rfl), rfl, cf_X4, Or.inl q1302, Or.inl rfl⟩
theorem P_X4_443 {y : String} : PutOK "EdgeWalkModel" y 443 21 22 0 := ⟨5, 22, RX4, TX4, tyX4, "EdgeWalkModel", rfl, rfl, (Nat.le_of_ble_eq_true rfl), rfl, cf_X4, Or.inl rfl, Or.inl ⟨rfl, Or.inl q1302⟩⟩
theorem KL_X4_461 : Jvm.Cond.constantLong "EdgeWalkModel" 461 (Int64.ofInt (10)) ∈ lw_all := by
  have e : Int64.ofInt (10) = (10 : Int64) := by decide +kernel
  rw [e]
  exact q1884
theorem P_X4_446 {y : String} : PutOK "EdgeWalkModel" y 446 21 36 1 := ⟨5, 36, RX4, TX4, tyX4, "EdgeWalkModel", rfl, rfl, (Nat.le_of_ble_eq_true rfl), rfl, cf_X4, Or.inl rfl, Or.inl ⟨rfl, Or.inl q1316⟩⟩
theorem SV_X4_458 : SiteV "EdgeWalkModel" 458 MD_X4_draw 1 5 := ⟨q1888, q138, nm_EdgeWalkModel, np__I_I, q1887, qs126, Or.inl q1885⟩
theorem cl_224 : 224 < NJ ∧ mL (MT 224) ≤ 64 := ⟨(Nat.le_of_ble_eq_true rfl), (Nat.le_of_ble_eq_true rfl)⟩
theorem SV_X4_463 : SiteV "EdgeWalkModel" 463 MD_X4_blows 0 5 := ⟨q1896, q138, nm_EdgeWalkModel, np___V, q1895, qs127, Or.inl q1893⟩
theorem cl_225 : 225 < NJ ∧ mL (MT 225) ≤ 64 := ⟨(Nat.le_of_ble_eq_true rfl), (Nat.le_of_ble_eq_true rfl)⟩
theorem F_X4_446 : FldOK "EdgeWalkModel" 446 21 36 1 ∨ FldSOK "EdgeWalkModel" 446 21 36 1 := Or.inl ⟨5, 36, RX4, TX4, tyX4, "EdgeWalkModel", rfl, rfl, (Nat.le_of_ble_eq_true rfl), rfl, cf_X4, Or.inl q1316, Or.inl rfl⟩
theorem KL_X4_450 : Jvm.Cond.constantLong "EdgeWalkModel" 450 (Int64.ofInt (1103515245)) ∈ lw_all := by
  have e : Int64.ofInt (1103515245) = (1103515245 : Int64) := by decide +kernel
  rw [e]
  exact q1889
theorem KL_X4_452 : Jvm.Cond.constantLong "EdgeWalkModel" 452 (Int64.ofInt (12345)) ∈ lw_all := by
  have e : Int64.ofInt (12345) = (12345 : Int64) := by decide +kernel
  rw [e]
  exact q1890
theorem KL_X4_454 : Jvm.Cond.constantLong "EdgeWalkModel" 454 (Int64.ofInt (2147483648)) ∈ lw_all := by
  have e : Int64.ofInt (2147483648) = (2147483648 : Int64) := by decide +kernel
  rw [e]
  exact q1891
theorem KL_X4_456 : Jvm.Cond.constantLong "EdgeWalkModel" 456 (Int64.ofInt (65536)) ∈ lw_all := by
  have e : Int64.ofInt (65536) = (65536 : Int64) := by decide +kernel
  rw [e]
  exact q1892
theorem TS_X4_count_3 : InsOK MD_X4_count 3 (.tableswitch 161 0 12 #[65, 65, 74, 79, 84, 92, 98, 104, 109, 137, 146, 151, 156], 68, 164, [(0, 68), (1, 68), (2, 77), (3, 82), (4, 87), (5, 95), (6, 101), (7, 107), (8, 112), (9, 140), (10, 149), (11, 154), (12, 159)]) := And.intro (Exists.intro _ dX4_count_3) (And.intro rfl (And.intro (allc ⟨by decide, by decide, (65), rfl, rfl⟩ (allc ⟨by decide, by decide, (65), rfl, rfl⟩ (allc ⟨by decide, by decide, (74), rfl, rfl⟩ (allc ⟨by decide, by decide, (79), rfl, rfl⟩ (allc ⟨by decide, by decide, (84), rfl, rfl⟩ (allc ⟨by decide, by decide, (92), rfl, rfl⟩ (allc ⟨by decide, by decide, (98), rfl, rfl⟩ (allc ⟨by decide, by decide, (104), rfl, rfl⟩ (allc ⟨by decide, by decide, (109), rfl, rfl⟩ (allc ⟨by decide, by decide, (137), rfl, rfl⟩ (allc ⟨by decide, by decide, (146), rfl, rfl⟩ (allc ⟨by decide, by decide, (151), rfl, rfl⟩ (allc ⟨by decide, by decide, (156), rfl, rfl⟩ all0))))))))))))) (by
  intro z h1 h2
  have h3 : z = 0 ∨ z = 1 ∨ z = 2 ∨ z = 3 ∨ z = 4 ∨ z = 5 ∨ z = 6 ∨ z = 7 ∨ z = 8 ∨ z = 9 ∨ z = 10 ∨ z = 11 ∨ z = 12 := by omega
  rcases h3 with rfl | rfl | rfl | rfl | rfl | rfl | rfl | rfl | rfl | rfl | rfl | rfl | rfl
  · exact ⟨(0, 68), List.mem_of_getElem? (i := 0) rfl, rfl⟩
  · exact ⟨(1, 68), List.mem_of_getElem? (i := 1) rfl, rfl⟩
  · exact ⟨(2, 77), List.mem_of_getElem? (i := 2) rfl, rfl⟩
  · exact ⟨(3, 82), List.mem_of_getElem? (i := 3) rfl, rfl⟩
  · exact ⟨(4, 87), List.mem_of_getElem? (i := 4) rfl, rfl⟩
  · exact ⟨(5, 95), List.mem_of_getElem? (i := 5) rfl, rfl⟩
  · exact ⟨(6, 101), List.mem_of_getElem? (i := 6) rfl, rfl⟩
  · exact ⟨(7, 107), List.mem_of_getElem? (i := 7) rfl, rfl⟩
  · exact ⟨(8, 112), List.mem_of_getElem? (i := 8) rfl, rfl⟩
  · exact ⟨(9, 140), List.mem_of_getElem? (i := 9) rfl, rfl⟩
  · exact ⟨(10, 149), List.mem_of_getElem? (i := 10) rfl, rfl⟩
  · exact ⟨(11, 154), List.mem_of_getElem? (i := 11) rfl, rfl⟩
  · exact ⟨(12, 159), List.mem_of_getElem? (i := 12) rfl, rfl⟩)))
theorem F_X4_83 : FldOK "EdgeWalkModel" 83 21 40 2 ∨ FldSOK "EdgeWalkModel" 83 21 40 2 := Or.inl ⟨5, 40, RX4, TX4, tyX4, "EdgeWalkModel", rfl, rfl, (Nat.le_of_ble_eq_true rfl), rfl, cf_X4, Or.inl q1320, Or.inl rfl⟩
theorem F_X4_77 : FldOK "EdgeWalkModel" 77 21 38 2 ∨ FldSOK "EdgeWalkModel" 77 21 38 2 := Or.inl ⟨5, 38, RX4, TX4, tyX4, "EdgeWalkModel", rfl, rfl, (Nat.le_of_ble_eq_true rfl), rfl, cf_X4, Or.inl q1318, Or.inl rfl⟩
theorem F_X4_80 : FldOK "EdgeWalkModel" 80 21 39 2 ∨ FldSOK "EdgeWalkModel" 80 21 39 2 := Or.inl ⟨5, 39, RX4, TX4, tyX4, "EdgeWalkModel", rfl, rfl, (Nat.le_of_ble_eq_true rfl), rfl, cf_X4, Or.inl q1319, Or.inl rfl⟩
theorem F_X4_74 : FldOK "EdgeWalkModel" 74 21 37 2 ∨ FldSOK "EdgeWalkModel" 74 21 37 2 := Or.inl ⟨5, 37, RX4, TX4, tyX4, "EdgeWalkModel", rfl, rfl, (Nat.le_of_ble_eq_true rfl), rfl, cf_X4, Or.inl q1317, Or.inl rfl⟩
theorem P_X5_3 : PutOK "EdgeWalk$Parser" "<init>" 3 22 6 2 := ⟨6, 6, RX5, TX5, tyX5, "EdgeWalk$Parser", rfl, rfl, (Nat.le_of_ble_eq_true rfl), rfl, cf_X5, Or.inl rfl, Or.inr ⟨rfl, rfl, rfl, q467⟩⟩
theorem P_X5_15 : PutOK "EdgeWalk$Parser" "<init>" 15 22 0 2 := ⟨6, 0, RX5, TX5, tyX5, "EdgeWalk$Parser", rfl, rfl, (Nat.le_of_ble_eq_true rfl), rfl, cf_X5, Or.inl rfl, Or.inr ⟨rfl, rfl, rfl, q461⟩⟩
theorem P_X5_19 : PutOK "EdgeWalk$Parser" "<init>" 19 22 5 0 := ⟨6, 5, RX5, TX5, tyX5, "EdgeWalk$Parser", rfl, rfl, (Nat.le_of_ble_eq_true rfl), rfl, cf_X5, Or.inl rfl, Or.inr ⟨rfl, rfl, rfl, q466⟩⟩
theorem N_X5_151 : NewOK "EdgeWalk$Parser" 151 17 5 := ⟨1, RX1, TX1, tyX1, rfl, cf_X1, q487, q173, q130⟩
theorem SI_X5_217 : SiteI "EdgeWalk$Parser" 217 MD_X1_init 0 := ⟨rfl, rfl, rfl, q176, q130, nm_EdgeWalk_Sheet, np___V, q175, Or.inr ⟨_, q488⟩⟩
theorem SV_X5_218 : SiteV "EdgeWalk$Parser" 218 MD_X5_clause 1 6 := ⟨q492, q139, nm_EdgeWalk_Parser, np__LEdgeWalk_Sheet__V, q491, qs2, Or.inl q489⟩
theorem cl_231 : 231 < NJ ∧ mL (MT 231) ≤ 64 := ⟨(Nat.le_of_ble_eq_true rfl), (Nat.le_of_ble_eq_true rfl)⟩
theorem SV_X5_221 : SiteV "EdgeWalk$Parser" 221 MD_X5_goesOn 0 6 := ⟨q689, q139, nm_EdgeWalk_Parser, np___Z, q688, qs15, Or.inl q686⟩
theorem cl_240 : 240 < NJ ∧ mL (MT 240) ≤ 64 := ⟨(Nat.le_of_ble_eq_true rfl), (Nat.le_of_ble_eq_true rfl)⟩
theorem F_X5_177 : FldOK "EdgeWalk$Parser" 177 17 3 0 ∨ FldSOK "EdgeWalk$Parser" 177 17 3 0 := Or.inl ⟨1, 3, RX1, TX1, tyX1, "EdgeWalk$Sheet", rfl, rfl, (Nat.le_of_ble_eq_true rfl), rfl, cf_X1, Or.inr ⟨_, q218⟩, Or.inl rfl⟩
theorem KS_X5_180 : ∃ tx i, ("EdgeWalk$Parser", 180, tx, i) ∈ SRl ∧ 1 ≤ i ∧ i < 64 ∧ 1183744 = extAd i := ⟨"sheet", 4, by decide +kernel, by decide, by decide, by decide +kernel⟩
theorem np__Ljava_lang_String_Z_Z : npar "(Ljava/lang/String;Z)Z" 2 := by unfold npar; decide +kernel
theorem SV_X5_182 : SiteV "EdgeWalk$Parser" 182 MD_X5_begins 2 6 := ⟨q497, q139, nm_EdgeWalk_Parser, np__Ljava_lang_String_Z_Z, q496, qs3, Or.inl q494⟩
theorem cl_232 : 232 < NJ ∧ mL (MT 232) ≤ 64 := ⟨(Nat.le_of_ble_eq_true rfl), (Nat.le_of_ble_eq_true rfl)⟩
theorem SV_X5_82 : SiteV "EdgeWalk$Parser" 82 MD_X5_number 2 6 := ⟨q570, q139, nm_EdgeWalk_Parser, np__II_I, q569, qs8, Or.inl q567⟩
theorem cl_236 : 236 < NJ ∧ mL (MT 236) ≤ 64 := ⟨(Nat.le_of_ble_eq_true rfl), (Nat.le_of_ble_eq_true rfl)⟩
theorem P_X5_177 {y : String} : PutOK "EdgeWalk$Parser" y 177 17 3 0 := ⟨1, 3, RX1, TX1, tyX1, "EdgeWalk$Sheet", rfl, rfl, (Nat.le_of_ble_eq_true rfl), rfl, cf_X1, Or.inl rfl, Or.inl ⟨rfl, Or.inr ⟨_, q218⟩⟩⟩
theorem KS_X5_186 : ∃ tx i, ("EdgeWalk$Parser", 186, tx, i) ∈ SRl ∧ 1 ≤ i ∧ i < 64 ∧ 1708032 = extAd i := ⟨"goer", 6, by decide +kernel, by decide, by decide, by decide +kernel⟩
theorem SV_X5_188 : SiteV "EdgeWalk$Parser" 188 MD_X1_goers 0 1 := ⟨q581, q130, nm_EdgeWalk_Sheet, np___I, q579, q580, Or.inl q578⟩
theorem SV_X5_190 : SiteV "EdgeWalk$Parser" 190 MD_X5_goer 1 6 := ⟨q589, q139, nm_EdgeWalk_Parser, np__LEdgeWalk_Sheet__V, q588, qs10, Or.inl q586⟩
theorem cl_238 : 238 < NJ ∧ mL (MT 238) ≤ 64 := ⟨(Nat.le_of_ble_eq_true rfl), (Nat.le_of_ble_eq_true rfl)⟩
theorem KS_X5_193 : ∃ tx i, ("EdgeWalk$Parser", 193, tx, i) ∈ SRl ∧ 1 ≤ i ∧ i < 64 ∧ 2232320 = extAd i := ⟨"join", 8, by decide +kernel, by decide, by decide, by decide +kernel⟩
theorem SV_X5_195 : SiteV "EdgeWalk$Parser" 195 MD_X5_join 1 6 := ⟨q684, q139, nm_EdgeWalk_Parser, np__LEdgeWalk_Sheet__V, q683, qs14, Or.inl q681⟩
theorem cl_239 : 239 < NJ ∧ mL (MT 239) ≤ 64 := ⟨(Nat.le_of_ble_eq_true rfl), (Nat.le_of_ble_eq_true rfl)⟩
theorem KS_X5_197 : ∃ tx i, ("EdgeWalk$Parser", 197, tx, i) ∈ SRl ∧ 1 ≤ i ∧ i < 64 ∧ 2756608 = extAd i := ⟨"stone", 10, by decide +kernel, by decide, by decide, by decide +kernel⟩
theorem F_X5_199 : FldOK "EdgeWalk$Parser" 199 17 4 1 ∨ FldSOK "EdgeWalk$Parser" 199 17 4 1 := Or.inl ⟨1, 4, RX1, TX1, tyX1, "EdgeWalk$Sheet", rfl, rfl, (Nat.le_of_ble_eq_true rfl), rfl, cf_X1, Or.inr ⟨_, q220⟩, Or.inl rfl⟩
theorem SV_X5_150 : SiteV "EdgeWalk$Parser" 150 MD_X1_cells 0 1 := ⟨q593, q130, nm_EdgeWalk_Sheet, np___I, q591, q592, Or.inl q590⟩
theorem P_X5_199 {y : String} : PutOK "EdgeWalk$Parser" y 199 17 4 1 := ⟨1, 4, RX1, TX1, tyX1, "EdgeWalk$Sheet", rfl, rfl, (Nat.le_of_ble_eq_true rfl), rfl, cf_X1, Or.inl rfl, Or.inl ⟨rfl, Or.inr ⟨_, q220⟩⟩⟩
theorem F_X5_3 : FldOK "EdgeWalk$Parser" 3 22 6 2 ∨ FldSOK "EdgeWalk$Parser" 3 22 6 2 := Or.inl ⟨6, 6, RX5, TX5, tyX5, "EdgeWalk$Parser", rfl, rfl, (Nat.le_of_ble_eq_true rfl), rfl, cf_X5, Or.inl q467, Or.inl rfl⟩
theorem F_X5_23 : FldOK "EdgeWalk$Parser" 23 22 1 0 ∨ FldSOK "EdgeWalk$Parser" 23 22 1 0 := Or.inl ⟨6, 1, RX5, TX5, tyX5, "EdgeWalk$Parser", rfl, rfl, (Nat.le_of_ble_eq_true rfl), rfl, cf_X5, Or.inl q462, Or.inl rfl⟩
theorem np__II_LEdgeWalk_Wrong_ : npar "(II)LEdgeWalk$Wrong;" 2 := by unfold npar; decide +kernel
theorem SV_X5_69 : SiteV "EdgeWalk$Parser" 69 MD_X0_fails 2 0 := ⟨q566, q129, nm_EdgeWalk, np__II_LEdgeWalk_Wrong_, q565, qs7, Or.inr ⟨rfl, _, q563⟩⟩
theorem cl_34 : 34 < NJ ∧ mL (MT 34) ≤ 64 := ⟨(Nat.le_of_ble_eq_true rfl), (Nat.le_of_ble_eq_true rfl)⟩
theorem np__Ljava_lang_String__Z : npar "(Ljava/lang/String;)Z" 1 := by unfold npar; decide +kernel
theorem SV_X5_61 : SiteV "EdgeWalk$Parser" 61 MD_X5_isWord 1 6 := ⟨q501, q139, nm_EdgeWalk_Parser, np__Ljava_lang_String__Z, q500, qs4, Or.inl q498⟩
theorem cl_233 : 233 < NJ ∧ mL (MT 233) ≤ 64 := ⟨(Nat.le_of_ble_eq_true rfl), (Nat.le_of_ble_eq_true rfl)⟩
theorem F_X5_147 : FldOK "EdgeWalk$Parser" 147 22 4 0 ∨ FldSOK "EdgeWalk$Parser" 147 22 4 0 := Or.inl ⟨6, 4, RX5, TX5, tyX5, "EdgeWalk$Parser", rfl, rfl, (Nat.le_of_ble_eq_true rfl), rfl, cf_X5, Or.inl q465, Or.inl rfl⟩
theorem F_X5_19 : FldOK "EdgeWalk$Parser" 19 22 5 0 ∨ FldSOK "EdgeWalk$Parser" 19 22 5 0 := Or.inl ⟨6, 5, RX5, TX5, tyX5, "EdgeWalk$Parser", rfl, rfl, (Nat.le_of_ble_eq_true rfl), rfl, cf_X5, Or.inl q466, Or.inl rfl⟩
theorem P_X5_147 {y : String} : PutOK "EdgeWalk$Parser" y 147 22 4 0 := ⟨6, 4, RX5, TX5, tyX5, "EdgeWalk$Parser", rfl, rfl, (Nat.le_of_ble_eq_true rfl), rfl, cf_X5, Or.inl rfl, Or.inl ⟨rfl, Or.inl q465⟩⟩
theorem SV_X5_52 : SiteV "EdgeWalk$Parser" 52 MD_J5_length 0 17 := ⟨q518, q140, nm_java_lang_String, np___I, q516, q517, Or.inl q515⟩
theorem cl_10 : 10 < NJ ∧ mL (MT 10) ≤ 64 := ⟨(Nat.le_of_ble_eq_true rfl), (Nat.le_of_ble_eq_true rfl)⟩
theorem P_X5_23 {y : String} : PutOK "EdgeWalk$Parser" y 23 22 1 0 := ⟨6, 1, RX5, TX5, tyX5, "EdgeWalk$Parser", rfl, rfl, (Nat.le_of_ble_eq_true rfl), rfl, cf_X5, Or.inl rfl, Or.inl ⟨rfl, Or.inl q462⟩⟩
theorem SV_X5_45 : SiteV "EdgeWalk$Parser" 45 MD_X5_next 0 6 := ⟨q505, q139, nm_EdgeWalk_Parser, np___I, q504, qs5, Or.inl q502⟩
theorem cl_234 : 234 < NJ ∧ mL (MT 234) ≤ 64 := ⟨(Nat.le_of_ble_eq_true rfl), (Nat.le_of_ble_eq_true rfl)⟩
theorem F_X5_26 : FldOK "EdgeWalk$Parser" 26 16 7 0 ∨ FldSOK "EdgeWalk$Parser" 26 16 7 0 := Or.inl ⟨0, 7, RX0, TX0, tyX0, "EdgeWalk", rfl, rfl, (Nat.le_of_ble_eq_true rfl), rfl, cf_X0, Or.inr ⟨_, q361⟩, Or.inl rfl⟩
theorem F_X5_29 : FldOK "EdgeWalk$Parser" 29 16 6 2 ∨ FldSOK "EdgeWalk$Parser" 29 16 6 2 := Or.inl ⟨0, 6, RX0, TX0, tyX0, "EdgeWalk", rfl, rfl, (Nat.le_of_ble_eq_true rfl), rfl, cf_X0, Or.inr ⟨_, q359⟩, Or.inl rfl⟩
theorem KL_X5_48 : Jvm.Cond.constantLong "EdgeWalk$Parser" 48 (Int64.ofInt (97)) ∈ lw_all := by
  have e : Int64.ofInt (97) = (97 : Int64) := by decide +kernel
  rw [e]
  exact q510
theorem KL_X5_50 : Jvm.Cond.constantLong "EdgeWalk$Parser" 50 (Int64.ofInt (122)) ∈ lw_all := by
  have e : Int64.ofInt (122) = (122 : Int64) := by decide +kernel
  rw [e]
  exact q511
theorem SS_X5_41 : SiteS "EdgeWalk$Parser" 41 MD_X0_in 3 := ⟨rfl, q514, q129, nm_EdgeWalk, np__JJJ_Z, q513, Or.inr ⟨_, q512⟩⟩
theorem np__I_C : npar "(I)C" 1 := by unfold npar; decide +kernel
theorem SV_X5_57 : SiteV "EdgeWalk$Parser" 57 MD_J5_charAt 1 17 := ⟨q528, q140, nm_java_lang_String, np__I_C, q526, q527, Or.inl q525⟩
theorem cl_12 : 12 < NJ ∧ mL (MT 12) ≤ 64 := ⟨(Nat.le_of_ble_eq_true rfl), (Nat.le_of_ble_eq_true rfl)⟩
theorem SV_X5_33 : SiteV "EdgeWalk$Parser" 33 MD_X5_sign 0 6 := ⟨q509, q139, nm_EdgeWalk_Parser, np___I, q508, qs6, Or.inl q506⟩
theorem cl_235 : 235 < NJ ∧ mL (MT 235) ≤ 64 := ⟨(Nat.le_of_ble_eq_true rfl), (Nat.le_of_ble_eq_true rfl)⟩
theorem SV_X5_65 : SiteV "EdgeWalk$Parser" 65 MD_X5_isDigit 0 6 := ⟨q574, q139, nm_EdgeWalk_Parser, np___Z, q573, qs9, Or.inl q571⟩
theorem cl_237 : 237 < NJ ∧ mL (MT 237) ≤ 64 := ⟨(Nat.le_of_ble_eq_true rfl), (Nat.le_of_ble_eq_true rfl)⟩
theorem KL_X5_37 : Jvm.Cond.constantLong "EdgeWalk$Parser" 37 (Int64.ofInt (48)) ∈ lw_all := by
  have e : Int64.ofInt (48) = (48 : Int64) := by decide +kernel
  rw [e]
  exact q575
theorem KL_X5_39 : Jvm.Cond.constantLong "EdgeWalk$Parser" 39 (Int64.ofInt (57)) ∈ lw_all := by
  have e : Int64.ofInt (57) = (57 : Int64) := by decide +kernel
  rw [e]
  exact q576
theorem F_X5_155 : FldOK "EdgeWalk$Parser" 155 17 0 2 ∨ FldSOK "EdgeWalk$Parser" 155 17 0 2 := Or.inl ⟨1, 0, RX1, TX1, tyX1, "EdgeWalk$Sheet", rfl, rfl, (Nat.le_of_ble_eq_true rfl), rfl, cf_X1, Or.inr ⟨_, q208⟩, Or.inl rfl⟩
theorem N_X5_159 : NewOK "EdgeWalk$Parser" 159 23 3 := ⟨7, RX6, TX6, tyX6, rfl, cf_X6, q594, q595, q145⟩
theorem nm_EdgeWalk_Goer : ("EdgeWalk$Goer" : String) ≠ "java/lang/invoke/MethodHandle" ∧ ("EdgeWalk$Goer" : String) ≠ "java/lang/invoke/VarHandle" := by decide
theorem SI_X5_161 : SiteI "EdgeWalk$Parser" 161 MD_X6_init 3 := ⟨rfl, rfl, rfl, q598, q145, nm_EdgeWalk_Goer, np__III_V, q597, Or.inr ⟨_, q596⟩⟩
theorem cl_252 : 252 < NJ ∧ mL (MT 252) ≤ 64 := ⟨(Nat.le_of_ble_eq_true rfl), (Nat.le_of_ble_eq_true rfl)⟩
theorem np__Ljava_lang_Object__Z : npar "(Ljava/lang/Object;)Z" 1 := by unfold npar; decide +kernel
theorem SV_X5_164 : SiteV "EdgeWalk$Parser" 164 MD_J2_add 1 2 := ⟨q619, q133, nm_java_util_ArrayList, np__Ljava_lang_Object__Z, q617, q618, Or.inl q616⟩
theorem cl_4 : 4 < NJ ∧ mL (MT 4) ≤ 64 := ⟨(Nat.le_of_ble_eq_true rfl), (Nat.le_of_ble_eq_true rfl)⟩
theorem F_X5_170 : FldOK "EdgeWalk$Parser" 170 17 2 2 ∨ FldSOK "EdgeWalk$Parser" 170 17 2 2 := Or.inl ⟨1, 2, RX1, TX1, tyX1, "EdgeWalk$Sheet", rfl, rfl, (Nat.le_of_ble_eq_true rfl), rfl, cf_X1, Or.inr ⟨_, q215⟩, Or.inl rfl⟩
theorem F_X5_174 : FldOK "EdgeWalk$Parser" 174 17 1 2 ∨ FldSOK "EdgeWalk$Parser" 174 17 1 2 := Or.inl ⟨1, 1, RX1, TX1, tyX1, "EdgeWalk$Sheet", rfl, rfl, (Nat.le_of_ble_eq_true rfl), rfl, cf_X1, Or.inr ⟨_, q211⟩, Or.inl rfl⟩
theorem N_X5_206 : NewOK "EdgeWalk$Parser" 206 24 1 := ⟨8, RX7, TX7, tyX7, rfl, cf_X7, q718, q719, q151⟩
theorem SI_X5_224 : SiteI "EdgeWalk$Parser" 224 MD_X7_init 0 := ⟨rfl, rfl, rfl, q722, q151, nm_EdgeWalk_Rule, np___V, q721, Or.inr ⟨_, q720⟩⟩
theorem cl_253 : 253 < NJ ∧ mL (MT 253) ≤ 64 := ⟨(Nat.le_of_ble_eq_true rfl), (Nat.le_of_ble_eq_true rfl)⟩
theorem np__LEdgeWalk_Rule__V : npar "(LEdgeWalk$Rule;)V" 1 := by unfold npar; decide +kernel
theorem SV_X5_225 : SiteV "EdgeWalk$Parser" 225 MD_X5_clause_2 1 6 := ⟨q734, q139, nm_EdgeWalk_Parser, np__LEdgeWalk_Rule__V, q733, qs16, Or.inl q731⟩
theorem cl_242 : 242 < NJ ∧ mL (MT 242) ≤ 64 := ⟨(Nat.le_of_ble_eq_true rfl), (Nat.le_of_ble_eq_true rfl)⟩
theorem F_X5_228 : FldOK "EdgeWalk$Parser" 228 16 3 2 ∨ FldSOK "EdgeWalk$Parser" 228 16 3 2 := Or.inl ⟨0, 3, RX0, TX0, tyX0, "EdgeWalk", rfl, rfl, (Nat.le_of_ble_eq_true rfl), rfl, cf_X0, Or.inr ⟨_, q355⟩, Or.inl rfl⟩
theorem SV_X5_231 : SiteV "EdgeWalk$Parser" 231 MD_J2_size 0 2 := ⟨q585, q133, nm_java_util_ArrayList, np___I, q583, q584, Or.inl q878⟩
theorem KS_X5_203 : ∃ tx i, ("EdgeWalk$Parser", 203, tx, i) ∈ SRl ∧ 1 ≤ i ∧ i < 64 ∧ 3280896 = extAd i := ⟨"turn", 12, by decide +kernel, by decide, by decide, by decide +kernel⟩
theorem np___LEdgeWalk_Value_ : npar "()LEdgeWalk$Value;" 0 := by unfold npar; decide +kernel
theorem SV_X5_124 : SiteV "EdgeWalk$Parser" 124 MD_X5_sum 0 6 := ⟨q739, q139, nm_EdgeWalk_Parser, np___LEdgeWalk_Value_, q738, qs17, Or.inl q736⟩
theorem cl_243 : 243 < NJ ∧ mL (MT 243) ≤ 64 := ⟨(Nat.le_of_ble_eq_true rfl), (Nat.le_of_ble_eq_true rfl)⟩
theorem F_X5_205 : FldOK "EdgeWalk$Parser" 205 24 0 2 ∨ FldSOK "EdgeWalk$Parser" 205 24 0 2 := Or.inl ⟨8, 0, RX7, TX7, tyX7, "EdgeWalk$Rule", rfl, rfl, (Nat.le_of_ble_eq_true rfl), rfl, cf_X7, Or.inr ⟨_, q727⟩, Or.inl rfl⟩
theorem N_X5_210 : NewOK "EdgeWalk$Parser" 210 28 2 := ⟨12, RX12, TX12, tyX12, rfl, cf_X12, q792, q793, q156⟩
theorem KS_X5_212 : ∃ tx i, ("EdgeWalk$Parser", 212, tx, i) ∈ SRl ∧ 1 ≤ i ∧ i < 64 ∧ 3805184 = extAd i := ⟨"if", 14, by decide +kernel, by decide, by decide, by decide +kernel⟩
theorem SV_X5_134 : SiteV "EdgeWalk$Parser" 134 MD_X5_takes 1 6 := ⟨q798, q139, nm_EdgeWalk_Parser, np__Ljava_lang_String__Z, q797, qs21, Or.inl q795⟩
theorem cl_247 : 247 < NJ ∧ mL (MT 247) ≤ 64 := ⟨(Nat.le_of_ble_eq_true rfl), (Nat.le_of_ble_eq_true rfl)⟩
theorem np___LEdgeWalk_Condition_ : npar "()LEdgeWalk$Condition;" 0 := by unfold npar; decide +kernel
theorem SV_X5_121 : SiteV "EdgeWalk$Parser" 121 MD_X5_test 0 6 := ⟨q802, q139, nm_EdgeWalk_Parser, np___LEdgeWalk_Condition_, q801, qs22, Or.inl q799⟩
theorem cl_248 : 248 < NJ ∧ mL (MT 248) ≤ 64 := ⟨(Nat.le_of_ble_eq_true rfl), (Nat.le_of_ble_eq_true rfl)⟩
theorem nm_EdgeWalk_Told : ("EdgeWalk$Told" : String) ≠ "java/lang/invoke/MethodHandle" ∧ ("EdgeWalk$Told" : String) ≠ "java/lang/invoke/VarHandle" := by decide
theorem np__LEdgeWalk_Value_LEdgeWalk_Condition__V : npar "(LEdgeWalk$Value;LEdgeWalk$Condition;)V" 2 := by unfold npar; decide +kernel
theorem SI_X5_214 : SiteI "EdgeWalk$Parser" 214 MD_X12_init 2 := ⟨rfl, rfl, rfl, q868, q156, nm_EdgeWalk_Told, np__LEdgeWalk_Value_LEdgeWalk_Condition__V, q867, Or.inr ⟨_, q866⟩⟩
theorem cl_262 : 262 < NJ ∧ mL (MT 262) ≤ 64 := ⟨(Nat.le_of_ble_eq_true rfl), (Nat.le_of_ble_eq_true rfl)⟩
theorem SV_X5_104 : SiteV "EdgeWalk$Parser" 104 MD_X5_term 0 6 := ⟨q743, q139, nm_EdgeWalk_Parser, np___LEdgeWalk_Value_, q742, qs18, Or.inl q740⟩
theorem cl_244 : 244 < NJ ∧ mL (MT 244) ≤ 64 := ⟨(Nat.le_of_ble_eq_true rfl), (Nat.le_of_ble_eq_true rfl)⟩
theorem N_X5_99 : NewOK "EdgeWalk$Parser" 99 27 3 := ⟨11, RX11, TX11, tyX11, rfl, cf_X11, q776, q777, q155⟩
theorem nm_EdgeWalk_Joined : ("EdgeWalk$Joined" : String) ≠ "java/lang/invoke/MethodHandle" ∧ ("EdgeWalk$Joined" : String) ≠ "java/lang/invoke/VarHandle" := by decide
theorem np__LEdgeWalk_Value_LEdgeWalk_Value_I_V : npar "(LEdgeWalk$Value;LEdgeWalk$Value;I)V" 3 := by unfold npar; decide +kernel
theorem SI_X5_101 : SiteI "EdgeWalk$Parser" 101 MD_X11_init 3 := ⟨rfl, rfl, rfl, q780, q155, nm_EdgeWalk_Joined, np__LEdgeWalk_Value_LEdgeWalk_Value_I_V, q779, Or.inl q778⟩
theorem cl_260 : 260 < NJ ∧ mL (MT 260) ≤ 64 := ⟨(Nat.le_of_ble_eq_true rfl), (Nat.le_of_ble_eq_true rfl)⟩
theorem SV_X5_95 : SiteV "EdgeWalk$Parser" 95 MD_X5_value 0 6 := ⟨q747, q139, nm_EdgeWalk_Parser, np___LEdgeWalk_Value_, q746, qs19, Or.inl q744⟩
theorem cl_245 : 245 < NJ ∧ mL (MT 245) ≤ 64 := ⟨(Nat.le_of_ble_eq_true rfl), (Nat.le_of_ble_eq_true rfl)⟩
theorem N_X5_79 : NewOK "EdgeWalk$Parser" 79 25 1 := ⟨9, RX9, TX9, tyX9, rfl, cf_X9, q748, q749, q153⟩
theorem K_X5_81 : Jvm.Cond.constant "EdgeWalk$Parser" 81 (Int32.ofInt (99999)) ∈ lw_all := by
  have e : Int32.ofInt (99999) = (99999 : Int32) := by decide +kernel
  rw [e]
  exact q750
theorem nm_EdgeWalk_Plain : ("EdgeWalk$Plain" : String) ≠ "java/lang/invoke/MethodHandle" ∧ ("EdgeWalk$Plain" : String) ≠ "java/lang/invoke/VarHandle" := by decide
theorem SI_X5_86 : SiteI "EdgeWalk$Parser" 86 MD_X9_init 1 := ⟨rfl, rfl, rfl, q753, q153, nm_EdgeWalk_Plain, np__I_V, q752, Or.inl q751⟩
theorem cl_256 : 256 < NJ ∧ mL (MT 256) ≤ 64 := ⟨(Nat.le_of_ble_eq_true rfl), (Nat.le_of_ble_eq_true rfl)⟩
theorem SV_X5_89 : SiteV "EdgeWalk$Parser" 89 MD_X5_counts 1 6 := ⟨q765, q139, nm_EdgeWalk_Parser, np__I_V, q764, qs20, Or.inl q762⟩
theorem cl_246 : 246 < NJ ∧ mL (MT 246) ≤ 64 := ⟨(Nat.le_of_ble_eq_true rfl), (Nat.le_of_ble_eq_true rfl)⟩
theorem F_X5_15 : FldOK "EdgeWalk$Parser" 15 22 0 2 ∨ FldSOK "EdgeWalk$Parser" 15 22 0 2 := Or.inl ⟨6, 0, RX5, TX5, tyX5, "EdgeWalk$Parser", rfl, rfl, (Nat.le_of_ble_eq_true rfl), rfl, cf_X5, Or.inl q461, Or.inl rfl⟩
theorem N_X5_92 : NewOK "EdgeWalk$Parser" 92 26 1 := ⟨10, RX10, TX10, tyX10, rfl, cf_X10, q766, q767, q154⟩
theorem nm_EdgeWalk_Asked : ("EdgeWalk$Asked" : String) ≠ "java/lang/invoke/MethodHandle" ∧ ("EdgeWalk$Asked" : String) ≠ "java/lang/invoke/VarHandle" := by decide
theorem SI_X5_94 : SiteI "EdgeWalk$Parser" 94 MD_X10_init 1 := ⟨rfl, rfl, rfl, q770, q154, nm_EdgeWalk_Asked, np__I_V, q769, Or.inl q768⟩
theorem cl_258 : 258 < NJ ∧ mL (MT 258) ≤ 64 := ⟨(Nat.le_of_ble_eq_true rfl), (Nat.le_of_ble_eq_true rfl)⟩
theorem F_X5_73 : FldOK "EdgeWalk$Parser" 73 22 3 0 ∨ FldSOK "EdgeWalk$Parser" 73 22 3 0 := Or.inl ⟨6, 3, RX5, TX5, tyX5, "EdgeWalk$Parser", rfl, rfl, (Nat.le_of_ble_eq_true rfl), rfl, cf_X5, Or.inl q464, Or.inl rfl⟩
theorem P_X5_73 {y : String} : PutOK "EdgeWalk$Parser" y 73 22 3 0 := ⟨6, 3, RX5, TX5, tyX5, "EdgeWalk$Parser", rfl, rfl, (Nat.le_of_ble_eq_true rfl), rfl, cf_X5, Or.inl rfl, Or.inl ⟨rfl, Or.inl q464⟩⟩
theorem SV_X5_142 : SiteV "EdgeWalk$Parser" 142 MD_X5_part 0 6 := ⟨q806, q139, nm_EdgeWalk_Parser, np___LEdgeWalk_Condition_, q805, qs23, Or.inl q803⟩
theorem cl_249 : 249 < NJ ∧ mL (MT 249) ≤ 64 := ⟨(Nat.le_of_ble_eq_true rfl), (Nat.le_of_ble_eq_true rfl)⟩
theorem KS_X5_145 : ∃ tx i, ("EdgeWalk$Parser", 145, tx, i) ∈ SRl ∧ 1 ≤ i ∧ i < 64 ∧ 5378048 = extAd i := ⟨"or", 20, by decide +kernel, by decide, by decide, by decide +kernel⟩
theorem N_X5_137 : NewOK "EdgeWalk$Parser" 137 31 3 := ⟨15, RX16, TX16, tyX16, rfl, cf_X16, q849, q850, q160⟩
theorem nm_EdgeWalk_Both : ("EdgeWalk$Both" : String) ≠ "java/lang/invoke/MethodHandle" ∧ ("EdgeWalk$Both" : String) ≠ "java/lang/invoke/VarHandle" := by decide
theorem np__LEdgeWalk_Condition_LEdgeWalk_Condition_Z_V : npar "(LEdgeWalk$Condition;LEdgeWalk$Condition;Z)V" 3 := by unfold npar; decide +kernel
theorem SI_X5_139 : SiteI "EdgeWalk$Parser" 139 MD_X16_init 3 := ⟨rfl, rfl, rfl, q853, q160, nm_EdgeWalk_Both, np__LEdgeWalk_Condition_LEdgeWalk_Condition_Z_V, q852, Or.inl q851⟩
theorem cl_269 : 269 < NJ ∧ mL (MT 269) ≤ 64 := ⟨(Nat.le_of_ble_eq_true rfl), (Nat.le_of_ble_eq_true rfl)⟩
theorem SV_X5_114 : SiteV "EdgeWalk$Parser" 114 MD_X5_fact 0 6 := ⟨q810, q139, nm_EdgeWalk_Parser, np___LEdgeWalk_Condition_, q809, qs24, Or.inl q807⟩
theorem cl_250 : 250 < NJ ∧ mL (MT 250) ≤ 64 := ⟨(Nat.le_of_ble_eq_true rfl), (Nat.le_of_ble_eq_true rfl)⟩
theorem KS_X5_132 : ∃ tx i, ("EdgeWalk$Parser", 132, tx, i) ∈ SRl ∧ 1 ≤ i ∧ i < 64 ∧ 4853760 = extAd i := ⟨"and", 18, by decide +kernel, by decide, by decide, by decide +kernel⟩
theorem KS_X5_107 : ∃ tx i, ("EdgeWalk$Parser", 107, tx, i) ∈ SRl ∧ 1 ≤ i ∧ i < 64 ∧ 4329472 = extAd i := ⟨"not", 16, by decide +kernel, by decide, by decide, by decide +kernel⟩
theorem SV_X5_109 : SiteV "EdgeWalk$Parser" 109 MD_X5_goesDeeper 1 6 := ⟨q815, q139, nm_EdgeWalk_Parser, np__I_V, q814, qs25, Or.inl q812⟩
theorem cl_251 : 251 < NJ ∧ mL (MT 251) ≤ 64 := ⟨(Nat.le_of_ble_eq_true rfl), (Nat.le_of_ble_eq_true rfl)⟩
theorem N_X5_112 : NewOK "EdgeWalk$Parser" 112 29 1 := ⟨13, RX14, TX14, tyX14, rfl, cf_X14, q816, q817, q158⟩
theorem nm_EdgeWalk_Not : ("EdgeWalk$Not" : String) ≠ "java/lang/invoke/MethodHandle" ∧ ("EdgeWalk$Not" : String) ≠ "java/lang/invoke/VarHandle" := by decide
theorem np__LEdgeWalk_Condition__V : npar "(LEdgeWalk$Condition;)V" 1 := by unfold npar; decide +kernel
theorem SI_X5_118 : SiteI "EdgeWalk$Parser" 118 MD_X14_init 1 := ⟨rfl, rfl, rfl, q820, q158, nm_EdgeWalk_Not, np__LEdgeWalk_Condition__V, q819, Or.inl q818⟩
theorem cl_265 : 265 < NJ ∧ mL (MT 265) ≤ 64 := ⟨(Nat.le_of_ble_eq_true rfl), (Nat.le_of_ble_eq_true rfl)⟩
theorem F_X5_76 : FldOK "EdgeWalk$Parser" 76 22 2 0 ∨ FldSOK "EdgeWalk$Parser" 76 22 2 0 := Or.inl ⟨6, 2, RX5, TX5, tyX5, "EdgeWalk$Parser", rfl, rfl, (Nat.le_of_ble_eq_true rfl), rfl, cf_X5, Or.inl q463, Or.inl rfl⟩
theorem P_X5_76 {y : String} : PutOK "EdgeWalk$Parser" y 76 22 2 0 := ⟨6, 2, RX5, TX5, tyX5, "EdgeWalk$Parser", rfl, rfl, (Nat.le_of_ble_eq_true rfl), rfl, cf_X5, Or.inl rfl, Or.inl ⟨rfl, Or.inl q463⟩⟩
theorem N_X5_127 : NewOK "EdgeWalk$Parser" 127 30 4 := ⟨14, RX15, TX15, tyX15, rfl, cf_X15, q829, q830, q159⟩
theorem nm_EdgeWalk_Compared : ("EdgeWalk$Compared" : String) ≠ "java/lang/invoke/MethodHandle" ∧ ("EdgeWalk$Compared" : String) ≠ "java/lang/invoke/VarHandle" := by decide
theorem np__LEdgeWalk_Value_LEdgeWalk_Value_IZ_V : npar "(LEdgeWalk$Value;LEdgeWalk$Value;IZ)V" 4 := by unfold npar; decide +kernel
theorem SI_X5_129 : SiteI "EdgeWalk$Parser" 129 MD_X15_init 4 := ⟨rfl, rfl, rfl, q833, q159, nm_EdgeWalk_Compared, np__LEdgeWalk_Value_LEdgeWalk_Value_IZ_V, q832, Or.inl q831⟩
theorem cl_267 : 267 < NJ ∧ mL (MT 267) ≤ 64 := ⟨(Nat.le_of_ble_eq_true rfl), (Nat.le_of_ble_eq_true rfl)⟩
theorem nm_java_lang_Record : ("java/lang/Record" : String) ≠ "java/lang/invoke/MethodHandle" ∧ ("java/lang/Record" : String) ≠ "java/lang/invoke/VarHandle" := by decide
theorem SI_X6_1 : SiteI "EdgeWalk$Goer" 1 MD_J9_init 0 := ⟨rfl, rfl, rfl, q601, q144, nm_java_lang_Record, np___V, q600, Or.inl q599⟩
theorem cl_17 : 17 < NJ ∧ mL (MT 17) ≤ 64 := ⟨(Nat.le_of_ble_eq_true rfl), (Nat.le_of_ble_eq_true rfl)⟩
theorem P_X6_7 : PutOK "EdgeWalk$Goer" "<init>" 7 23 0 0 := ⟨7, 0, RX6, TX6, tyX6, "EdgeWalk$Goer", rfl, rfl, (Nat.le_of_ble_eq_true rfl), rfl, cf_X6, Or.inl rfl, Or.inr ⟨rfl, rfl, rfl, q603⟩⟩
theorem P_X6_13 : PutOK "EdgeWalk$Goer" "<init>" 13 23 1 0 := ⟨7, 1, RX6, TX6, tyX6, "EdgeWalk$Goer", rfl, rfl, (Nat.le_of_ble_eq_true rfl), rfl, cf_X6, Or.inl rfl, Or.inr ⟨rfl, rfl, rfl, q605⟩⟩
theorem P_X6_16 : PutOK "EdgeWalk$Goer" "<init>" 16 23 2 0 := ⟨7, 2, RX6, TX6, tyX6, "EdgeWalk$Goer", rfl, rfl, (Nat.le_of_ble_eq_true rfl), rfl, cf_X6, Or.inl rfl, Or.inr ⟨rfl, rfl, rfl, q607⟩⟩
theorem N_X7_7 : NewOK "EdgeWalk$Rule" 7 18 3 := ⟨2, RJ2, TJ2, tyJ2, rfl, cf_J2, q724, q179, q133⟩
theorem SI_X7_9 : SiteI "EdgeWalk$Rule" 9 MD_J2_init 1 := ⟨rfl, rfl, rfl, q182, q133, nm_java_util_ArrayList, np__I_V, q181, Or.inl q725⟩
theorem P_X7_12 : PutOK "EdgeWalk$Rule" "<init>" 12 24 0 2 := ⟨8, 0, RX7, TX7, tyX7, "EdgeWalk$Rule", rfl, rfl, (Nat.le_of_ble_eq_true rfl), rfl, cf_X7, Or.inl rfl, Or.inr ⟨rfl, rfl, rfl, q726⟩⟩
theorem F_X7_12 : FldOK "EdgeWalk$Rule" 12 24 0 2 ∨ FldSOK "EdgeWalk$Rule" 12 24 0 2 := Or.inl ⟨8, 0, RX7, TX7, tyX7, "EdgeWalk$Rule", rfl, rfl, (Nat.le_of_ble_eq_true rfl), rfl, cf_X7, Or.inl q726, Or.inl rfl⟩
theorem SV_X7_18 : SiteV "EdgeWalk$Rule" 18 MD_J2_size 0 2 := ⟨q585, q133, nm_java_util_ArrayList, np___I, q583, q584, Or.inl q971⟩
theorem SV_X7_22 : SiteV "EdgeWalk$Rule" 22 MD_J2_get 1 2 := ⟨q698, q133, nm_java_util_ArrayList, np__I_Ljava_lang_Object_, q696, q697, Or.inl q972⟩
theorem np___J_Z : npar "([J)Z" 1 := by unfold npar; decide +kernel
theorem SV_X7_28 : SiteV "EdgeWalk$Rule" 28 MD_X12_holds 1 12 := ⟨q977, q156, nm_EdgeWalk_Told, np___J_Z, q975, q976, Or.inl q974⟩
theorem cl_263 : 263 < NJ ∧ mL (MT 263) ≤ 64 := ⟨(Nat.le_of_ble_eq_true rfl), (Nat.le_of_ble_eq_true rfl)⟩
theorem F_X7_32 : FldOK "EdgeWalk$Rule" 32 28 0 2 ∨ FldSOK "EdgeWalk$Rule" 32 28 0 2 := Or.inl ⟨12, 0, RX12, TX12, tyX12, "EdgeWalk$Told", rfl, rfl, (Nat.le_of_ble_eq_true rfl), rfl, cf_X12, Or.inr ⟨_, q871⟩, Or.inl rfl⟩
theorem nm_EdgeWalk_Value : ("EdgeWalk$Value" : String) ≠ "java/lang/invoke/MethodHandle" ∧ ("EdgeWalk$Value" : String) ≠ "java/lang/invoke/VarHandle" := by decide
theorem np___J_J : npar "([J)J" 1 := by unfold npar; decide +kernel
theorem SU_X7_36_9 : SiteU "EdgeWalk$Rule" 36 MD_X9_of 1 9 := ⟨rfl, q998, q153, ⟨"EdgeWalk$Value", "of", "([J)J"⟩, "EdgeWalk$Value", nm_EdgeWalk_Value, np___J_J, q1005, q989, q988, q999, q997⟩
theorem cl_257 : 257 < NJ ∧ mL (MT 257) ≤ 64 := ⟨(Nat.le_of_ble_eq_true rfl), (Nat.le_of_ble_eq_true rfl)⟩
theorem SU_X7_36_10 : SiteU "EdgeWalk$Rule" 36 MD_X10_of 1 10 := ⟨rfl, q992, q154, ⟨"EdgeWalk$Value", "of", "([J)J"⟩, "EdgeWalk$Value", nm_EdgeWalk_Value, np___J_J, q1005, q989, q988, q990, q991⟩
theorem cl_259 : 259 < NJ ∧ mL (MT 259) ≤ 64 := ⟨(Nat.le_of_ble_eq_true rfl), (Nat.le_of_ble_eq_true rfl)⟩
theorem SU_X7_36_11 : SiteU "EdgeWalk$Rule" 36 MD_X11_of 1 11 := ⟨rfl, q995, q155, ⟨"EdgeWalk$Value", "of", "([J)J"⟩, "EdgeWalk$Value", nm_EdgeWalk_Value, np___J_J, q1005, q989, q988, q993, q994⟩
theorem cl_261 : 261 < NJ ∧ mL (MT 261) ≤ 64 := ⟨(Nat.le_of_ble_eq_true rfl), (Nat.le_of_ble_eq_true rfl)⟩
theorem KL_X7_42 : Jvm.Cond.constantLong "EdgeWalk$Rule" 42 (Int64.ofInt (4)) ∈ lw_all := by
  have e : Int64.ofInt (4) = (4 : Int64) := by decide +kernel
  rw [e]
  exact q1006
theorem np__JJ_J : npar "(JJ)J" 2 := by unfold npar; decide +kernel
theorem SS_X7_44 : SiteS "EdgeWalk$Rule" 44 MD_J11_floorMod 2 := ⟨rfl, q1009, q147, nm_java_lang_Math, np__JJ_J, q1008, Or.inl q1007⟩
theorem cl_21 : 21 < NJ ∧ mL (MT 21) ≤ 64 := ⟨(Nat.le_of_ble_eq_true rfl), (Nat.le_of_ble_eq_true rfl)⟩
theorem SI_X9_1 : SiteI "EdgeWalk$Plain" 1 MD_X8_init 0 := ⟨rfl, rfl, rfl, q756, q152, nm_EdgeWalk_Value, np___V, q755, Or.inr ⟨_, q754⟩⟩
theorem cl_255 : 255 < NJ ∧ mL (MT 255) ≤ 64 := ⟨(Nat.le_of_ble_eq_true rfl), (Nat.le_of_ble_eq_true rfl)⟩
theorem P_X9_7 : PutOK "EdgeWalk$Plain" "<init>" 7 25 0 0 := ⟨9, 0, RX9, TX9, tyX9, "EdgeWalk$Plain", rfl, rfl, (Nat.le_of_ble_eq_true rfl), rfl, cf_X9, Or.inl rfl, Or.inr ⟨rfl, rfl, rfl, q758⟩⟩
theorem F_X9_7 : FldOK "EdgeWalk$Plain" 7 25 0 0 ∨ FldSOK "EdgeWalk$Plain" 7 25 0 0 := Or.inl ⟨9, 0, RX9, TX9, tyX9, "EdgeWalk$Plain", rfl, rfl, (Nat.le_of_ble_eq_true rfl), rfl, cf_X9, Or.inl q758, Or.inl rfl⟩
theorem SI_X10_1 : SiteI "EdgeWalk$Asked" 1 MD_X8_init 0 := ⟨rfl, rfl, rfl, q756, q152, nm_EdgeWalk_Value, np___V, q755, Or.inr ⟨_, q771⟩⟩
theorem P_X10_7 : PutOK "EdgeWalk$Asked" "<init>" 7 26 0 0 := ⟨10, 0, RX10, TX10, tyX10, "EdgeWalk$Asked", rfl, rfl, (Nat.le_of_ble_eq_true rfl), rfl, cf_X10, Or.inl rfl, Or.inr ⟨rfl, rfl, rfl, q772⟩⟩
theorem F_X10_7 : FldOK "EdgeWalk$Asked" 7 26 0 0 ∨ FldSOK "EdgeWalk$Asked" 7 26 0 0 := Or.inl ⟨10, 0, RX10, TX10, tyX10, "EdgeWalk$Asked", rfl, rfl, (Nat.le_of_ble_eq_true rfl), rfl, cf_X10, Or.inl q772, Or.inl rfl⟩
theorem SI_X11_1 : SiteI "EdgeWalk$Joined" 1 MD_X8_init 0 := ⟨rfl, rfl, rfl, q756, q152, nm_EdgeWalk_Value, np___V, q755, Or.inr ⟨_, q781⟩⟩
theorem P_X11_7 : PutOK "EdgeWalk$Joined" "<init>" 7 27 0 2 := ⟨11, 0, RX11, TX11, tyX11, "EdgeWalk$Joined", rfl, rfl, (Nat.le_of_ble_eq_true rfl), rfl, cf_X11, Or.inl rfl, Or.inr ⟨rfl, rfl, rfl, q782⟩⟩
theorem P_X11_13 : PutOK "EdgeWalk$Joined" "<init>" 13 27 1 2 := ⟨11, 1, RX11, TX11, tyX11, "EdgeWalk$Joined", rfl, rfl, (Nat.le_of_ble_eq_true rfl), rfl, cf_X11, Or.inl rfl, Or.inr ⟨rfl, rfl, rfl, q783⟩⟩
theorem P_X11_16 : PutOK "EdgeWalk$Joined" "<init>" 16 27 2 0 := ⟨11, 2, RX11, TX11, tyX11, "EdgeWalk$Joined", rfl, rfl, (Nat.le_of_ble_eq_true rfl), rfl, cf_X11, Or.inl rfl, Or.inr ⟨rfl, rfl, rfl, q784⟩⟩
theorem F_X11_7 : FldOK "EdgeWalk$Joined" 7 27 0 2 ∨ FldSOK "EdgeWalk$Joined" 7 27 0 2 := Or.inl ⟨11, 0, RX11, TX11, tyX11, "EdgeWalk$Joined", rfl, rfl, (Nat.le_of_ble_eq_true rfl), rfl, cf_X11, Or.inl q782, Or.inl rfl⟩
theorem SU_X11_20_9 : SiteU "EdgeWalk$Joined" 20 MD_X9_of 1 9 := ⟨rfl, q998, q153, ⟨"EdgeWalk$Value", "of", "([J)J"⟩, "EdgeWalk$Value", nm_EdgeWalk_Value, np___J_J, q996, q989, q988, q999, q997⟩
theorem SU_X11_20_10 : SiteU "EdgeWalk$Joined" 20 MD_X10_of 1 10 := ⟨rfl, q992, q154, ⟨"EdgeWalk$Value", "of", "([J)J"⟩, "EdgeWalk$Value", nm_EdgeWalk_Value, np___J_J, q996, q989, q988, q990, q991⟩
theorem SU_X11_20_11 : SiteU "EdgeWalk$Joined" 20 MD_X11_of 1 11 := ⟨rfl, q995, q155, ⟨"EdgeWalk$Value", "of", "([J)J"⟩, "EdgeWalk$Value", nm_EdgeWalk_Value, np___J_J, q996, q989, q988, q993, q994⟩
theorem F_X11_13 : FldOK "EdgeWalk$Joined" 13 27 1 2 ∨ FldSOK "EdgeWalk$Joined" 13 27 1 2 := Or.inl ⟨11, 1, RX11, TX11, tyX11, "EdgeWalk$Joined", rfl, rfl, (Nat.le_of_ble_eq_true rfl), rfl, cf_X11, Or.inl q783, Or.inl rfl⟩
theorem F_X11_16 : FldOK "EdgeWalk$Joined" 16 27 2 0 ∨ FldSOK "EdgeWalk$Joined" 16 27 2 0 := Or.inl ⟨11, 2, RX11, TX11, tyX11, "EdgeWalk$Joined", rfl, rfl, (Nat.le_of_ble_eq_true rfl), rfl, cf_X11, Or.inl q784, Or.inl rfl⟩
theorem SI_X12_1 : SiteI "EdgeWalk$Told" 1 MD_J9_init 0 := ⟨rfl, rfl, rfl, q601, q144, nm_java_lang_Record, np___V, q600, Or.inl q869⟩
theorem P_X12_7 : PutOK "EdgeWalk$Told" "<init>" 7 28 0 2 := ⟨12, 0, RX12, TX12, tyX12, "EdgeWalk$Told", rfl, rfl, (Nat.le_of_ble_eq_true rfl), rfl, cf_X12, Or.inl rfl, Or.inr ⟨rfl, rfl, rfl, q870⟩⟩
theorem P_X12_13 : PutOK "EdgeWalk$Told" "<init>" 13 28 1 2 := ⟨12, 1, RX12, TX12, tyX12, "EdgeWalk$Told", rfl, rfl, (Nat.le_of_ble_eq_true rfl), rfl, cf_X12, Or.inl rfl, Or.inr ⟨rfl, rfl, rfl, q872⟩⟩
theorem F_X12_13 : FldOK "EdgeWalk$Told" 13 28 1 2 ∨ FldSOK "EdgeWalk$Told" 13 28 1 2 := Or.inl ⟨12, 1, RX12, TX12, tyX12, "EdgeWalk$Told", rfl, rfl, (Nat.le_of_ble_eq_true rfl), rfl, cf_X12, Or.inl q872, Or.inl rfl⟩
theorem nm_EdgeWalk_Condition : ("EdgeWalk$Condition" : String) ≠ "java/lang/invoke/MethodHandle" ∧ ("EdgeWalk$Condition" : String) ≠ "java/lang/invoke/VarHandle" := by decide
theorem SU_X12_17_13 : SiteU "EdgeWalk$Told" 17 MD_X14_is 1 13 := ⟨rfl, q1001, q158, ⟨"EdgeWalk$Condition", "is", "([J)Z"⟩, "EdgeWalk$Condition", nm_EdgeWalk_Condition, np___J_Z, q978, q980, q979, q1004, q1000⟩
theorem cl_266 : 266 < NJ ∧ mL (MT 266) ≤ 64 := ⟨(Nat.le_of_ble_eq_true rfl), (Nat.le_of_ble_eq_true rfl)⟩
theorem SU_X12_17_14 : SiteU "EdgeWalk$Told" 17 MD_X15_is 1 14 := ⟨rfl, q986, q159, ⟨"EdgeWalk$Condition", "is", "([J)Z"⟩, "EdgeWalk$Condition", nm_EdgeWalk_Condition, np___J_Z, q978, q980, q979, q1003, q985⟩
theorem cl_268 : 268 < NJ ∧ mL (MT 268) ≤ 64 := ⟨(Nat.le_of_ble_eq_true rfl), (Nat.le_of_ble_eq_true rfl)⟩
theorem SU_X12_17_15 : SiteU "EdgeWalk$Told" 17 MD_X16_is 1 15 := ⟨rfl, q983, q160, ⟨"EdgeWalk$Condition", "is", "([J)Z"⟩, "EdgeWalk$Condition", nm_EdgeWalk_Condition, np___J_Z, q978, q980, q979, q981, q982⟩
theorem cl_270 : 270 < NJ ∧ mL (MT 270) ≤ 64 := ⟨(Nat.le_of_ble_eq_true rfl), (Nat.le_of_ble_eq_true rfl)⟩
theorem SI_X14_1 : SiteI "EdgeWalk$Not" 1 MD_X13_init 0 := ⟨rfl, rfl, rfl, q823, q157, nm_EdgeWalk_Condition, np___V, q822, Or.inr ⟨_, q821⟩⟩
theorem cl_264 : 264 < NJ ∧ mL (MT 264) ≤ 64 := ⟨(Nat.le_of_ble_eq_true rfl), (Nat.le_of_ble_eq_true rfl)⟩
theorem P_X14_7 : PutOK "EdgeWalk$Not" "<init>" 7 29 0 2 := ⟨13, 0, RX14, TX14, tyX14, "EdgeWalk$Not", rfl, rfl, (Nat.le_of_ble_eq_true rfl), rfl, cf_X14, Or.inl rfl, Or.inr ⟨rfl, rfl, rfl, q825⟩⟩
theorem F_X14_7 : FldOK "EdgeWalk$Not" 7 29 0 2 ∨ FldSOK "EdgeWalk$Not" 7 29 0 2 := Or.inl ⟨13, 0, RX14, TX14, tyX14, "EdgeWalk$Not", rfl, rfl, (Nat.le_of_ble_eq_true rfl), rfl, cf_X14, Or.inl q825, Or.inl rfl⟩
theorem SU_X14_13_13 : SiteU "EdgeWalk$Not" 13 MD_X14_is 1 13 := ⟨rfl, q1001, q158, ⟨"EdgeWalk$Condition", "is", "([J)Z"⟩, "EdgeWalk$Condition", nm_EdgeWalk_Condition, np___J_Z, q1002, q980, q979, q1004, q1000⟩
theorem SU_X14_13_14 : SiteU "EdgeWalk$Not" 13 MD_X15_is 1 14 := ⟨rfl, q986, q159, ⟨"EdgeWalk$Condition", "is", "([J)Z"⟩, "EdgeWalk$Condition", nm_EdgeWalk_Condition, np___J_Z, q1002, q980, q979, q1003, q985⟩
theorem SU_X14_13_15 : SiteU "EdgeWalk$Not" 13 MD_X16_is 1 15 := ⟨rfl, q983, q160, ⟨"EdgeWalk$Condition", "is", "([J)Z"⟩, "EdgeWalk$Condition", nm_EdgeWalk_Condition, np___J_Z, q1002, q980, q979, q981, q982⟩
theorem SI_X15_1 : SiteI "EdgeWalk$Compared" 1 MD_X13_init 0 := ⟨rfl, rfl, rfl, q823, q157, nm_EdgeWalk_Condition, np___V, q822, Or.inr ⟨_, q834⟩⟩
theorem P_X15_7 : PutOK "EdgeWalk$Compared" "<init>" 7 30 0 2 := ⟨14, 0, RX15, TX15, tyX15, "EdgeWalk$Compared", rfl, rfl, (Nat.le_of_ble_eq_true rfl), rfl, cf_X15, Or.inl rfl, Or.inr ⟨rfl, rfl, rfl, q835⟩⟩
theorem P_X15_13 : PutOK "EdgeWalk$Compared" "<init>" 13 30 1 2 := ⟨14, 1, RX15, TX15, tyX15, "EdgeWalk$Compared", rfl, rfl, (Nat.le_of_ble_eq_true rfl), rfl, cf_X15, Or.inl rfl, Or.inr ⟨rfl, rfl, rfl, q836⟩⟩
theorem P_X15_16 : PutOK "EdgeWalk$Compared" "<init>" 16 30 2 0 := ⟨14, 2, RX15, TX15, tyX15, "EdgeWalk$Compared", rfl, rfl, (Nat.le_of_ble_eq_true rfl), rfl, cf_X15, Or.inl rfl, Or.inr ⟨rfl, rfl, rfl, q837⟩⟩
theorem P_X15_20 : PutOK "EdgeWalk$Compared" "<init>" 20 30 3 3 := ⟨14, 3, RX15, TX15, tyX15, "EdgeWalk$Compared", rfl, rfl, (Nat.le_of_ble_eq_true rfl), rfl, cf_X15, Or.inl rfl, Or.inr ⟨rfl, rfl, rfl, q838⟩⟩
theorem F_X15_7 : FldOK "EdgeWalk$Compared" 7 30 0 2 ∨ FldSOK "EdgeWalk$Compared" 7 30 0 2 := Or.inl ⟨14, 0, RX15, TX15, tyX15, "EdgeWalk$Compared", rfl, rfl, (Nat.le_of_ble_eq_true rfl), rfl, cf_X15, Or.inl q835, Or.inl rfl⟩
theorem SU_X15_24_9 : SiteU "EdgeWalk$Compared" 24 MD_X9_of 1 9 := ⟨rfl, q998, q153, ⟨"EdgeWalk$Value", "of", "([J)J"⟩, "EdgeWalk$Value", nm_EdgeWalk_Value, np___J_J, q987, q989, q988, q999, q997⟩
theorem SU_X15_24_10 : SiteU "EdgeWalk$Compared" 24 MD_X10_of 1 10 := ⟨rfl, q992, q154, ⟨"EdgeWalk$Value", "of", "([J)J"⟩, "EdgeWalk$Value", nm_EdgeWalk_Value, np___J_J, q987, q989, q988, q990, q991⟩
theorem SU_X15_24_11 : SiteU "EdgeWalk$Compared" 24 MD_X11_of 1 11 := ⟨rfl, q995, q155, ⟨"EdgeWalk$Value", "of", "([J)J"⟩, "EdgeWalk$Value", nm_EdgeWalk_Value, np___J_J, q987, q989, q988, q993, q994⟩
theorem F_X15_13 : FldOK "EdgeWalk$Compared" 13 30 1 2 ∨ FldSOK "EdgeWalk$Compared" 13 30 1 2 := Or.inl ⟨14, 1, RX15, TX15, tyX15, "EdgeWalk$Compared", rfl, rfl, (Nat.le_of_ble_eq_true rfl), rfl, cf_X15, Or.inl q836, Or.inl rfl⟩
theorem F_X15_16 : FldOK "EdgeWalk$Compared" 16 30 2 0 ∨ FldSOK "EdgeWalk$Compared" 16 30 2 0 := Or.inl ⟨14, 2, RX15, TX15, tyX15, "EdgeWalk$Compared", rfl, rfl, (Nat.le_of_ble_eq_true rfl), rfl, cf_X15, Or.inl q837, Or.inl rfl⟩
theorem F_X15_20 : FldOK "EdgeWalk$Compared" 20 30 3 3 ∨ FldSOK "EdgeWalk$Compared" 20 30 3 3 := Or.inl ⟨14, 3, RX15, TX15, tyX15, "EdgeWalk$Compared", rfl, rfl, (Nat.le_of_ble_eq_true rfl), rfl, cf_X15, Or.inl q838, Or.inl rfl⟩
theorem SI_X16_1 : SiteI "EdgeWalk$Both" 1 MD_X13_init 0 := ⟨rfl, rfl, rfl, q823, q157, nm_EdgeWalk_Condition, np___V, q822, Or.inr ⟨_, q854⟩⟩
theorem P_X16_7 : PutOK "EdgeWalk$Both" "<init>" 7 31 0 2 := ⟨15, 0, RX16, TX16, tyX16, "EdgeWalk$Both", rfl, rfl, (Nat.le_of_ble_eq_true rfl), rfl, cf_X16, Or.inl rfl, Or.inr ⟨rfl, rfl, rfl, q855⟩⟩
theorem P_X16_13 : PutOK "EdgeWalk$Both" "<init>" 13 31 1 2 := ⟨15, 1, RX16, TX16, tyX16, "EdgeWalk$Both", rfl, rfl, (Nat.le_of_ble_eq_true rfl), rfl, cf_X16, Or.inl rfl, Or.inr ⟨rfl, rfl, rfl, q856⟩⟩
theorem P_X16_16 : PutOK "EdgeWalk$Both" "<init>" 16 31 2 3 := ⟨15, 2, RX16, TX16, tyX16, "EdgeWalk$Both", rfl, rfl, (Nat.le_of_ble_eq_true rfl), rfl, cf_X16, Or.inl rfl, Or.inr ⟨rfl, rfl, rfl, q857⟩⟩
theorem F_X16_16 : FldOK "EdgeWalk$Both" 16 31 2 3 ∨ FldSOK "EdgeWalk$Both" 16 31 2 3 := Or.inl ⟨15, 2, RX16, TX16, tyX16, "EdgeWalk$Both", rfl, rfl, (Nat.le_of_ble_eq_true rfl), rfl, cf_X16, Or.inl q857, Or.inl rfl⟩
theorem F_X16_7 : FldOK "EdgeWalk$Both" 7 31 0 2 ∨ FldSOK "EdgeWalk$Both" 7 31 0 2 := Or.inl ⟨15, 0, RX16, TX16, tyX16, "EdgeWalk$Both", rfl, rfl, (Nat.le_of_ble_eq_true rfl), rfl, cf_X16, Or.inl q855, Or.inl rfl⟩
theorem SU_X16_20_13 : SiteU "EdgeWalk$Both" 20 MD_X14_is 1 13 := ⟨rfl, q1001, q158, ⟨"EdgeWalk$Condition", "is", "([J)Z"⟩, "EdgeWalk$Condition", nm_EdgeWalk_Condition, np___J_Z, q984, q980, q979, q1004, q1000⟩
theorem SU_X16_20_14 : SiteU "EdgeWalk$Both" 20 MD_X15_is 1 14 := ⟨rfl, q986, q159, ⟨"EdgeWalk$Condition", "is", "([J)Z"⟩, "EdgeWalk$Condition", nm_EdgeWalk_Condition, np___J_Z, q984, q980, q979, q1003, q985⟩
theorem SU_X16_20_15 : SiteU "EdgeWalk$Both" 20 MD_X16_is 1 15 := ⟨rfl, q983, q160, ⟨"EdgeWalk$Condition", "is", "([J)Z"⟩, "EdgeWalk$Condition", nm_EdgeWalk_Condition, np___J_Z, q984, q980, q979, q981, q982⟩
theorem F_X16_13 : FldOK "EdgeWalk$Both" 13 31 1 2 ∨ FldSOK "EdgeWalk$Both" 13 31 1 2 := Or.inl ⟨15, 1, RX16, TX16, tyX16, "EdgeWalk$Both", rfl, rfl, (Nat.le_of_ble_eq_true rfl), rfl, cf_X16, Or.inl q856, Or.inl rfl⟩
theorem P_X17_3 : PutOK "EdgeWalk$Image" "<init>" 3 32 8 2 := ⟨16, 8, RX17, TX17, tyX17, "EdgeWalk$Image", rfl, rfl, (Nat.le_of_ble_eq_true rfl), rfl, cf_X17, Or.inl rfl, Or.inr ⟨rfl, rfl, rfl, q1241⟩⟩
theorem N_X17_15 : NewOK "EdgeWalk$Image" 15 19 10 := ⟨3, RX2, TX2, tyX2, rfl, cf_X2, q1231, q234, q134⟩
theorem SI_X17_17 : SiteI "EdgeWalk$Image" 17 MD_X2_init 0 := ⟨rfl, rfl, rfl, q237, q134, nm_EdgeWalk_State, np___V, q236, Or.inr ⟨_, q1232⟩⟩
theorem P_X17_18 : PutOK "EdgeWalk$Image" "<init>" 18 32 1 2 := ⟨16, 1, RX17, TX17, tyX17, "EdgeWalk$Image", rfl, rfl, (Nat.le_of_ble_eq_true rfl), rfl, cf_X17, Or.inl rfl, Or.inr ⟨rfl, rfl, rfl, q1234⟩⟩
theorem P_X17_22 : PutOK "EdgeWalk$Image" "<init>" 22 32 2 2 := ⟨16, 2, RX17, TX17, tyX17, "EdgeWalk$Image", rfl, rfl, (Nat.le_of_ble_eq_true rfl), rfl, cf_X17, Or.inl rfl, Or.inr ⟨rfl, rfl, rfl, q1235⟩⟩
theorem P_X17_26 : PutOK "EdgeWalk$Image" "<init>" 26 32 3 2 := ⟨16, 3, RX17, TX17, tyX17, "EdgeWalk$Image", rfl, rfl, (Nat.le_of_ble_eq_true rfl), rfl, cf_X17, Or.inl rfl, Or.inr ⟨rfl, rfl, rfl, q1236⟩⟩
theorem P_X17_29 : PutOK "EdgeWalk$Image" "<init>" 29 32 4 2 := ⟨16, 4, RX17, TX17, tyX17, "EdgeWalk$Image", rfl, rfl, (Nat.le_of_ble_eq_true rfl), rfl, cf_X17, Or.inl rfl, Or.inr ⟨rfl, rfl, rfl, q1237⟩⟩
theorem F_X17_3 : FldOK "EdgeWalk$Image" 3 32 8 2 ∨ FldSOK "EdgeWalk$Image" 3 32 8 2 := Or.inl ⟨16, 8, RX17, TX17, tyX17, "EdgeWalk$Image", rfl, rfl, (Nat.le_of_ble_eq_true rfl), rfl, cf_X17, Or.inl q1241, Or.inl rfl⟩
theorem F_X17_32 : FldOK "EdgeWalk$Image" 32 16 0 2 ∨ FldSOK "EdgeWalk$Image" 32 16 0 2 := Or.inl ⟨0, 0, RX0, TX0, tyX0, "EdgeWalk", rfl, rfl, (Nat.le_of_ble_eq_true rfl), rfl, cf_X0, Or.inr ⟨_, q349⟩, Or.inl rfl⟩
theorem P_X17_36 {y : String} : PutOK "EdgeWalk$Image" y 36 32 0 2 := ⟨16, 0, RX17, TX17, tyX17, "EdgeWalk$Image", rfl, rfl, (Nat.le_of_ble_eq_true rfl), rfl, cf_X17, Or.inl rfl, Or.inl ⟨rfl, Or.inl q1233⟩⟩
theorem F_X17_18 : FldOK "EdgeWalk$Image" 18 32 1 2 ∨ FldSOK "EdgeWalk$Image" 18 32 1 2 := Or.inl ⟨16, 1, RX17, TX17, tyX17, "EdgeWalk$Image", rfl, rfl, (Nat.le_of_ble_eq_true rfl), rfl, cf_X17, Or.inl q1234, Or.inl rfl⟩
theorem F_X17_39 : FldOK "EdgeWalk$Image" 39 16 1 2 ∨ FldSOK "EdgeWalk$Image" 39 16 1 2 := Or.inl ⟨0, 1, RX0, TX0, tyX0, "EdgeWalk", rfl, rfl, (Nat.le_of_ble_eq_true rfl), rfl, cf_X0, Or.inr ⟨_, q351⟩, Or.inl rfl⟩
theorem SV_X17_42 : SiteV "EdgeWalk$Image" 42 MD_X2_copyFrom 1 3 := ⟨q925, q134, nm_EdgeWalk_State, np__LEdgeWalk_State__V, q923, q924, Or.inl q1265⟩
theorem F_X17_22 : FldOK "EdgeWalk$Image" 22 32 2 2 ∨ FldSOK "EdgeWalk$Image" 22 32 2 2 := Or.inl ⟨16, 2, RX17, TX17, tyX17, "EdgeWalk$Image", rfl, rfl, (Nat.le_of_ble_eq_true rfl), rfl, cf_X17, Or.inl q1235, Or.inl rfl⟩
theorem F_X17_46 : FldOK "EdgeWalk$Image" 46 16 8 2 ∨ FldSOK "EdgeWalk$Image" 46 16 8 2 := Or.inl ⟨0, 8, RX0, TX0, tyX0, "EdgeWalk", rfl, rfl, (Nat.le_of_ble_eq_true rfl), rfl, cf_X0, Or.inr ⟨_, q363⟩, Or.inl rfl⟩
theorem F_X17_26 : FldOK "EdgeWalk$Image" 26 32 3 2 ∨ FldSOK "EdgeWalk$Image" 26 32 3 2 := Or.inl ⟨16, 3, RX17, TX17, tyX17, "EdgeWalk$Image", rfl, rfl, (Nat.le_of_ble_eq_true rfl), rfl, cf_X17, Or.inl q1236, Or.inl rfl⟩
theorem F_X17_49 : FldOK "EdgeWalk$Image" 49 16 9 2 ∨ FldSOK "EdgeWalk$Image" 49 16 9 2 := Or.inl ⟨0, 9, RX0, TX0, tyX0, "EdgeWalk", rfl, rfl, (Nat.le_of_ble_eq_true rfl), rfl, cf_X0, Or.inr ⟨_, q365⟩, Or.inl rfl⟩
theorem F_X17_29 : FldOK "EdgeWalk$Image" 29 32 4 2 ∨ FldSOK "EdgeWalk$Image" 29 32 4 2 := Or.inl ⟨16, 4, RX17, TX17, tyX17, "EdgeWalk$Image", rfl, rfl, (Nat.le_of_ble_eq_true rfl), rfl, cf_X17, Or.inl q1237, Or.inl rfl⟩
theorem F_X17_52 : FldOK "EdgeWalk$Image" 52 16 10 2 ∨ FldSOK "EdgeWalk$Image" 52 16 10 2 := Or.inl ⟨0, 10, RX0, TX0, tyX0, "EdgeWalk", rfl, rfl, (Nat.le_of_ble_eq_true rfl), rfl, cf_X0, Or.inr ⟨_, q367⟩, Or.inl rfl⟩
theorem F_X17_55 : FldOK "EdgeWalk$Image" 55 16 11 0 ∨ FldSOK "EdgeWalk$Image" 55 16 11 0 := Or.inl ⟨0, 11, RX0, TX0, tyX0, "EdgeWalk", rfl, rfl, (Nat.le_of_ble_eq_true rfl), rfl, cf_X0, Or.inr ⟨_, q369⟩, Or.inl rfl⟩
theorem P_X17_59 {y : String} : PutOK "EdgeWalk$Image" y 59 32 5 0 := ⟨16, 5, RX17, TX17, tyX17, "EdgeWalk$Image", rfl, rfl, (Nat.le_of_ble_eq_true rfl), rfl, cf_X17, Or.inl rfl, Or.inl ⟨rfl, Or.inl q1238⟩⟩
theorem F_X17_62 : FldOK "EdgeWalk$Image" 62 16 4 0 ∨ FldSOK "EdgeWalk$Image" 62 16 4 0 := Or.inl ⟨0, 4, RX0, TX0, tyX0, "EdgeWalk", rfl, rfl, (Nat.le_of_ble_eq_true rfl), rfl, cf_X0, Or.inr ⟨_, q356⟩, Or.inl rfl⟩
theorem P_X17_65 {y : String} : PutOK "EdgeWalk$Image" y 65 32 6 0 := ⟨16, 6, RX17, TX17, tyX17, "EdgeWalk$Image", rfl, rfl, (Nat.le_of_ble_eq_true rfl), rfl, cf_X17, Or.inl rfl, Or.inl ⟨rfl, Or.inl q1239⟩⟩
theorem F_X17_68 : FldOK "EdgeWalk$Image" 68 16 12 0 ∨ FldSOK "EdgeWalk$Image" 68 16 12 0 := Or.inl ⟨0, 12, RX0, TX0, tyX0, "EdgeWalk", rfl, rfl, (Nat.le_of_ble_eq_true rfl), rfl, cf_X0, Or.inr ⟨_, q371⟩, Or.inl rfl⟩
theorem P_X17_71 {y : String} : PutOK "EdgeWalk$Image" y 71 32 7 0 := ⟨16, 7, RX17, TX17, tyX17, "EdgeWalk$Image", rfl, rfl, (Nat.le_of_ble_eq_true rfl), rfl, cf_X17, Or.inl rfl, Or.inl ⟨rfl, Or.inl q1240⟩⟩
theorem F_X17_36 : FldOK "EdgeWalk$Image" 36 32 0 2 ∨ FldSOK "EdgeWalk$Image" 36 32 0 2 := Or.inl ⟨16, 0, RX17, TX17, tyX17, "EdgeWalk$Image", rfl, rfl, (Nat.le_of_ble_eq_true rfl), rfl, cf_X17, Or.inl q1233, Or.inl rfl⟩
theorem P_X17_32 {y : String} : PutOK "EdgeWalk$Image" y 32 16 0 2 := ⟨0, 0, RX0, TX0, tyX0, "EdgeWalk", rfl, rfl, (Nat.le_of_ble_eq_true rfl), rfl, cf_X0, Or.inl rfl, Or.inl ⟨rfl, Or.inr ⟨_, q349⟩⟩⟩
theorem F_X17_59 : FldOK "EdgeWalk$Image" 59 32 5 0 ∨ FldSOK "EdgeWalk$Image" 59 32 5 0 := Or.inl ⟨16, 5, RX17, TX17, tyX17, "EdgeWalk$Image", rfl, rfl, (Nat.le_of_ble_eq_true rfl), rfl, cf_X17, Or.inl q1238, Or.inl rfl⟩
theorem P_X17_55 {y : String} : PutOK "EdgeWalk$Image" y 55 16 11 0 := ⟨0, 11, RX0, TX0, tyX0, "EdgeWalk", rfl, rfl, (Nat.le_of_ble_eq_true rfl), rfl, cf_X0, Or.inl rfl, Or.inl ⟨rfl, Or.inr ⟨_, q369⟩⟩⟩
theorem F_X17_65 : FldOK "EdgeWalk$Image" 65 32 6 0 ∨ FldSOK "EdgeWalk$Image" 65 32 6 0 := Or.inl ⟨16, 6, RX17, TX17, tyX17, "EdgeWalk$Image", rfl, rfl, (Nat.le_of_ble_eq_true rfl), rfl, cf_X17, Or.inl q1239, Or.inl rfl⟩
theorem P_X17_62 {y : String} : PutOK "EdgeWalk$Image" y 62 16 4 0 := ⟨0, 4, RX0, TX0, tyX0, "EdgeWalk", rfl, rfl, (Nat.le_of_ble_eq_true rfl), rfl, cf_X0, Or.inl rfl, Or.inl ⟨rfl, Or.inr ⟨_, q356⟩⟩⟩
theorem F_X17_71 : FldOK "EdgeWalk$Image" 71 32 7 0 ∨ FldSOK "EdgeWalk$Image" 71 32 7 0 := Or.inl ⟨16, 7, RX17, TX17, tyX17, "EdgeWalk$Image", rfl, rfl, (Nat.le_of_ble_eq_true rfl), rfl, cf_X17, Or.inl q1240, Or.inl rfl⟩
theorem P_X17_68 {y : String} : PutOK "EdgeWalk$Image" y 68 16 12 0 := ⟨0, 12, RX0, TX0, tyX0, "EdgeWalk", rfl, rfl, (Nat.le_of_ble_eq_true rfl), rfl, cf_X0, Or.inl rfl, Or.inl ⟨rfl, Or.inr ⟨_, q371⟩⟩⟩
theorem P_X17_74 {y : String} : PutOK "EdgeWalk$Image" y 74 16 15 0 := ⟨0, 15, RX0, TX0, tyX0, "EdgeWalk", rfl, rfl, (Nat.le_of_ble_eq_true rfl), rfl, cf_X0, Or.inl rfl, Or.inl ⟨rfl, Or.inr ⟨_, q375⟩⟩⟩
theorem N_L_7 : NewOK "EdgeWalkLaw" 7 16 25 := ⟨0, RX0, TX0, tyX0, rfl, cf_X0, q164, q165, q129⟩
theorem SI_L_9 : SiteI "EdgeWalkLaw" 9 MD_X0_init 0 := ⟨rfl, rfl, rfl, q168, q129, nm_EdgeWalk, np___V, q167, Or.inl q166⟩
theorem cl_27 : 27 < NJ ∧ mL (MT 27) ≤ 64 := ⟨(Nat.le_of_ble_eq_true rfl), (Nat.le_of_ble_eq_true rfl)⟩
theorem N_L_10 : NewOK "EdgeWalkLaw" 10 21 41 := ⟨5, RX4, TX4, tyX4, rfl, cf_X4, q1274, q1275, q138⟩
theorem SI_L_12 : SiteI "EdgeWalkLaw" 12 MD_X4_init 0 := ⟨rfl, rfl, rfl, q1278, q138, nm_EdgeWalkModel, np___V, q1277, Or.inl q1276⟩
theorem cl_109 : 109 < NJ ∧ mL (MT 109) ≤ 64 := ⟨(Nat.le_of_ble_eq_true rfl), (Nat.le_of_ble_eq_true rfl)⟩
theorem TS_L_law_33 : InsOK MD_L_law 33 (.tableswitch 1227 0 35 #[159, 222, 245, 258, 271, 294, 327, 360, 383, 396, 429, 462, 485, 518, 531, 574, 597, 620, 653, 686, 719, 752, 785, 818, 851, 904, 927, 960, 1003, 1026, 1059, 1082, 1105, 1158, 1181, 1204], 192, 1260, [(0, 192), (1, 255), (2, 278), (3, 291), (4, 304), (5, 327), (6, 360), (7, 393), (8, 416), (9, 429), (10, 462), (11, 495), (12, 518), (13, 551), (14, 564), (15, 607), (16, 630), (17, 653), (18, 686), (19, 719), (20, 752), (21, 785), (22, 818), (23, 851), (24, 884), (25, 937), (26, 960), (27, 993), (28, 1036), (29, 1059), (30, 1092), (31, 1115), (32, 1138), (33, 1191), (34, 1214), (35, 1237)]) := And.intro (Exists.intro _ dL_law_33) (And.intro rfl (And.intro (allc ⟨by decide, by decide, (159), rfl, rfl⟩ (allc ⟨by decide, by decide, (222), rfl, rfl⟩ (allc ⟨by decide, by decide, (245), rfl, rfl⟩ (allc ⟨by decide, by decide, (258), rfl, rfl⟩ (allc ⟨by decide, by decide, (271), rfl, rfl⟩ (allc ⟨by decide, by decide, (294), rfl, rfl⟩ (allc ⟨by decide, by decide, (327), rfl, rfl⟩ (allc ⟨by decide, by decide, (360), rfl, rfl⟩ (allc ⟨by decide, by decide, (383), rfl, rfl⟩ (allc ⟨by decide, by decide, (396), rfl, rfl⟩ (allc ⟨by decide, by decide, (429), rfl, rfl⟩ (allc ⟨by decide, by decide, (462), rfl, rfl⟩ (allc ⟨by decide, by decide, (485), rfl, rfl⟩ (allc ⟨by decide, by decide, (518), rfl, rfl⟩ (allc ⟨by decide, by decide, (531), rfl, rfl⟩ (allc ⟨by decide, by decide, (574), rfl, rfl⟩ (allc ⟨by decide, by decide, (597), rfl, rfl⟩ (allc ⟨by decide, by decide, (620), rfl, rfl⟩ (allc ⟨by decide, by decide, (653), rfl, rfl⟩ (allc ⟨by decide, by decide, (686), rfl, rfl⟩ (allc ⟨by decide, by decide, (719), rfl, rfl⟩ (allc ⟨by decide, by decide, (752), rfl, rfl⟩ (allc ⟨by decide, by decide, (785), rfl, rfl⟩ (allc ⟨by decide, by decide, (818), rfl, rfl⟩ (allc ⟨by decide, by decide, (851), rfl, rfl⟩ (allc ⟨by decide, by decide, (904), rfl, rfl⟩ (allc ⟨by decide, by decide, (927), rfl, rfl⟩ (allc ⟨by decide, by decide, (960), rfl, rfl⟩ (allc ⟨by decide, by decide, (1003), rfl, rfl⟩ (allc ⟨by decide, by decide, (1026), rfl, rfl⟩ (allc ⟨by decide, by decide, (1059), rfl, rfl⟩ (allc ⟨by decide, by decide, (1082), rfl, rfl⟩ (allc ⟨by decide, by decide, (1105), rfl, rfl⟩ (allc ⟨by decide, by decide, (1158), rfl, rfl⟩ (allc ⟨by decide, by decide, (1181), rfl, rfl⟩ (allc ⟨by decide, by decide, (1204), rfl, rfl⟩ all0)))))))))))))))))))))))))))))))))))) (by
  intro z h1 h2
  have h3 : z = 0 ∨ z = 1 ∨ z = 2 ∨ z = 3 ∨ z = 4 ∨ z = 5 ∨ z = 6 ∨ z = 7 ∨ z = 8 ∨ z = 9 ∨ z = 10 ∨ z = 11 ∨ z = 12 ∨ z = 13 ∨ z = 14 ∨ z = 15 ∨ z = 16 ∨ z = 17 ∨ z = 18 ∨ z = 19 ∨ z = 20 ∨ z = 21 ∨ z = 22 ∨ z = 23 ∨ z = 24 ∨ z = 25 ∨ z = 26 ∨ z = 27 ∨ z = 28 ∨ z = 29 ∨ z = 30 ∨ z = 31 ∨ z = 32 ∨ z = 33 ∨ z = 34 ∨ z = 35 := by omega
  rcases h3 with rfl | rfl | rfl | rfl | rfl | rfl | rfl | rfl | rfl | rfl | rfl | rfl | rfl | rfl | rfl | rfl | rfl | rfl | rfl | rfl | rfl | rfl | rfl | rfl | rfl | rfl | rfl | rfl | rfl | rfl | rfl | rfl | rfl | rfl | rfl | rfl
  · exact ⟨(0, 192), List.mem_of_getElem? (i := 0) rfl, rfl⟩
  · exact ⟨(1, 255), List.mem_of_getElem? (i := 1) rfl, rfl⟩
  · exact ⟨(2, 278), List.mem_of_getElem? (i := 2) rfl, rfl⟩
  · exact ⟨(3, 291), List.mem_of_getElem? (i := 3) rfl, rfl⟩
  · exact ⟨(4, 304), List.mem_of_getElem? (i := 4) rfl, rfl⟩
  · exact ⟨(5, 327), List.mem_of_getElem? (i := 5) rfl, rfl⟩
  · exact ⟨(6, 360), List.mem_of_getElem? (i := 6) rfl, rfl⟩
  · exact ⟨(7, 393), List.mem_of_getElem? (i := 7) rfl, rfl⟩
  · exact ⟨(8, 416), List.mem_of_getElem? (i := 8) rfl, rfl⟩
  · exact ⟨(9, 429), List.mem_of_getElem? (i := 9) rfl, rfl⟩
  · exact ⟨(10, 462), List.mem_of_getElem? (i := 10) rfl, rfl⟩
  · exact ⟨(11, 495), List.mem_of_getElem? (i := 11) rfl, rfl⟩
  · exact ⟨(12, 518), List.mem_of_getElem? (i := 12) rfl, rfl⟩
  · exact ⟨(13, 551), List.mem_of_getElem? (i := 13) rfl, rfl⟩
  · exact ⟨(14, 564), List.mem_of_getElem? (i := 14) rfl, rfl⟩
  · exact ⟨(15, 607), List.mem_of_getElem? (i := 15) rfl, rfl⟩
  · exact ⟨(16, 630), List.mem_of_getElem? (i := 16) rfl, rfl⟩
  · exact ⟨(17, 653), List.mem_of_getElem? (i := 17) rfl, rfl⟩
  · exact ⟨(18, 686), List.mem_of_getElem? (i := 18) rfl, rfl⟩
  · exact ⟨(19, 719), List.mem_of_getElem? (i := 19) rfl, rfl⟩
  · exact ⟨(20, 752), List.mem_of_getElem? (i := 20) rfl, rfl⟩
  · exact ⟨(21, 785), List.mem_of_getElem? (i := 21) rfl, rfl⟩
  · exact ⟨(22, 818), List.mem_of_getElem? (i := 22) rfl, rfl⟩
  · exact ⟨(23, 851), List.mem_of_getElem? (i := 23) rfl, rfl⟩
  · exact ⟨(24, 884), List.mem_of_getElem? (i := 24) rfl, rfl⟩
  · exact ⟨(25, 937), List.mem_of_getElem? (i := 25) rfl, rfl⟩
  · exact ⟨(26, 960), List.mem_of_getElem? (i := 26) rfl, rfl⟩
  · exact ⟨(27, 993), List.mem_of_getElem? (i := 27) rfl, rfl⟩
  · exact ⟨(28, 1036), List.mem_of_getElem? (i := 28) rfl, rfl⟩
  · exact ⟨(29, 1059), List.mem_of_getElem? (i := 29) rfl, rfl⟩
  · exact ⟨(30, 1092), List.mem_of_getElem? (i := 30) rfl, rfl⟩
  · exact ⟨(31, 1115), List.mem_of_getElem? (i := 31) rfl, rfl⟩
  · exact ⟨(32, 1138), List.mem_of_getElem? (i := 32) rfl, rfl⟩
  · exact ⟨(33, 1191), List.mem_of_getElem? (i := 33) rfl, rfl⟩
  · exact ⟨(34, 1214), List.mem_of_getElem? (i := 34) rfl, rfl⟩
  · exact ⟨(35, 1237), List.mem_of_getElem? (i := 35) rfl, rfl⟩)))
theorem np__IIIII_I : npar "(IIIII)I" 5 := by unfold npar; decide +kernel
theorem SV_L_13 : SiteV "EdgeWalkLaw" 13 MD_X0_feed 5 0 := ⟨q442, q129, nm_EdgeWalk, np__IIIII_I, q440, q441, Or.inl q439⟩
theorem cl_29 : 29 < NJ ∧ mL (MT 29) ≤ 64 := ⟨(Nat.le_of_ble_eq_true rfl), (Nat.le_of_ble_eq_true rfl)⟩
theorem SV_L_17 : SiteV "EdgeWalkLaw" 17 MD_X4_feed 5 5 := ⟨q1408, q138, nm_EdgeWalkModel, np__IIIII_I, q1406, q1407, Or.inl q1405⟩
theorem cl_110 : 110 < NJ ∧ mL (MT 110) ≤ 64 := ⟨(Nat.le_of_ble_eq_true rfl), (Nat.le_of_ble_eq_true rfl)⟩
theorem SV_L_18 : SiteV "EdgeWalkLaw" 18 MD_X0_end 1 0 := ⟨q450, q129, nm_EdgeWalk, np__I_I, q448, q449, Or.inl q447⟩
theorem cl_31 : 31 < NJ ∧ mL (MT 31) ≤ 64 := ⟨(Nat.le_of_ble_eq_true rfl), (Nat.le_of_ble_eq_true rfl)⟩
theorem SV_L_22 : SiteV "EdgeWalkLaw" 22 MD_X4_end 1 5 := ⟨q1416, q138, nm_EdgeWalkModel, np__I_I, q1414, q1415, Or.inl q1413⟩
theorem cl_112 : 112 < NJ ∧ mL (MT 112) ≤ 64 := ⟨(Nat.le_of_ble_eq_true rfl), (Nat.le_of_ble_eq_true rfl)⟩
theorem SV_L_23 : SiteV "EdgeWalkLaw" 23 MD_X0_sheet 0 0 := ⟨q454, q129, nm_EdgeWalk, np___I, q452, q453, Or.inl q451⟩
theorem cl_32 : 32 < NJ ∧ mL (MT 32) ≤ 64 := ⟨(Nat.le_of_ble_eq_true rfl), (Nat.le_of_ble_eq_true rfl)⟩
theorem SV_L_27 : SiteV "EdgeWalkLaw" 27 MD_X4_sheet 0 5 := ⟨q1577, q138, nm_EdgeWalkModel, np___I, q1575, q1576, Or.inl q1574⟩
theorem cl_148 : 148 < NJ ∧ mL (MT 148) ≤ 64 := ⟨(Nat.le_of_ble_eq_true rfl), (Nat.le_of_ble_eq_true rfl)⟩
theorem SV_L_28 : SiteV "EdgeWalkLaw" 28 MD_X0_rule 0 0 := ⟨q712, q129, nm_EdgeWalk, np___I, q710, q711, Or.inl q709⟩
theorem cl_35 : 35 < NJ ∧ mL (MT 35) ≤ 64 := ⟨(Nat.le_of_ble_eq_true rfl), (Nat.le_of_ble_eq_true rfl)⟩
theorem SV_L_31 : SiteV "EdgeWalkLaw" 31 MD_X4_rule 0 5 := ⟨q1420, q138, nm_EdgeWalkModel, np___I, q1418, q1419, Or.inl q1417⟩
theorem cl_113 : 113 < NJ ∧ mL (MT 113) ≤ 64 := ⟨(Nat.le_of_ble_eq_true rfl), (Nat.le_of_ble_eq_true rfl)⟩
theorem SV_L_32 : SiteV "EdgeWalkLaw" 32 MD_X0_force 1 0 := ⟨q882, q129, nm_EdgeWalk, np__I_I, q880, q881, Or.inl q879⟩
theorem cl_36 : 36 < NJ ∧ mL (MT 36) ≤ 64 := ⟨(Nat.le_of_ble_eq_true rfl), (Nat.le_of_ble_eq_true rfl)⟩
theorem SV_L_35 : SiteV "EdgeWalkLaw" 35 MD_X4_force 1 5 := ⟨q1585, q138, nm_EdgeWalkModel, np__I_I, q1583, q1584, Or.inl q1582⟩
theorem cl_150 : 150 < NJ ∧ mL (MT 150) ≤ 64 := ⟨(Nat.le_of_ble_eq_true rfl), (Nat.le_of_ble_eq_true rfl)⟩
theorem SV_L_36 : SiteV "EdgeWalkLaw" 36 MD_X0_goer 2 0 := ⟨q888, q129, nm_EdgeWalk, np__II_I, q886, q887, Or.inl q885⟩
theorem cl_37 : 37 < NJ ∧ mL (MT 37) ≤ 64 := ⟨(Nat.le_of_ble_eq_true rfl), (Nat.le_of_ble_eq_true rfl)⟩
theorem SV_L_40 : SiteV "EdgeWalkLaw" 40 MD_X4_goer 2 5 := ⟨q1593, q138, nm_EdgeWalkModel, np__II_I, q1591, q1592, Or.inl q1590⟩
theorem cl_152 : 152 < NJ ∧ mL (MT 152) ≤ 64 := ⟨(Nat.le_of_ble_eq_true rfl), (Nat.le_of_ble_eq_true rfl)⟩
theorem SV_L_41 : SiteV "EdgeWalkLaw" 41 MD_X0_join 2 0 := ⟨q896, q129, nm_EdgeWalk, np__II_I, q894, q895, Or.inl q893⟩
theorem cl_39 : 39 < NJ ∧ mL (MT 39) ≤ 64 := ⟨(Nat.le_of_ble_eq_true rfl), (Nat.le_of_ble_eq_true rfl)⟩
theorem SV_L_44 : SiteV "EdgeWalkLaw" 44 MD_X4_join 2 5 := ⟨q1621, q138, nm_EdgeWalkModel, np__II_I, q1619, q1620, Or.inl q1618⟩
theorem cl_159 : 159 < NJ ∧ mL (MT 159) ≤ 64 := ⟨(Nat.le_of_ble_eq_true rfl), (Nat.le_of_ble_eq_true rfl)⟩
theorem SV_L_45 : SiteV "EdgeWalkLaw" 45 MD_X0_stoneIn 1 0 := ⟨q905, q129, nm_EdgeWalk, np__I_I, q903, q904, Or.inl q902⟩
theorem SV_L_48 : SiteV "EdgeWalkLaw" 48 MD_X4_stoneIn 1 5 := ⟨q1634, q138, nm_EdgeWalkModel, np__I_I, q1632, q1633, Or.inl q1631⟩
theorem cl_162 : 162 < NJ ∧ mL (MT 162) ≤ 64 := ⟨(Nat.le_of_ble_eq_true rfl), (Nat.le_of_ble_eq_true rfl)⟩
theorem SV_L_49 : SiteV "EdgeWalkLaw" 49 MD_X0_step 0 0 := ⟨q929, q129, nm_EdgeWalk, np___I, q927, q928, Or.inl q926⟩
theorem cl_45 : 45 < NJ ∧ mL (MT 45) ≤ 64 := ⟨(Nat.le_of_ble_eq_true rfl), (Nat.le_of_ble_eq_true rfl)⟩
theorem SV_L_52 : SiteV "EdgeWalkLaw" 52 MD_X4_step 0 5 := ⟨q1650, q138, nm_EdgeWalkModel, np___I, q1648, q1649, Or.inl q1647⟩
theorem cl_166 : 166 < NJ ∧ mL (MT 166) ≤ 64 := ⟨(Nat.le_of_ble_eq_true rfl), (Nat.le_of_ble_eq_true rfl)⟩
theorem SV_L_53 : SiteV "EdgeWalkLaw" 53 MD_X0_give 2 0 := ⟨q1031, q129, nm_EdgeWalk, np__II_I, q1029, q1030, Or.inl q1028⟩
theorem cl_50 : 50 < NJ ∧ mL (MT 50) ≤ 64 := ⟨(Nat.le_of_ble_eq_true rfl), (Nat.le_of_ble_eq_true rfl)⟩
theorem SV_L_56 : SiteV "EdgeWalkLaw" 56 MD_X4_give 2 5 := ⟨q1721, q138, nm_EdgeWalkModel, np__II_I, q1719, q1720, Or.inl q1718⟩
theorem cl_184 : 184 < NJ ∧ mL (MT 184) ≤ 64 := ⟨(Nat.le_of_ble_eq_true rfl), (Nat.le_of_ble_eq_true rfl)⟩
theorem SV_L_57 : SiteV "EdgeWalkLaw" 57 MD_X0_way 2 0 := ⟨q1036, q129, nm_EdgeWalk, np__II_I, q1034, q1035, Or.inl q1033⟩
theorem cl_51 : 51 < NJ ∧ mL (MT 51) ≤ 64 := ⟨(Nat.le_of_ble_eq_true rfl), (Nat.le_of_ble_eq_true rfl)⟩
theorem SV_L_60 : SiteV "EdgeWalkLaw" 60 MD_X4_way 2 5 := ⟨q1726, q138, nm_EdgeWalkModel, np__II_I, q1724, q1725, Or.inl q1723⟩
theorem cl_185 : 185 < NJ ∧ mL (MT 185) ≤ 64 := ⟨(Nat.le_of_ble_eq_true rfl), (Nat.le_of_ble_eq_true rfl)⟩
theorem SV_L_61 : SiteV "EdgeWalkLaw" 61 MD_X0_stone 1 0 := ⟨q1040, q129, nm_EdgeWalk, np__I_I, q1038, q1039, Or.inl q1037⟩
theorem cl_52 : 52 < NJ ∧ mL (MT 52) ≤ 64 := ⟨(Nat.le_of_ble_eq_true rfl), (Nat.le_of_ble_eq_true rfl)⟩
theorem SV_L_64 : SiteV "EdgeWalkLaw" 64 MD_X4_stone 1 5 := ⟨q1730, q138, nm_EdgeWalkModel, np__I_I, q1728, q1729, Or.inl q1727⟩
theorem cl_186 : 186 < NJ ∧ mL (MT 186) ≤ 64 := ⟨(Nat.le_of_ble_eq_true rfl), (Nat.le_of_ble_eq_true rfl)⟩
theorem SV_L_65 : SiteV "EdgeWalkLaw" 65 MD_X0_fold 2 0 := ⟨q1045, q129, nm_EdgeWalk, np__II_I, q1043, q1044, Or.inl q1042⟩
theorem cl_53 : 53 < NJ ∧ mL (MT 53) ≤ 64 := ⟨(Nat.le_of_ble_eq_true rfl), (Nat.le_of_ble_eq_true rfl)⟩
theorem SV_L_68 : SiteV "EdgeWalkLaw" 68 MD_X4_fold 2 5 := ⟨q1734, q138, nm_EdgeWalkModel, np__II_I, q1732, q1733, Or.inl q1731⟩
theorem cl_187 : 187 < NJ ∧ mL (MT 187) ≤ 64 := ⟨(Nat.le_of_ble_eq_true rfl), (Nat.le_of_ble_eq_true rfl)⟩
theorem SV_L_69 : SiteV "EdgeWalkLaw" 69 MD_X0_undo 0 0 := ⟨q921, q129, nm_EdgeWalk, np___I, q919, q920, Or.inl q918⟩
theorem cl_44 : 44 < NJ ∧ mL (MT 44) ≤ 64 := ⟨(Nat.le_of_ble_eq_true rfl), (Nat.le_of_ble_eq_true rfl)⟩
theorem SV_L_72 : SiteV "EdgeWalkLaw" 72 MD_X4_undo 0 5 := ⟨q1646, q138, nm_EdgeWalkModel, np___I, q1644, q1645, Or.inl q1643⟩
theorem cl_165 : 165 < NJ ∧ mL (MT 165) ≤ 64 := ⟨(Nat.le_of_ble_eq_true rfl), (Nat.le_of_ble_eq_true rfl)⟩
theorem SV_L_73 : SiteV "EdgeWalkLaw" 73 MD_X0_ahead 3 0 := ⟨q1049, q129, nm_EdgeWalk, np__III_I, q1047, q1048, Or.inl q1046⟩
theorem cl_54 : 54 < NJ ∧ mL (MT 54) ≤ 64 := ⟨(Nat.le_of_ble_eq_true rfl), (Nat.le_of_ble_eq_true rfl)⟩
theorem SV_L_77 : SiteV "EdgeWalkLaw" 77 MD_X4_ahead 3 5 := ⟨q1738, q138, nm_EdgeWalkModel, np__III_I, q1736, q1737, Or.inl q1735⟩
theorem cl_188 : 188 < NJ ∧ mL (MT 188) ≤ 64 := ⟨(Nat.le_of_ble_eq_true rfl), (Nat.le_of_ble_eq_true rfl)⟩
theorem SV_L_78 : SiteV "EdgeWalkLaw" 78 MD_X0_home 1 0 := ⟨q1059, q129, nm_EdgeWalk, np__I_I, q1057, q1058, Or.inl q1056⟩
theorem cl_56 : 56 < NJ ∧ mL (MT 56) ≤ 64 := ⟨(Nat.le_of_ble_eq_true rfl), (Nat.le_of_ble_eq_true rfl)⟩
theorem SV_L_81 : SiteV "EdgeWalkLaw" 81 MD_X4_home 1 5 := ⟨q1756, q138, nm_EdgeWalkModel, np__I_I, q1754, q1755, Or.inl q1753⟩
theorem cl_192 : 192 < NJ ∧ mL (MT 192) ≤ 64 := ⟨(Nat.le_of_ble_eq_true rfl), (Nat.le_of_ble_eq_true rfl)⟩
theorem SV_L_82 : SiteV "EdgeWalkLaw" 82 MD_X0_gone 1 0 := ⟨q1063, q129, nm_EdgeWalk, np__I_I, q1061, q1062, Or.inl q1060⟩
theorem cl_57 : 57 < NJ ∧ mL (MT 57) ≤ 64 := ⟨(Nat.le_of_ble_eq_true rfl), (Nat.le_of_ble_eq_true rfl)⟩
theorem SV_L_85 : SiteV "EdgeWalkLaw" 85 MD_X4_gone 1 5 := ⟨q1760, q138, nm_EdgeWalkModel, np__I_I, q1758, q1759, Or.inl q1757⟩
theorem cl_193 : 193 < NJ ∧ mL (MT 193) ≤ 64 := ⟨(Nat.le_of_ble_eq_true rfl), (Nat.le_of_ble_eq_true rfl)⟩
theorem SV_L_86 : SiteV "EdgeWalkLaw" 86 MD_X0_leastFood 2 0 := ⟨q1067, q129, nm_EdgeWalk, np__II_I, q1065, q1066, Or.inl q1064⟩
theorem cl_58 : 58 < NJ ∧ mL (MT 58) ≤ 64 := ⟨(Nat.le_of_ble_eq_true rfl), (Nat.le_of_ble_eq_true rfl)⟩
theorem SV_L_89 : SiteV "EdgeWalkLaw" 89 MD_X4_leastFood 2 5 := ⟨q1764, q138, nm_EdgeWalkModel, np__II_I, q1762, q1763, Or.inl q1761⟩
theorem cl_194 : 194 < NJ ∧ mL (MT 194) ≤ 64 := ⟨(Nat.le_of_ble_eq_true rfl), (Nat.le_of_ble_eq_true rfl)⟩
theorem SV_L_90 : SiteV "EdgeWalkLaw" 90 MD_X0_meet 2 0 := ⟨q1071, q129, nm_EdgeWalk, np__II_I, q1069, q1070, Or.inl q1068⟩
theorem cl_59 : 59 < NJ ∧ mL (MT 59) ≤ 64 := ⟨(Nat.le_of_ble_eq_true rfl), (Nat.le_of_ble_eq_true rfl)⟩
theorem SV_L_93 : SiteV "EdgeWalkLaw" 93 MD_X4_meet 2 5 := ⟨q1768, q138, nm_EdgeWalkModel, np__II_I, q1766, q1767, Or.inl q1765⟩
theorem cl_195 : 195 < NJ ∧ mL (MT 195) ≤ 64 := ⟨(Nat.le_of_ble_eq_true rfl), (Nat.le_of_ble_eq_true rfl)⟩
theorem SV_L_94 : SiteV "EdgeWalkLaw" 94 MD_X0_shortest 2 0 := ⟨q1089, q129, nm_EdgeWalk, np__II_I, q1087, q1088, Or.inl q1086⟩
theorem cl_62 : 62 < NJ ∧ mL (MT 62) ≤ 64 := ⟨(Nat.le_of_ble_eq_true rfl), (Nat.le_of_ble_eq_true rfl)⟩
theorem SV_L_97 : SiteV "EdgeWalkLaw" 97 MD_X4_shortest 2 5 := ⟨q1772, q138, nm_EdgeWalkModel, np__II_I, q1770, q1771, Or.inl q1769⟩
theorem cl_196 : 196 < NJ ∧ mL (MT 196) ≤ 64 := ⟨(Nat.le_of_ble_eq_true rfl), (Nat.le_of_ble_eq_true rfl)⟩
theorem SV_L_98 : SiteV "EdgeWalkLaw" 98 MD_X0_seen 2 0 := ⟨q1075, q129, nm_EdgeWalk, np__II_I, q1073, q1074, Or.inl q1072⟩
theorem cl_60 : 60 < NJ ∧ mL (MT 60) ≤ 64 := ⟨(Nat.le_of_ble_eq_true rfl), (Nat.le_of_ble_eq_true rfl)⟩
theorem SV_L_101 : SiteV "EdgeWalkLaw" 101 MD_X4_seen 2 5 := ⟨q1784, q138, nm_EdgeWalkModel, np__II_I, q1782, q1783, Or.inl q1781⟩
theorem cl_199 : 199 < NJ ∧ mL (MT 199) ≤ 64 := ⟨(Nat.le_of_ble_eq_true rfl), (Nat.le_of_ble_eq_true rfl)⟩
theorem SV_L_102 : SiteV "EdgeWalkLaw" 102 MD_X0_longest 2 0 := ⟨q1085, q129, nm_EdgeWalk, np__II_I, q1083, q1084, Or.inl q1082⟩
theorem cl_61 : 61 < NJ ∧ mL (MT 61) ≤ 64 := ⟨(Nat.le_of_ble_eq_true rfl), (Nat.le_of_ble_eq_true rfl)⟩
theorem SV_L_105 : SiteV "EdgeWalkLaw" 105 MD_X4_longest 2 5 := ⟨q1788, q138, nm_EdgeWalkModel, np__II_I, q1786, q1787, Or.inl q1785⟩
theorem cl_200 : 200 < NJ ∧ mL (MT 200) ≤ 64 := ⟨(Nat.le_of_ble_eq_true rfl), (Nat.le_of_ble_eq_true rfl)⟩
theorem SV_L_106 : SiteV "EdgeWalkLaw" 106 MD_X0_bestFold 2 0 := ⟨q1099, q129, nm_EdgeWalk, np__II_I, q1097, q1098, Or.inl q1096⟩
theorem cl_64 : 64 < NJ ∧ mL (MT 64) ≤ 64 := ⟨(Nat.le_of_ble_eq_true rfl), (Nat.le_of_ble_eq_true rfl)⟩
theorem SV_L_109 : SiteV "EdgeWalkLaw" 109 MD_X4_bestFold 2 5 := ⟨q1792, q138, nm_EdgeWalkModel, np__II_I, q1790, q1791, Or.inl q1789⟩
theorem cl_201 : 201 < NJ ∧ mL (MT 201) ≤ 64 := ⟨(Nat.le_of_ble_eq_true rfl), (Nat.le_of_ble_eq_true rfl)⟩
theorem SV_L_110 : SiteV "EdgeWalkLaw" 110 MD_X0_bestStone 2 0 := ⟨q1122, q129, nm_EdgeWalk, np__II_I, q1120, q1121, Or.inl q1119⟩
theorem cl_67 : 67 < NJ ∧ mL (MT 67) ≤ 64 := ⟨(Nat.le_of_ble_eq_true rfl), (Nat.le_of_ble_eq_true rfl)⟩
theorem SV_L_113 : SiteV "EdgeWalkLaw" 113 MD_X4_bestStone 2 5 := ⟨q1808, q138, nm_EdgeWalkModel, np__II_I, q1806, q1807, Or.inl q1805⟩
theorem cl_205 : 205 < NJ ∧ mL (MT 205) ≤ 64 := ⟨(Nat.le_of_ble_eq_true rfl), (Nat.le_of_ble_eq_true rfl)⟩
theorem np__IIII_I : npar "(IIII)I" 4 := by unfold npar; decide +kernel
theorem SV_L_114 : SiteV "EdgeWalkLaw" 114 MD_X0_rests 4 0 := ⟨q1126, q129, nm_EdgeWalk, np__IIII_I, q1124, q1125, Or.inl q1123⟩
theorem cl_68 : 68 < NJ ∧ mL (MT 68) ≤ 64 := ⟨(Nat.le_of_ble_eq_true rfl), (Nat.le_of_ble_eq_true rfl)⟩
theorem SV_L_118 : SiteV "EdgeWalkLaw" 118 MD_X4_rests 4 5 := ⟨q1812, q138, nm_EdgeWalkModel, np__IIII_I, q1810, q1811, Or.inl q1809⟩
theorem cl_206 : 206 < NJ ∧ mL (MT 206) ≤ 64 := ⟨(Nat.le_of_ble_eq_true rfl), (Nat.le_of_ble_eq_true rfl)⟩
theorem SV_L_119 : SiteV "EdgeWalkLaw" 119 MD_X0_ring 1 0 := ⟨q1141, q129, nm_EdgeWalk, np__I_I, q1139, q1140, Or.inl q1138⟩
theorem cl_72 : 72 < NJ ∧ mL (MT 72) ≤ 64 := ⟨(Nat.le_of_ble_eq_true rfl), (Nat.le_of_ble_eq_true rfl)⟩
theorem SV_L_122 : SiteV "EdgeWalkLaw" 122 MD_X4_ring 1 5 := ⟨q1820, q138, nm_EdgeWalkModel, np__I_I, q1818, q1819, Or.inl q1817⟩
theorem cl_208 : 208 < NJ ∧ mL (MT 208) ≤ 64 := ⟨(Nat.le_of_ble_eq_true rfl), (Nat.le_of_ble_eq_true rfl)⟩
theorem SV_L_123 : SiteV "EdgeWalkLaw" 123 MD_X0_bread 2 0 := ⟨q1153, q129, nm_EdgeWalk, np__II_I, q1151, q1152, Or.inl q1150⟩
theorem cl_75 : 75 < NJ ∧ mL (MT 75) ≤ 64 := ⟨(Nat.le_of_ble_eq_true rfl), (Nat.le_of_ble_eq_true rfl)⟩
theorem SV_L_126 : SiteV "EdgeWalkLaw" 126 MD_X4_bread 2 5 := ⟨q1832, q138, nm_EdgeWalkModel, np__II_I, q1830, q1831, Or.inl q1829⟩
theorem cl_211 : 211 < NJ ∧ mL (MT 211) ≤ 64 := ⟨(Nat.le_of_ble_eq_true rfl), (Nat.le_of_ble_eq_true rfl)⟩
theorem SV_L_127 : SiteV "EdgeWalkLaw" 127 MD_X0_note 3 0 := ⟨q1162, q129, nm_EdgeWalk, np__III_I, q1160, q1161, Or.inl q1159⟩
theorem cl_77 : 77 < NJ ∧ mL (MT 77) ≤ 64 := ⟨(Nat.le_of_ble_eq_true rfl), (Nat.le_of_ble_eq_true rfl)⟩
theorem SV_L_130 : SiteV "EdgeWalkLaw" 130 MD_X4_note 3 5 := ⟨q1841, q138, nm_EdgeWalkModel, np__III_I, q1839, q1840, Or.inl q1838⟩
theorem cl_213 : 213 < NJ ∧ mL (MT 213) ≤ 64 := ⟨(Nat.le_of_ble_eq_true rfl), (Nat.le_of_ble_eq_true rfl)⟩
theorem SV_L_131 : SiteV "EdgeWalkLaw" 131 MD_X0_ruled 1 0 := ⟨q1167, q129, nm_EdgeWalk, np__I_I, q1165, q1166, Or.inl q1164⟩
theorem cl_78 : 78 < NJ ∧ mL (MT 78) ≤ 64 := ⟨(Nat.le_of_ble_eq_true rfl), (Nat.le_of_ble_eq_true rfl)⟩
theorem SV_L_134 : SiteV "EdgeWalkLaw" 134 MD_X4_ruled 1 5 := ⟨q1846, q138, nm_EdgeWalkModel, np__I_I, q1844, q1845, Or.inl q1843⟩
theorem cl_214 : 214 < NJ ∧ mL (MT 214) ≤ 64 := ⟨(Nat.le_of_ble_eq_true rfl), (Nat.le_of_ble_eq_true rfl)⟩
theorem SV_L_135 : SiteV "EdgeWalkLaw" 135 MD_X0_look 2 0 := ⟨q1183, q129, nm_EdgeWalk, np__II_I, q1181, q1182, Or.inl q1180⟩
theorem cl_82 : 82 < NJ ∧ mL (MT 82) ≤ 64 := ⟨(Nat.le_of_ble_eq_true rfl), (Nat.le_of_ble_eq_true rfl)⟩
theorem SV_L_138 : SiteV "EdgeWalkLaw" 138 MD_X4_look 2 5 := ⟨q1866, q138, nm_EdgeWalkModel, np__II_I, q1864, q1865, Or.inl q1863⟩
theorem cl_219 : 219 < NJ ∧ mL (MT 219) ≤ 64 := ⟨(Nat.le_of_ble_eq_true rfl), (Nat.le_of_ble_eq_true rfl)⟩
theorem SV_L_139 : SiteV "EdgeWalkLaw" 139 MD_X0_folds 1 0 := ⟨q1192, q129, nm_EdgeWalk, np__I_I, q1190, q1191, Or.inl q1189⟩
theorem cl_84 : 84 < NJ ∧ mL (MT 84) ≤ 64 := ⟨(Nat.le_of_ble_eq_true rfl), (Nat.le_of_ble_eq_true rfl)⟩
theorem SV_L_142 : SiteV "EdgeWalkLaw" 142 MD_X4_folds 1 5 := ⟨q1874, q138, nm_EdgeWalkModel, np__I_I, q1872, q1873, Or.inl q1871⟩
theorem cl_221 : 221 < NJ ∧ mL (MT 221) ≤ 64 := ⟨(Nat.le_of_ble_eq_true rfl), (Nat.le_of_ble_eq_true rfl)⟩
theorem SV_L_143 : SiteV "EdgeWalkLaw" 143 MD_X0_seed 1 0 := ⟨q1200, q129, nm_EdgeWalk, np__I_I, q1198, q1199, Or.inl q1197⟩
theorem cl_86 : 86 < NJ ∧ mL (MT 86) ≤ 64 := ⟨(Nat.le_of_ble_eq_true rfl), (Nat.le_of_ble_eq_true rfl)⟩
theorem SV_L_146 : SiteV "EdgeWalkLaw" 146 MD_X4_seed 1 5 := ⟨q1879, q138, nm_EdgeWalkModel, np__I_I, q1877, q1878, Or.inl q1876⟩
theorem cl_222 : 222 < NJ ∧ mL (MT 222) ≤ 64 := ⟨(Nat.le_of_ble_eq_true rfl), (Nat.le_of_ble_eq_true rfl)⟩
theorem SV_L_147 : SiteV "EdgeWalkLaw" 147 MD_X0_gusts 4 0 := ⟨q1204, q129, nm_EdgeWalk, np__IIII_I, q1202, q1203, Or.inl q1201⟩
theorem cl_87 : 87 < NJ ∧ mL (MT 87) ≤ 64 := ⟨(Nat.le_of_ble_eq_true rfl), (Nat.le_of_ble_eq_true rfl)⟩
theorem SV_L_150 : SiteV "EdgeWalkLaw" 150 MD_X4_gusts 4 5 := ⟨q1883, q138, nm_EdgeWalkModel, np__IIII_I, q1881, q1882, Or.inl q1880⟩
theorem cl_223 : 223 < NJ ∧ mL (MT 223) ≤ 64 := ⟨(Nat.le_of_ble_eq_true rfl), (Nat.le_of_ble_eq_true rfl)⟩
theorem SV_L_151 : SiteV "EdgeWalkLaw" 151 MD_X0_count 1 0 := ⟨q1221, q129, nm_EdgeWalk, np__I_I, q1219, q1220, Or.inl q1218⟩
theorem cl_90 : 90 < NJ ∧ mL (MT 90) ≤ 64 := ⟨(Nat.le_of_ble_eq_true rfl), (Nat.le_of_ble_eq_true rfl)⟩
theorem SV_L_154 : SiteV "EdgeWalkLaw" 154 MD_X4_count 1 5 := ⟨q1900, q138, nm_EdgeWalkModel, np__I_I, q1898, q1899, Or.inl q1897⟩
theorem cl_226 : 226 < NJ ∧ mL (MT 226) ≤ 64 := ⟨(Nat.le_of_ble_eq_true rfl), (Nat.le_of_ble_eq_true rfl)⟩
theorem SV_L_155 : SiteV "EdgeWalkLaw" 155 MD_X0_image 1 0 := ⟨q1225, q129, nm_EdgeWalk, np__I_I, q1223, q1224, Or.inl q1222⟩
theorem cl_91 : 91 < NJ ∧ mL (MT 91) ≤ 64 := ⟨(Nat.le_of_ble_eq_true rfl), (Nat.le_of_ble_eq_true rfl)⟩
theorem SV_L_158 : SiteV "EdgeWalkLaw" 158 MD_X4_image 1 5 := ⟨q1904, q138, nm_EdgeWalkModel, np__I_I, q1902, q1903, Or.inl q1901⟩
theorem cl_227 : 227 < NJ ∧ mL (MT 227) ≤ 64 := ⟨(Nat.le_of_ble_eq_true rfl), (Nat.le_of_ble_eq_true rfl)⟩
theorem SV_L_159 : SiteV "EdgeWalkLaw" 159 MD_X0_back 1 0 := ⟨q1269, q129, nm_EdgeWalk, np__I_I, q1267, q1268, Or.inl q1266⟩
theorem cl_92 : 92 < NJ ∧ mL (MT 92) ≤ 64 := ⟨(Nat.le_of_ble_eq_true rfl), (Nat.le_of_ble_eq_true rfl)⟩
theorem SV_L_162 : SiteV "EdgeWalkLaw" 162 MD_X4_back 1 5 := ⟨q1908, q138, nm_EdgeWalkModel, np__I_I, q1906, q1907, Or.inl q1905⟩
theorem cl_228 : 228 < NJ ∧ mL (MT 228) ≤ 64 := ⟨(Nat.le_of_ble_eq_true rfl), (Nat.le_of_ble_eq_true rfl)⟩
