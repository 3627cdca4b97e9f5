/-! all methods (printed by gen2.py) -/
set_option maxRecDepth 100000
theorem spl {P : Nat → Prop} {a b c : Nat} (h1 : ∀ j, a ≤ j → j < b → P j) (h2 : ∀ j, b ≤ j → j < c → P j) : ∀ j, a ≤ j → j < c → P j := fun j g1 g2 => (Nat.lt_or_ge j b).elim (h1 j g1) (fun g => h2 j g g2)
theorem sp1 {P : Nat → Prop} {a : Nat} (h : P a) : ∀ j, a ≤ j → j < a + 1 → P j := fun j g1 g2 => (show a = j by omega) ▸ h
theorem pn_EdgeWalk : plainName "EdgeWalk" = true := by decide +kernel
theorem pn_EdgeWalk_Asked : plainName "EdgeWalk$Asked" = true := by decide +kernel
theorem pn_EdgeWalk_Both : plainName "EdgeWalk$Both" = true := by decide +kernel
theorem pn_EdgeWalk_Compared : plainName "EdgeWalk$Compared" = true := by decide +kernel
theorem pn_EdgeWalk_Condition : plainName "EdgeWalk$Condition" = true := by decide +kernel
theorem pn_EdgeWalk_Goer : plainName "EdgeWalk$Goer" = true := by decide +kernel
theorem pn_EdgeWalk_Image : plainName "EdgeWalk$Image" = true := by decide +kernel
theorem pn_EdgeWalk_Joined : plainName "EdgeWalk$Joined" = true := by decide +kernel
theorem pn_EdgeWalk_Not : plainName "EdgeWalk$Not" = true := by decide +kernel
theorem pn_EdgeWalk_Parser : plainName "EdgeWalk$Parser" = true := by decide +kernel
theorem pn_EdgeWalk_Plain : plainName "EdgeWalk$Plain" = true := by decide +kernel
theorem pn_EdgeWalk_Rule : plainName "EdgeWalk$Rule" = true := by decide +kernel
theorem pn_EdgeWalk_Sheet : plainName "EdgeWalk$Sheet" = true := by decide +kernel
theorem pn_EdgeWalk_State : plainName "EdgeWalk$State" = true := by decide +kernel
theorem pn_EdgeWalk_Told : plainName "EdgeWalk$Told" = true := by decide +kernel
theorem pn_EdgeWalk_Value : plainName "EdgeWalk$Value" = true := by decide +kernel
theorem pn_EdgeWalkLaw : plainName "EdgeWalkLaw" = true := by decide +kernel
theorem pn_EdgeWalkModel : plainName "EdgeWalkModel" = true := by decide +kernel
theorem pn_java_lang_Integer : plainName "java/lang/Integer" = true := by decide +kernel
theorem pn_java_lang_Long : plainName "java/lang/Long" = true := by decide +kernel
theorem pn_java_lang_Record : plainName "java/lang/Record" = true := by decide +kernel
theorem pn_java_lang_String : plainName "java/lang/String" = true := by decide +kernel
theorem pn_java_lang_StringLatin1 : plainName "java/lang/StringLatin1" = true := by decide +kernel
theorem pn_java_util_AbstractCollection : plainName "java/util/AbstractCollection" = true := by decide +kernel
theorem pn_java_util_AbstractList : plainName "java/util/AbstractList" = true := by decide +kernel
theorem pn_java_util_ArrayList : plainName "java/util/ArrayList" = true := by decide +kernel
theorem pn_java_util_Arrays : plainName "java/util/Arrays" = true := by decide +kernel
theorem pn_java_util_Objects : plainName "java/util/Objects" = true := by decide +kernel
theorem pn_jdk_internal_util_ArraysSupport : plainName "jdk/internal/util/ArraysSupport" = true := by decide +kernel
theorem pn_jdk_internal_util_Preconditions : plainName "jdk/internal/util/Preconditions" = true := by decide +kernel
theorem mo_J0_init : MOK 0 := ⟨ok_J0_init, plainFor_of_name pn_java_util_AbstractCollection, rfl⟩
theorem mo_J1_init : MOK 1 := ⟨ok_J1_init, plainFor_of_name pn_java_util_AbstractList, rfl⟩
theorem mo_J2_init : MOK 2 := ⟨ok_J2_init, plainFor_of_name pn_java_util_ArrayList, rfl⟩
theorem mo_J2_size : MOK 3 := ⟨ok_J2_size, plainFor_of_name pn_java_util_ArrayList, rfl⟩
theorem mo_J2_add : MOK 4 := ⟨ok_J2_add, plainFor_of_name pn_java_util_ArrayList, rfl⟩
theorem mo_J2_add_2 : MOK 5 := ⟨ok_J2_add_2, plainFor_of_name pn_java_util_ArrayList, rfl⟩
theorem mo_J2_grow : MOK 6 := ⟨ok_J2_grow, plainFor_of_name pn_java_util_ArrayList, rfl⟩
theorem mo_J2_grow_2 : MOK 7 := ⟨ok_J2_grow_2, plainFor_of_name pn_java_util_ArrayList, rfl⟩
theorem mo_J2_get : MOK 8 := ⟨ok_J2_get, plainFor_of_name pn_java_util_ArrayList, rfl⟩
theorem mo_J2_elementData : MOK 9 := ⟨ok_J2_elementData, plainFor_of_name pn_java_util_ArrayList, rfl⟩
theorem mo_J5_length : MOK 10 := ⟨ok_J5_length, plainFor_of_name pn_java_lang_String, rfl⟩
theorem mo_J5_coder : MOK 11 := ⟨ok_J5_coder, plainFor_of_name pn_java_lang_String, rfl⟩
theorem mo_J5_charAt : MOK 12 := ⟨ok_J5_charAt, plainFor_of_name pn_java_lang_String, rfl⟩
theorem mo_J5_isLatin1 : MOK 13 := ⟨ok_J5_isLatin1, plainFor_of_name pn_java_lang_String, rfl⟩
theorem mo_J5_checkIndex : MOK 14 := ⟨ok_J5_checkIndex, plainFor_of_name pn_java_lang_String, rfl⟩
theorem mo_J6_charAt : MOK 15 := ⟨ok_J6_charAt, plainFor_of_name pn_java_lang_StringLatin1, rfl⟩
theorem mo_J7_checkIndex : MOK 16 := ⟨ok_J7_checkIndex, plainFor_of_name pn_jdk_internal_util_Preconditions, rfl⟩
theorem mo_J9_init : MOK 17 := ⟨ok_J9_init, plainFor_of_name pn_java_lang_Record, rfl⟩
theorem mo_J10_newLength : MOK 18 := ⟨ok_J10_newLength, plainFor_of_name pn_jdk_internal_util_ArraysSupport, rfl⟩
theorem mo_J11_max : MOK 19 := ⟨ok_J11_max, by decide +kernel, rfl⟩
theorem mo_J11_min : MOK 20 := ⟨ok_J11_min, by decide +kernel, rfl⟩
theorem mo_J11_floorMod : MOK 21 := ⟨ok_J11_floorMod, by decide +kernel, rfl⟩
theorem mo_J12_copyOf : MOK 22 := ⟨ok_J12_copyOf, plainFor_of_name pn_java_util_Arrays, rfl⟩
theorem mo_J12_copyOf_2 : MOK 23 := ⟨ok_J12_copyOf_2, plainFor_of_name pn_java_util_Arrays, rfl⟩
theorem mo_J13_checkIndex : MOK 24 := ⟨ok_J13_checkIndex, plainFor_of_name pn_java_util_Objects, rfl⟩
theorem mo_J14_bitCount : MOK 25 := ⟨ok_J14_bitCount, plainFor_of_name pn_java_lang_Long, rfl⟩
theorem mo_J15_bitCount : MOK 26 := ⟨ok_J15_bitCount, plainFor_of_name pn_java_lang_Integer, rfl⟩
theorem mo_X0_init : MOK 27 := ⟨ok_X0_init, plainFor_of_name pn_EdgeWalk, rfl⟩
theorem mo_X0_newStates : MOK 28 := ⟨ok_X0_newStates, plainFor_of_name pn_EdgeWalk, rfl⟩
theorem mo_X0_feed : MOK 29 := ⟨ok_X0_feed, plainFor_of_name pn_EdgeWalk, rfl⟩
theorem mo_X0_put : MOK 30 := ⟨ok_X0_put, plainFor_of_name pn_EdgeWalk, rfl⟩
theorem mo_X0_end : MOK 31 := ⟨ok_X0_end, plainFor_of_name pn_EdgeWalk, rfl⟩
theorem mo_X0_sheet : MOK 32 := ⟨ok_X0_sheet, plainFor_of_name pn_EdgeWalk, rfl⟩
theorem mo_X0_in : MOK 33 := ⟨ok_X0_in, plainFor_of_name pn_EdgeWalk, rfl⟩
theorem mo_X0_fails : MOK 34 := ⟨ok_X0_fails, plainFor_of_name pn_EdgeWalk, rfl⟩
theorem mo_X0_rule : MOK 35 := ⟨ok_X0_rule, plainFor_of_name pn_EdgeWalk, rfl⟩
theorem mo_X0_force : MOK 36 := ⟨ok_X0_force, plainFor_of_name pn_EdgeWalk, rfl⟩
theorem mo_X0_goer : MOK 37 := ⟨ok_X0_goer, plainFor_of_name pn_EdgeWalk, rfl⟩
theorem mo_X0_isGoer : MOK 38 := ⟨ok_X0_isGoer, plainFor_of_name pn_EdgeWalk, rfl⟩
theorem mo_X0_join : MOK 39 := ⟨ok_X0_join, plainFor_of_name pn_EdgeWalk, rfl⟩
theorem mo_X0_isSheet : MOK 40 := ⟨ok_X0_isSheet, plainFor_of_name pn_EdgeWalk, rfl⟩
theorem mo_X0_stoneIn : MOK 41 := ⟨ok_X0_stoneIn, plainFor_of_name pn_EdgeWalk, rfl⟩
theorem mo_X0_isCell : MOK 42 := ⟨ok_X0_isCell, plainFor_of_name pn_EdgeWalk, rfl⟩
theorem mo_X0_bit : MOK 43 := ⟨ok_X0_bit, plainFor_of_name pn_EdgeWalk, rfl⟩
theorem mo_X0_undo : MOK 44 := ⟨ok_X0_undo, plainFor_of_name pn_EdgeWalk, rfl⟩
theorem mo_X0_step : MOK 45 := ⟨ok_X0_step, plainFor_of_name pn_EdgeWalk, rfl⟩
theorem mo_X0_keeps : MOK 46 := ⟨ok_X0_keeps, plainFor_of_name pn_EdgeWalk, rfl⟩
theorem mo_X0_goesOn : MOK 47 := ⟨ok_X0_goesOn, plainFor_of_name pn_EdgeWalk, rfl⟩
theorem mo_X0_turnOf : MOK 48 := ⟨ok_X0_turnOf, plainFor_of_name pn_EdgeWalk, rfl⟩
theorem mo_X0_those : MOK 49 := ⟨ok_X0_those, plainFor_of_name pn_EdgeWalk, rfl⟩
theorem mo_X0_give : MOK 50 := ⟨ok_X0_give, plainFor_of_name pn_EdgeWalk, rfl⟩
theorem mo_X0_way : MOK 51 := ⟨ok_X0_way, plainFor_of_name pn_EdgeWalk, rfl⟩
theorem mo_X0_stone : MOK 52 := ⟨ok_X0_stone, plainFor_of_name pn_EdgeWalk, rfl⟩
theorem mo_X0_fold : MOK 53 := ⟨ok_X0_fold, plainFor_of_name pn_EdgeWalk, rfl⟩
theorem mo_X0_ahead : MOK 54 := ⟨ok_X0_ahead, plainFor_of_name pn_EdgeWalk, rfl⟩
theorem mo_X0_goesTill : MOK 55 := ⟨ok_X0_goesTill, plainFor_of_name pn_EdgeWalk, rfl⟩
theorem mo_X0_home : MOK 56 := ⟨ok_X0_home, plainFor_of_name pn_EdgeWalk, rfl⟩
theorem mo_X0_gone : MOK 57 := ⟨ok_X0_gone, plainFor_of_name pn_EdgeWalk, rfl⟩
theorem mo_X0_leastFood : MOK 58 := ⟨ok_X0_leastFood, plainFor_of_name pn_EdgeWalk, rfl⟩
theorem mo_X0_meet : MOK 59 := ⟨ok_X0_meet, plainFor_of_name pn_EdgeWalk, rfl⟩
theorem mo_X0_seen : MOK 60 := ⟨ok_X0_seen, plainFor_of_name pn_EdgeWalk, rfl⟩
theorem mo_X0_longest : MOK 61 := ⟨ok_X0_longest, plainFor_of_name pn_EdgeWalk, rfl⟩
theorem mo_X0_shortest : MOK 62 := ⟨ok_X0_shortest, plainFor_of_name pn_EdgeWalk, rfl⟩
theorem mo_X0_comesNearer : MOK 63 := ⟨ok_X0_comesNearer, plainFor_of_name pn_EdgeWalk, rfl⟩
theorem mo_X0_bestFold : MOK 64 := ⟨ok_X0_bestFold, plainFor_of_name pn_EdgeWalk, rfl⟩
theorem mo_X0_tries : MOK 65 := ⟨ok_X0_tries, plainFor_of_name pn_EdgeWalk, rfl⟩
theorem mo_X0_isBetter : MOK 66 := ⟨ok_X0_isBetter, plainFor_of_name pn_EdgeWalk, rfl⟩
theorem mo_X0_bestStone : MOK 67 := ⟨ok_X0_bestStone, plainFor_of_name pn_EdgeWalk, rfl⟩
theorem mo_X0_rests : MOK 68 := ⟨ok_X0_rests, plainFor_of_name pn_EdgeWalk, rfl⟩
theorem mo_X0_laysFaces : MOK 69 := ⟨ok_X0_laysFaces, plainFor_of_name pn_EdgeWalk, rfl⟩
theorem mo_X0_has : MOK 70 := ⟨ok_X0_has, plainFor_of_name pn_EdgeWalk, rfl⟩
theorem mo_X0_isRest : MOK 71 := ⟨ok_X0_isRest, plainFor_of_name pn_EdgeWalk, rfl⟩
theorem mo_X0_ring : MOK 72 := ⟨ok_X0_ring, plainFor_of_name pn_EdgeWalk, rfl⟩
theorem mo_X0_laysAll : MOK 73 := ⟨ok_X0_laysAll, plainFor_of_name pn_EdgeWalk, rfl⟩
theorem mo_X0_areAlike : MOK 74 := ⟨ok_X0_areAlike, plainFor_of_name pn_EdgeWalk, rfl⟩
theorem mo_X0_bread : MOK 75 := ⟨ok_X0_bread, plainFor_of_name pn_EdgeWalk, rfl⟩
theorem mo_X0_shortOf : MOK 76 := ⟨ok_X0_shortOf, plainFor_of_name pn_EdgeWalk, rfl⟩
theorem mo_X0_note : MOK 77 := ⟨ok_X0_note, plainFor_of_name pn_EdgeWalk, rfl⟩
theorem mo_X0_ruled : MOK 78 := ⟨ok_X0_ruled, plainFor_of_name pn_EdgeWalk, rfl⟩
theorem mo_X0_couldRule : MOK 79 := ⟨ok_X0_couldRule, plainFor_of_name pn_EdgeWalk, rfl⟩
theorem mo_X0_doNotesFit : MOK 80 := ⟨ok_X0_doNotesFit, plainFor_of_name pn_EdgeWalk, rfl⟩
theorem mo_X0_cellThen : MOK 81 := ⟨ok_X0_cellThen, plainFor_of_name pn_EdgeWalk, rfl⟩
theorem mo_X0_look : MOK 82 := ⟨ok_X0_look, plainFor_of_name pn_EdgeWalk, rfl⟩
theorem mo_X0_mostAlike : MOK 83 := ⟨ok_X0_mostAlike, plainFor_of_name pn_EdgeWalk, rfl⟩
theorem mo_X0_folds : MOK 84 := ⟨ok_X0_folds, plainFor_of_name pn_EdgeWalk, rfl⟩
theorem mo_X0_couldFold : MOK 85 := ⟨ok_X0_couldFold, plainFor_of_name pn_EdgeWalk, rfl⟩
theorem mo_X0_seed : MOK 86 := ⟨ok_X0_seed, plainFor_of_name pn_EdgeWalk, rfl⟩
theorem mo_X0_gusts : MOK 87 := ⟨ok_X0_gusts, plainFor_of_name pn_EdgeWalk, rfl⟩
theorem mo_X0_drawsGust : MOK 88 := ⟨ok_X0_drawsGust, plainFor_of_name pn_EdgeWalk, rfl⟩
theorem mo_X0_draws : MOK 89 := ⟨ok_X0_draws, plainFor_of_name pn_EdgeWalk, rfl⟩
theorem mo_X0_count : MOK 90 := ⟨ok_X0_count, plainFor_of_name pn_EdgeWalk, rfl⟩
theorem mo_X0_image : MOK 91 := ⟨ok_X0_image, plainFor_of_name pn_EdgeWalk, rfl⟩
theorem mo_X0_back : MOK 92 := ⟨ok_X0_back, plainFor_of_name pn_EdgeWalk, rfl⟩
theorem mo_X1_init : MOK 93 := ⟨ok_X1_init, plainFor_of_name pn_EdgeWalk_Sheet, rfl⟩
theorem mo_X1_goers : MOK 94 := ⟨ok_X1_goers, plainFor_of_name pn_EdgeWalk_Sheet, rfl⟩
theorem mo_X1_cells : MOK 95 := ⟨ok_X1_cells, plainFor_of_name pn_EdgeWalk_Sheet, rfl⟩
theorem mo_X1_cellAt : MOK 96 := ⟨ok_X1_cellAt, plainFor_of_name pn_EdgeWalk_Sheet, rfl⟩
theorem mo_X1_margin : MOK 97 := ⟨ok_X1_margin, plainFor_of_name pn_EdgeWalk_Sheet, rfl⟩
theorem mo_X1_next : MOK 98 := ⟨ok_X1_next, plainFor_of_name pn_EdgeWalk_Sheet, rfl⟩
theorem mo_X1_placeAlong : MOK 99 := ⟨ok_X1_placeAlong, plainFor_of_name pn_EdgeWalk_Sheet, rfl⟩
theorem mo_X2_init : MOK 100 := ⟨ok_X2_init, plainFor_of_name pn_EdgeWalk_State, rfl⟩
theorem mo_X2_begin : MOK 101 := ⟨ok_X2_begin, plainFor_of_name pn_EdgeWalk_State, rfl⟩
theorem mo_X2_isStone : MOK 102 := ⟨ok_X2_isStone, plainFor_of_name pn_EdgeWalk_State, rfl⟩
theorem mo_X2_copyFrom : MOK 103 := ⟨ok_X2_copyFrom, plainFor_of_name pn_EdgeWalk_State, rfl⟩
theorem mo_X2_isOut : MOK 104 := ⟨ok_X2_isOut, plainFor_of_name pn_EdgeWalk_State, rfl⟩
theorem mo_X2_othersWith : MOK 105 := ⟨ok_X2_othersWith, plainFor_of_name pn_EdgeWalk_State, rfl⟩
theorem mo_X2_goesOn : MOK 106 := ⟨ok_X2_goesOn, plainFor_of_name pn_EdgeWalk_State, rfl⟩
theorem mo_X2_those : MOK 107 := ⟨ok_X2_those, plainFor_of_name pn_EdgeWalk_State, rfl⟩
theorem mo_X2_allFood : MOK 108 := ⟨ok_X2_allFood, plainFor_of_name pn_EdgeWalk_State, rfl⟩
theorem mo_X4_init : MOK 109 := ⟨ok_X4_init, plainFor_of_name pn_EdgeWalkModel, rfl⟩
theorem mo_X4_feed : MOK 110 := ⟨ok_X4_feed, plainFor_of_name pn_EdgeWalkModel, rfl⟩
theorem mo_X4_four : MOK 111 := ⟨ok_X4_four, plainFor_of_name pn_EdgeWalkModel, rfl⟩
theorem mo_X4_end : MOK 112 := ⟨ok_X4_end, plainFor_of_name pn_EdgeWalkModel, rfl⟩
theorem mo_X4_rule : MOK 113 := ⟨ok_X4_rule, plainFor_of_name pn_EdgeWalkModel, rfl⟩
theorem mo_X4_readsAll : MOK 114 := ⟨ok_X4_readsAll, plainFor_of_name pn_EdgeWalkModel, rfl⟩
theorem mo_X4_clauseHere : MOK 115 := ⟨ok_X4_clauseHere, plainFor_of_name pn_EdgeWalkModel, rfl⟩
theorem mo_X4_see : MOK 116 := ⟨ok_X4_see, plainFor_of_name pn_EdgeWalkModel, rfl⟩
theorem mo_X4_isSheetWord : MOK 117 := ⟨ok_X4_isSheetWord, plainFor_of_name pn_EdgeWalkModel, rfl⟩
theorem mo_X4_isWord : MOK 118 := ⟨ok_X4_isWord, plainFor_of_name pn_EdgeWalkModel, rfl⟩
theorem mo_X4_isLetter : MOK 119 := ⟨ok_X4_isLetter, plainFor_of_name pn_EdgeWalkModel, rfl⟩
theorem mo_X4_fails : MOK 120 := ⟨ok_X4_fails, plainFor_of_name pn_EdgeWalkModel, rfl⟩
theorem mo_X4_sheetLineHere : MOK 121 := ⟨ok_X4_sheetLineHere, plainFor_of_name pn_EdgeWalkModel, rfl⟩
theorem mo_X4_isSheetHere : MOK 122 := ⟨ok_X4_isSheetHere, plainFor_of_name pn_EdgeWalkModel, rfl⟩
theorem mo_X4_passWord : MOK 123 := ⟨ok_X4_passWord, plainFor_of_name pn_EdgeWalkModel, rfl⟩
theorem mo_X4_cellHere : MOK 124 := ⟨ok_X4_cellHere, plainFor_of_name pn_EdgeWalkModel, rfl⟩
theorem mo_X4_numberHere : MOK 125 := ⟨ok_X4_numberHere, plainFor_of_name pn_EdgeWalkModel, rfl⟩
theorem mo_X4_isDigit : MOK 126 := ⟨ok_X4_isDigit, plainFor_of_name pn_EdgeWalkModel, rfl⟩
theorem mo_X4_in : MOK 127 := ⟨ok_X4_in, plainFor_of_name pn_EdgeWalkModel, rfl⟩
theorem mo_X4_isGoerHere : MOK 128 := ⟨ok_X4_isGoerHere, plainFor_of_name pn_EdgeWalkModel, rfl⟩
theorem mo_X4_lastCell : MOK 129 := ⟨ok_X4_lastCell, plainFor_of_name pn_EdgeWalkModel, rfl⟩
theorem mo_X4_isJoinHere : MOK 130 := ⟨ok_X4_isJoinHere, plainFor_of_name pn_EdgeWalkModel, rfl⟩
theorem mo_X4_isStoneHere : MOK 131 := ⟨ok_X4_isStoneHere, plainFor_of_name pn_EdgeWalkModel, rfl⟩
theorem mo_X4_isTurnHere : MOK 132 := ⟨ok_X4_isTurnHere, plainFor_of_name pn_EdgeWalkModel, rfl⟩
theorem mo_X4_sum : MOK 133 := ⟨ok_X4_sum, plainFor_of_name pn_EdgeWalkModel, rfl⟩
theorem mo_X4_term : MOK 134 := ⟨ok_X4_term, plainFor_of_name pn_EdgeWalkModel, rfl⟩
theorem mo_X4_value : MOK 135 := ⟨ok_X4_value, plainFor_of_name pn_EdgeWalkModel, rfl⟩
theorem mo_X4_makes : MOK 136 := ⟨ok_X4_makes, plainFor_of_name pn_EdgeWalkModel, rfl⟩
theorem mo_X4_puts : MOK 137 := ⟨ok_X4_puts, plainFor_of_name pn_EdgeWalkModel, rfl⟩
theorem mo_X4_wordHere : MOK 138 := ⟨ok_X4_wordHere, plainFor_of_name pn_EdgeWalkModel, rfl⟩
theorem mo_X4_takesWord : MOK 139 := ⟨ok_X4_takesWord, plainFor_of_name pn_EdgeWalkModel, rfl⟩
theorem mo_X4_tested : MOK 140 := ⟨ok_X4_tested, plainFor_of_name pn_EdgeWalkModel, rfl⟩
theorem mo_X4_fact : MOK 141 := ⟨ok_X4_fact, plainFor_of_name pn_EdgeWalkModel, rfl⟩
theorem mo_X4_opens : MOK 142 := ⟨ok_X4_opens, plainFor_of_name pn_EdgeWalkModel, rfl⟩
theorem mo_X4_compare : MOK 143 := ⟨ok_X4_compare, plainFor_of_name pn_EdgeWalkModel, rfl⟩
theorem mo_X4_closes : MOK 144 := ⟨ok_X4_closes, plainFor_of_name pn_EdgeWalkModel, rfl⟩
theorem mo_X4_layDown : MOK 145 := ⟨ok_X4_layDown, plainFor_of_name pn_EdgeWalkModel, rfl⟩
theorem mo_X4_strength : MOK 146 := ⟨ok_X4_strength, plainFor_of_name pn_EdgeWalkModel, rfl⟩
theorem mo_X4_isInside : MOK 147 := ⟨ok_X4_isInside, plainFor_of_name pn_EdgeWalkModel, rfl⟩
theorem mo_X4_sheet : MOK 148 := ⟨ok_X4_sheet, plainFor_of_name pn_EdgeWalkModel, rfl⟩
theorem mo_X4_begins : MOK 149 := ⟨ok_X4_begins, plainFor_of_name pn_EdgeWalkModel, rfl⟩
theorem mo_X4_force : MOK 150 := ⟨ok_X4_force, plainFor_of_name pn_EdgeWalkModel, rfl⟩
theorem mo_X4_isRule : MOK 151 := ⟨ok_X4_isRule, plainFor_of_name pn_EdgeWalkModel, rfl⟩
theorem mo_X4_goer : MOK 152 := ⟨ok_X4_goer, plainFor_of_name pn_EdgeWalkModel, rfl⟩
theorem mo_X4_isGoer : MOK 153 := ⟨ok_X4_isGoer, plainFor_of_name pn_EdgeWalkModel, rfl⟩
theorem mo_X4_isOn : MOK 154 := ⟨ok_X4_isOn, plainFor_of_name pn_EdgeWalkModel, rfl⟩
theorem mo_X4_statusOf : MOK 155 := ⟨ok_X4_statusOf, plainFor_of_name pn_EdgeWalkModel, rfl⟩
theorem mo_X4_cellOf : MOK 156 := ⟨ok_X4_cellOf, plainFor_of_name pn_EdgeWalkModel, rfl⟩
theorem mo_X4_facesOf : MOK 157 := ⟨ok_X4_facesOf, plainFor_of_name pn_EdgeWalkModel, rfl⟩
theorem mo_X4_foodOf : MOK 158 := ⟨ok_X4_foodOf, plainFor_of_name pn_EdgeWalkModel, rfl⟩
theorem mo_X4_join : MOK 159 := ⟨ok_X4_join, plainFor_of_name pn_EdgeWalkModel, rfl⟩
theorem mo_X4_isEdge : MOK 160 := ⟨ok_X4_isEdge, plainFor_of_name pn_EdgeWalkModel, rfl⟩
theorem mo_X4_isSheet : MOK 161 := ⟨ok_X4_isSheet, plainFor_of_name pn_EdgeWalkModel, rfl⟩
theorem mo_X4_stoneIn : MOK 162 := ⟨ok_X4_stoneIn, plainFor_of_name pn_EdgeWalkModel, rfl⟩
theorem mo_X4_isCell : MOK 163 := ⟨ok_X4_isCell, plainFor_of_name pn_EdgeWalkModel, rfl⟩
theorem mo_X4_cells : MOK 164 := ⟨ok_X4_cells, plainFor_of_name pn_EdgeWalkModel, rfl⟩
theorem mo_X4_undo : MOK 165 := ⟨ok_X4_undo, plainFor_of_name pn_EdgeWalkModel, rfl⟩
theorem mo_X4_step : MOK 166 := ⟨ok_X4_step, plainFor_of_name pn_EdgeWalkModel, rfl⟩
theorem mo_X4_keepsAct : MOK 167 := ⟨ok_X4_keepsAct, plainFor_of_name pn_EdgeWalkModel, rfl⟩
theorem mo_X4_passes : MOK 168 := ⟨ok_X4_passes, plainFor_of_name pn_EdgeWalkModel, rfl⟩
theorem mo_X4_walks : MOK 169 := ⟨ok_X4_walks, plainFor_of_name pn_EdgeWalkModel, rfl⟩
theorem mo_X4_quartersOf : MOK 170 := ⟨ok_X4_quartersOf, plainFor_of_name pn_EdgeWalkModel, rfl⟩
theorem mo_X4_nextOf : MOK 171 := ⟨ok_X4_nextOf, plainFor_of_name pn_EdgeWalkModel, rfl⟩
theorem mo_X4_marginOf : MOK 172 := ⟨ok_X4_marginOf, plainFor_of_name pn_EdgeWalkModel, rfl⟩
theorem mo_X4_isStone : MOK 173 := ⟨ok_X4_isStone, plainFor_of_name pn_EdgeWalkModel, rfl⟩
theorem mo_X4_summedBy : MOK 174 := ⟨ok_X4_summedBy, plainFor_of_name pn_EdgeWalkModel, rfl⟩
theorem mo_X4_reckons : MOK 175 := ⟨ok_X4_reckons, plainFor_of_name pn_EdgeWalkModel, rfl⟩
theorem mo_X4_push : MOK 176 := ⟨ok_X4_push, plainFor_of_name pn_EdgeWalkModel, rfl⟩
theorem mo_X4_pop : MOK 177 := ⟨ok_X4_pop, plainFor_of_name pn_EdgeWalkModel, rfl⟩
theorem mo_X4_one : MOK 178 := ⟨ok_X4_one, plainFor_of_name pn_EdgeWalkModel, rfl⟩
theorem mo_X4_placeAlong : MOK 179 := ⟨ok_X4_placeAlong, plainFor_of_name pn_EdgeWalkModel, rfl⟩
theorem mo_X4_goesOut : MOK 180 := ⟨ok_X4_goesOut, plainFor_of_name pn_EdgeWalkModel, rfl⟩
theorem mo_X4_comesOn : MOK 181 := ⟨ok_X4_comesOn, plainFor_of_name pn_EdgeWalkModel, rfl⟩
theorem mo_X4_cellAt : MOK 182 := ⟨ok_X4_cellAt, plainFor_of_name pn_EdgeWalkModel, rfl⟩
theorem mo_X4_onesWhoAre : MOK 183 := ⟨ok_X4_onesWhoAre, plainFor_of_name pn_EdgeWalkModel, rfl⟩
theorem mo_X4_give : MOK 184 := ⟨ok_X4_give, plainFor_of_name pn_EdgeWalkModel, rfl⟩
theorem mo_X4_way : MOK 185 := ⟨ok_X4_way, plainFor_of_name pn_EdgeWalkModel, rfl⟩
theorem mo_X4_stone : MOK 186 := ⟨ok_X4_stone, plainFor_of_name pn_EdgeWalkModel, rfl⟩
theorem mo_X4_fold : MOK 187 := ⟨ok_X4_fold, plainFor_of_name pn_EdgeWalkModel, rfl⟩
theorem mo_X4_ahead : MOK 188 := ⟨ok_X4_ahead, plainFor_of_name pn_EdgeWalkModel, rfl⟩
theorem mo_X4_keeps : MOK 189 := ⟨ok_X4_keeps, plainFor_of_name pn_EdgeWalkModel, rfl⟩
theorem mo_X4_passesAll : MOK 190 := ⟨ok_X4_passesAll, plainFor_of_name pn_EdgeWalkModel, rfl⟩
theorem mo_X4_laysBack : MOK 191 := ⟨ok_X4_laysBack, plainFor_of_name pn_EdgeWalkModel, rfl⟩
theorem mo_X4_home : MOK 192 := ⟨ok_X4_home, plainFor_of_name pn_EdgeWalkModel, rfl⟩
theorem mo_X4_gone : MOK 193 := ⟨ok_X4_gone, plainFor_of_name pn_EdgeWalkModel, rfl⟩
theorem mo_X4_leastFood : MOK 194 := ⟨ok_X4_leastFood, plainFor_of_name pn_EdgeWalkModel, rfl⟩
theorem mo_X4_meet : MOK 195 := ⟨ok_X4_meet, plainFor_of_name pn_EdgeWalkModel, rfl⟩
theorem mo_X4_shortest : MOK 196 := ⟨ok_X4_shortest, plainFor_of_name pn_EdgeWalkModel, rfl⟩
theorem mo_X4_goesFrom : MOK 197 := ⟨ok_X4_goesFrom, plainFor_of_name pn_EdgeWalkModel, rfl⟩
theorem mo_X4_nears : MOK 198 := ⟨ok_X4_nears, plainFor_of_name pn_EdgeWalkModel, rfl⟩
theorem mo_X4_seen : MOK 199 := ⟨ok_X4_seen, plainFor_of_name pn_EdgeWalkModel, rfl⟩
theorem mo_X4_longest : MOK 200 := ⟨ok_X4_longest, plainFor_of_name pn_EdgeWalkModel, rfl⟩
theorem mo_X4_bestFold : MOK 201 := ⟨ok_X4_bestFold, plainFor_of_name pn_EdgeWalkModel, rfl⟩
theorem mo_X4_weighs : MOK 202 := ⟨ok_X4_weighs, plainFor_of_name pn_EdgeWalkModel, rfl⟩
theorem mo_X4_bits : MOK 203 := ⟨ok_X4_bits, plainFor_of_name pn_EdgeWalkModel, rfl⟩
theorem mo_X4_foodAll : MOK 204 := ⟨ok_X4_foodAll, plainFor_of_name pn_EdgeWalkModel, rfl⟩
theorem mo_X4_bestStone : MOK 205 := ⟨ok_X4_bestStone, plainFor_of_name pn_EdgeWalkModel, rfl⟩
theorem mo_X4_rests : MOK 206 := ⟨ok_X4_rests, plainFor_of_name pn_EdgeWalkModel, rfl⟩
theorem mo_X4_isRest : MOK 207 := ⟨ok_X4_isRest, plainFor_of_name pn_EdgeWalkModel, rfl⟩
theorem mo_X4_ring : MOK 208 := ⟨ok_X4_ring, plainFor_of_name pn_EdgeWalkModel, rfl⟩
theorem mo_X4_whereOf : MOK 209 := ⟨ok_X4_whereOf, plainFor_of_name pn_EdgeWalkModel, rfl⟩
theorem mo_X4_areAlike : MOK 210 := ⟨ok_X4_areAlike, plainFor_of_name pn_EdgeWalkModel, rfl⟩
theorem mo_X4_bread : MOK 211 := ⟨ok_X4_bread, plainFor_of_name pn_EdgeWalkModel, rfl⟩
theorem mo_X4_shortOf : MOK 212 := ⟨ok_X4_shortOf, plainFor_of_name pn_EdgeWalkModel, rfl⟩
theorem mo_X4_note : MOK 213 := ⟨ok_X4_note, plainFor_of_name pn_EdgeWalkModel, rfl⟩
theorem mo_X4_ruled : MOK 214 := ⟨ok_X4_ruled, plainFor_of_name pn_EdgeWalkModel, rfl⟩
theorem mo_X4_fillsFits : MOK 215 := ⟨ok_X4_fillsFits, plainFor_of_name pn_EdgeWalkModel, rfl⟩
theorem mo_X4_areAllSo : MOK 216 := ⟨ok_X4_areAllSo, plainFor_of_name pn_EdgeWalkModel, rfl⟩
theorem mo_X4_areNotesSo : MOK 217 := ⟨ok_X4_areNotesSo, plainFor_of_name pn_EdgeWalkModel, rfl⟩
theorem mo_X4_cellOn : MOK 218 := ⟨ok_X4_cellOn, plainFor_of_name pn_EdgeWalkModel, rfl⟩
theorem mo_X4_look : MOK 219 := ⟨ok_X4_look, plainFor_of_name pn_EdgeWalkModel, rfl⟩
theorem mo_X4_alikeAt : MOK 220 := ⟨ok_X4_alikeAt, plainFor_of_name pn_EdgeWalkModel, rfl⟩
theorem mo_X4_folds : MOK 221 := ⟨ok_X4_folds, plainFor_of_name pn_EdgeWalkModel, rfl⟩
theorem mo_X4_seed : MOK 222 := ⟨ok_X4_seed, plainFor_of_name pn_EdgeWalkModel, rfl⟩
theorem mo_X4_gusts : MOK 223 := ⟨ok_X4_gusts, plainFor_of_name pn_EdgeWalkModel, rfl⟩
theorem mo_X4_draw : MOK 224 := ⟨ok_X4_draw, plainFor_of_name pn_EdgeWalkModel, rfl⟩
theorem mo_X4_blows : MOK 225 := ⟨ok_X4_blows, plainFor_of_name pn_EdgeWalkModel, rfl⟩
theorem mo_X4_count : MOK 226 := ⟨ok_X4_count, plainFor_of_name pn_EdgeWalkModel, rfl⟩
theorem mo_X4_image : MOK 227 := ⟨ok_X4_image, plainFor_of_name pn_EdgeWalkModel, rfl⟩
theorem mo_X4_back : MOK 228 := ⟨ok_X4_back, plainFor_of_name pn_EdgeWalkModel, rfl⟩
theorem mo_X5_init : MOK 229 := ⟨ok_X5_init, plainFor_of_name pn_EdgeWalk_Parser, rfl⟩
theorem mo_X5_sheet : MOK 230 := ⟨ok_X5_sheet, plainFor_of_name pn_EdgeWalk_Parser, rfl⟩
theorem mo_X5_clause : MOK 231 := ⟨ok_X5_clause, plainFor_of_name pn_EdgeWalk_Parser, rfl⟩
theorem mo_X5_begins : MOK 232 := ⟨ok_X5_begins, plainFor_of_name pn_EdgeWalk_Parser, rfl⟩
theorem mo_X5_isWord : MOK 233 := ⟨ok_X5_isWord, plainFor_of_name pn_EdgeWalk_Parser, rfl⟩
theorem mo_X5_next : MOK 234 := ⟨ok_X5_next, plainFor_of_name pn_EdgeWalk_Parser, rfl⟩
theorem mo_X5_sign : MOK 235 := ⟨ok_X5_sign, plainFor_of_name pn_EdgeWalk_Parser, rfl⟩
theorem mo_X5_number : MOK 236 := ⟨ok_X5_number, plainFor_of_name pn_EdgeWalk_Parser, rfl⟩
theorem mo_X5_isDigit : MOK 237 := ⟨ok_X5_isDigit, plainFor_of_name pn_EdgeWalk_Parser, rfl⟩
theorem mo_X5_goer : MOK 238 := ⟨ok_X5_goer, plainFor_of_name pn_EdgeWalk_Parser, rfl⟩
theorem mo_X5_join : MOK 239 := ⟨ok_X5_join, plainFor_of_name pn_EdgeWalk_Parser, rfl⟩
theorem mo_X5_goesOn : MOK 240 := ⟨ok_X5_goesOn, plainFor_of_name pn_EdgeWalk_Parser, rfl⟩
theorem mo_X5_rule : MOK 241 := ⟨ok_X5_rule, plainFor_of_name pn_EdgeWalk_Parser, rfl⟩
theorem mo_X5_clause_2 : MOK 242 := ⟨ok_X5_clause_2, plainFor_of_name pn_EdgeWalk_Parser, rfl⟩
theorem mo_X5_sum : MOK 243 := ⟨ok_X5_sum, plainFor_of_name pn_EdgeWalk_Parser, rfl⟩
theorem mo_X5_term : MOK 244 := ⟨ok_X5_term, plainFor_of_name pn_EdgeWalk_Parser, rfl⟩
theorem mo_X5_value : MOK 245 := ⟨ok_X5_value, plainFor_of_name pn_EdgeWalk_Parser, rfl⟩
theorem mo_X5_counts : MOK 246 := ⟨ok_X5_counts, plainFor_of_name pn_EdgeWalk_Parser, rfl⟩
theorem mo_X5_takes : MOK 247 := ⟨ok_X5_takes, plainFor_of_name pn_EdgeWalk_Parser, rfl⟩
theorem mo_X5_test : MOK 248 := ⟨ok_X5_test, plainFor_of_name pn_EdgeWalk_Parser, rfl⟩
theorem mo_X5_part : MOK 249 := ⟨ok_X5_part, plainFor_of_name pn_EdgeWalk_Parser, rfl⟩
theorem mo_X5_fact : MOK 250 := ⟨ok_X5_fact, plainFor_of_name pn_EdgeWalk_Parser, rfl⟩
theorem mo_X5_goesDeeper : MOK 251 := ⟨ok_X5_goesDeeper, plainFor_of_name pn_EdgeWalk_Parser, rfl⟩
theorem mo_X6_init : MOK 252 := ⟨ok_X6_init, plainFor_of_name pn_EdgeWalk_Goer, rfl⟩
theorem mo_X7_init : MOK 253 := ⟨ok_X7_init, plainFor_of_name pn_EdgeWalk_Rule, rfl⟩
theorem mo_X7_turns : MOK 254 := ⟨ok_X7_turns, plainFor_of_name pn_EdgeWalk_Rule, rfl⟩
theorem mo_X8_init : MOK 255 := ⟨ok_X8_init, plainFor_of_name pn_EdgeWalk_Value, rfl⟩
theorem mo_X9_init : MOK 256 := ⟨ok_X9_init, plainFor_of_name pn_EdgeWalk_Plain, rfl⟩
theorem mo_X9_of : MOK 257 := ⟨ok_X9_of, plainFor_of_name pn_EdgeWalk_Plain, rfl⟩
theorem mo_X10_init : MOK 258 := ⟨ok_X10_init, plainFor_of_name pn_EdgeWalk_Asked, rfl⟩
theorem mo_X10_of : MOK 259 := ⟨ok_X10_of, plainFor_of_name pn_EdgeWalk_Asked, rfl⟩
theorem mo_X11_init : MOK 260 := ⟨ok_X11_init, plainFor_of_name pn_EdgeWalk_Joined, rfl⟩
theorem mo_X11_of : MOK 261 := ⟨ok_X11_of, plainFor_of_name pn_EdgeWalk_Joined, rfl⟩
theorem mo_X12_init : MOK 262 := ⟨ok_X12_init, plainFor_of_name pn_EdgeWalk_Told, rfl⟩
theorem mo_X12_holds : MOK 263 := ⟨ok_X12_holds, plainFor_of_name pn_EdgeWalk_Told, rfl⟩
theorem mo_X13_init : MOK 264 := ⟨ok_X13_init, plainFor_of_name pn_EdgeWalk_Condition, rfl⟩
theorem mo_X14_init : MOK 265 := ⟨ok_X14_init, plainFor_of_name pn_EdgeWalk_Not, rfl⟩
theorem mo_X14_is : MOK 266 := ⟨ok_X14_is, plainFor_of_name pn_EdgeWalk_Not, rfl⟩
theorem mo_X15_init : MOK 267 := ⟨ok_X15_init, plainFor_of_name pn_EdgeWalk_Compared, rfl⟩
theorem mo_X15_is : MOK 268 := ⟨ok_X15_is, plainFor_of_name pn_EdgeWalk_Compared, rfl⟩
theorem mo_X16_init : MOK 269 := ⟨ok_X16_init, plainFor_of_name pn_EdgeWalk_Both, rfl⟩
theorem mo_X16_is : MOK 270 := ⟨ok_X16_is, plainFor_of_name pn_EdgeWalk_Both, rfl⟩
theorem mo_X17_init : MOK 271 := ⟨ok_X17_init, plainFor_of_name pn_EdgeWalk_Image, rfl⟩
theorem mo_X17_keep : MOK 272 := ⟨ok_X17_keep, plainFor_of_name pn_EdgeWalk_Image, rfl⟩
theorem mo_X17_back : MOK 273 := ⟨ok_X17_back, plainFor_of_name pn_EdgeWalk_Image, rfl⟩
theorem mo_L_law : MOK 274 := ⟨ok_L_law, plainFor_of_name pn_EdgeWalkLaw, rfl⟩
theorem all_ok : ∀ j, j < NJ → MOK j := fun j h => (spl (b := 137) (spl (b := 68) (spl (b := 34) (spl (b := 17) (spl (b := 8) (spl (b := 4) (spl (b := 2) (spl (b := 1) (sp1 mo_J0_init) (sp1 mo_J1_init)) (spl (b := 3) (sp1 mo_J2_init) (sp1 mo_J2_size))) (spl (b := 6) (spl (b := 5) (sp1 mo_J2_add) (sp1 mo_J2_add_2)) (spl (b := 7) (sp1 mo_J2_grow) (sp1 mo_J2_grow_2)))) (spl (b := 12) (spl (b := 10) (spl (b := 9) (sp1 mo_J2_get) (sp1 mo_J2_elementData)) (spl (b := 11) (sp1 mo_J5_length) (sp1 mo_J5_coder))) (spl (b := 14) (spl (b := 13) (sp1 mo_J5_charAt) (sp1 mo_J5_isLatin1)) (spl (b := 15) (sp1 mo_J5_checkIndex) (spl (b := 16) (sp1 mo_J6_charAt) (sp1 mo_J7_checkIndex)))))) (spl (b := 25) (spl (b := 21) (spl (b := 19) (spl (b := 18) (sp1 mo_J9_init) (sp1 mo_J10_newLength)) (spl (b := 20) (sp1 mo_J11_max) (sp1 mo_J11_min))) (spl (b := 23) (spl (b := 22) (sp1 mo_J11_floorMod) (sp1 mo_J12_copyOf)) (spl (b := 24) (sp1 mo_J12_copyOf_2) (sp1 mo_J13_checkIndex)))) (spl (b := 29) (spl (b := 27) (spl (b := 26) (sp1 mo_J14_bitCount) (sp1 mo_J15_bitCount)) (spl (b := 28) (sp1 mo_X0_init) (sp1 mo_X0_newStates))) (spl (b := 31) (spl (b := 30) (sp1 mo_X0_feed) (sp1 mo_X0_put)) (spl (b := 32) (sp1 mo_X0_end) (spl (b := 33) (sp1 mo_X0_sheet) (sp1 mo_X0_in))))))) (spl (b := 51) (spl (b := 42) (spl (b := 38) (spl (b := 36) (spl (b := 35) (sp1 mo_X0_fails) (sp1 mo_X0_rule)) (spl (b := 37) (sp1 mo_X0_force) (sp1 mo_X0_goer))) (spl (b := 40) (spl (b := 39) (sp1 mo_X0_isGoer) (sp1 mo_X0_join)) (spl (b := 41) (sp1 mo_X0_isSheet) (sp1 mo_X0_stoneIn)))) (spl (b := 46) (spl (b := 44) (spl (b := 43) (sp1 mo_X0_isCell) (sp1 mo_X0_bit)) (spl (b := 45) (sp1 mo_X0_undo) (sp1 mo_X0_step))) (spl (b := 48) (spl (b := 47) (sp1 mo_X0_keeps) (sp1 mo_X0_goesOn)) (spl (b := 49) (sp1 mo_X0_turnOf) (spl (b := 50) (sp1 mo_X0_those) (sp1 mo_X0_give)))))) (spl (b := 59) (spl (b := 55) (spl (b := 53) (spl (b := 52) (sp1 mo_X0_way) (sp1 mo_X0_stone)) (spl (b := 54) (sp1 mo_X0_fold) (sp1 mo_X0_ahead))) (spl (b := 57) (spl (b := 56) (sp1 mo_X0_goesTill) (sp1 mo_X0_home)) (spl (b := 58) (sp1 mo_X0_gone) (sp1 mo_X0_leastFood)))) (spl (b := 63) (spl (b := 61) (spl (b := 60) (sp1 mo_X0_meet) (sp1 mo_X0_seen)) (spl (b := 62) (sp1 mo_X0_longest) (sp1 mo_X0_shortest))) (spl (b := 65) (spl (b := 64) (sp1 mo_X0_comesNearer) (sp1 mo_X0_bestFold)) (spl (b := 66) (sp1 mo_X0_tries) (spl (b := 67) (sp1 mo_X0_isBetter) (sp1 mo_X0_bestStone)))))))) (spl (b := 102) (spl (b := 85) (spl (b := 76) (spl (b := 72) (spl (b := 70) (spl (b := 69) (sp1 mo_X0_rests) (sp1 mo_X0_laysFaces)) (spl (b := 71) (sp1 mo_X0_has) (sp1 mo_X0_isRest))) (spl (b := 74) (spl (b := 73) (sp1 mo_X0_ring) (sp1 mo_X0_laysAll)) (spl (b := 75) (sp1 mo_X0_areAlike) (sp1 mo_X0_bread)))) (spl (b := 80) (spl (b := 78) (spl (b := 77) (sp1 mo_X0_shortOf) (sp1 mo_X0_note)) (spl (b := 79) (sp1 mo_X0_ruled) (sp1 mo_X0_couldRule))) (spl (b := 82) (spl (b := 81) (sp1 mo_X0_doNotesFit) (sp1 mo_X0_cellThen)) (spl (b := 83) (sp1 mo_X0_look) (spl (b := 84) (sp1 mo_X0_mostAlike) (sp1 mo_X0_folds)))))) (spl (b := 93) (spl (b := 89) (spl (b := 87) (spl (b := 86) (sp1 mo_X0_couldFold) (sp1 mo_X0_seed)) (spl (b := 88) (sp1 mo_X0_gusts) (sp1 mo_X0_drawsGust))) (spl (b := 91) (spl (b := 90) (sp1 mo_X0_draws) (sp1 mo_X0_count)) (spl (b := 92) (sp1 mo_X0_image) (sp1 mo_X0_back)))) (spl (b := 97) (spl (b := 95) (spl (b := 94) (sp1 mo_X1_init) (sp1 mo_X1_goers)) (spl (b := 96) (sp1 mo_X1_cells) (sp1 mo_X1_cellAt))) (spl (b := 99) (spl (b := 98) (sp1 mo_X1_margin) (sp1 mo_X1_next)) (spl (b := 100) (sp1 mo_X1_placeAlong) (spl (b := 101) (sp1 mo_X2_init) (sp1 mo_X2_begin))))))) (spl (b := 119) (spl (b := 110) (spl (b := 106) (spl (b := 104) (spl (b := 103) (sp1 mo_X2_isStone) (sp1 mo_X2_copyFrom)) (spl (b := 105) (sp1 mo_X2_isOut) (sp1 mo_X2_othersWith))) (spl (b := 108) (spl (b := 107) (sp1 mo_X2_goesOn) (sp1 mo_X2_those)) (spl (b := 109) (sp1 mo_X2_allFood) (sp1 mo_X4_init)))) (spl (b := 114) (spl (b := 112) (spl (b := 111) (sp1 mo_X4_feed) (sp1 mo_X4_four)) (spl (b := 113) (sp1 mo_X4_end) (sp1 mo_X4_rule))) (spl (b := 116) (spl (b := 115) (sp1 mo_X4_readsAll) (sp1 mo_X4_clauseHere)) (spl (b := 117) (sp1 mo_X4_see) (spl (b := 118) (sp1 mo_X4_isSheetWord) (sp1 mo_X4_isWord)))))) (spl (b := 128) (spl (b := 123) (spl (b := 121) (spl (b := 120) (sp1 mo_X4_isLetter) (sp1 mo_X4_fails)) (spl (b := 122) (sp1 mo_X4_sheetLineHere) (sp1 mo_X4_isSheetHere))) (spl (b := 125) (spl (b := 124) (sp1 mo_X4_passWord) (sp1 mo_X4_cellHere)) (spl (b := 126) (sp1 mo_X4_numberHere) (spl (b := 127) (sp1 mo_X4_isDigit) (sp1 mo_X4_in))))) (spl (b := 132) (spl (b := 130) (spl (b := 129) (sp1 mo_X4_isGoerHere) (sp1 mo_X4_lastCell)) (spl (b := 131) (sp1 mo_X4_isJoinHere) (sp1 mo_X4_isStoneHere))) (spl (b := 134) (spl (b := 133) (sp1 mo_X4_isTurnHere) (sp1 mo_X4_sum)) (spl (b := 135) (sp1 mo_X4_term) (spl (b := 136) (sp1 mo_X4_value) (sp1 mo_X4_makes))))))))) (spl (b := 205) (spl (b := 171) (spl (b := 154) (spl (b := 145) (spl (b := 141) (spl (b := 139) (spl (b := 138) (sp1 mo_X4_puts) (sp1 mo_X4_wordHere)) (spl (b := 140) (sp1 mo_X4_takesWord) (sp1 mo_X4_tested))) (spl (b := 143) (spl (b := 142) (sp1 mo_X4_fact) (sp1 mo_X4_opens)) (spl (b := 144) (sp1 mo_X4_compare) (sp1 mo_X4_closes)))) (spl (b := 149) (spl (b := 147) (spl (b := 146) (sp1 mo_X4_layDown) (sp1 mo_X4_strength)) (spl (b := 148) (sp1 mo_X4_isInside) (sp1 mo_X4_sheet))) (spl (b := 151) (spl (b := 150) (sp1 mo_X4_begins) (sp1 mo_X4_force)) (spl (b := 152) (sp1 mo_X4_isRule) (spl (b := 153) (sp1 mo_X4_goer) (sp1 mo_X4_isGoer)))))) (spl (b := 162) (spl (b := 158) (spl (b := 156) (spl (b := 155) (sp1 mo_X4_isOn) (sp1 mo_X4_statusOf)) (spl (b := 157) (sp1 mo_X4_cellOf) (sp1 mo_X4_facesOf))) (spl (b := 160) (spl (b := 159) (sp1 mo_X4_foodOf) (sp1 mo_X4_join)) (spl (b := 161) (sp1 mo_X4_isEdge) (sp1 mo_X4_isSheet)))) (spl (b := 166) (spl (b := 164) (spl (b := 163) (sp1 mo_X4_stoneIn) (sp1 mo_X4_isCell)) (spl (b := 165) (sp1 mo_X4_cells) (sp1 mo_X4_undo))) (spl (b := 168) (spl (b := 167) (sp1 mo_X4_step) (sp1 mo_X4_keepsAct)) (spl (b := 169) (sp1 mo_X4_passes) (spl (b := 170) (sp1 mo_X4_walks) (sp1 mo_X4_quartersOf))))))) (spl (b := 188) (spl (b := 179) (spl (b := 175) (spl (b := 173) (spl (b := 172) (sp1 mo_X4_nextOf) (sp1 mo_X4_marginOf)) (spl (b := 174) (sp1 mo_X4_isStone) (sp1 mo_X4_summedBy))) (spl (b := 177) (spl (b := 176) (sp1 mo_X4_reckons) (sp1 mo_X4_push)) (spl (b := 178) (sp1 mo_X4_pop) (sp1 mo_X4_one)))) (spl (b := 183) (spl (b := 181) (spl (b := 180) (sp1 mo_X4_placeAlong) (sp1 mo_X4_goesOut)) (spl (b := 182) (sp1 mo_X4_comesOn) (sp1 mo_X4_cellAt))) (spl (b := 185) (spl (b := 184) (sp1 mo_X4_onesWhoAre) (sp1 mo_X4_give)) (spl (b := 186) (sp1 mo_X4_way) (spl (b := 187) (sp1 mo_X4_stone) (sp1 mo_X4_fold)))))) (spl (b := 196) (spl (b := 192) (spl (b := 190) (spl (b := 189) (sp1 mo_X4_ahead) (sp1 mo_X4_keeps)) (spl (b := 191) (sp1 mo_X4_passesAll) (sp1 mo_X4_laysBack))) (spl (b := 194) (spl (b := 193) (sp1 mo_X4_home) (sp1 mo_X4_gone)) (spl (b := 195) (sp1 mo_X4_leastFood) (sp1 mo_X4_meet)))) (spl (b := 200) (spl (b := 198) (spl (b := 197) (sp1 mo_X4_shortest) (sp1 mo_X4_goesFrom)) (spl (b := 199) (sp1 mo_X4_nears) (sp1 mo_X4_seen))) (spl (b := 202) (spl (b := 201) (sp1 mo_X4_longest) (sp1 mo_X4_bestFold)) (spl (b := 203) (sp1 mo_X4_weighs) (spl (b := 204) (sp1 mo_X4_bits) (sp1 mo_X4_foodAll)))))))) (spl (b := 239) (spl (b := 222) (spl (b := 213) (spl (b := 209) (spl (b := 207) (spl (b := 206) (sp1 mo_X4_bestStone) (sp1 mo_X4_rests)) (spl (b := 208) (sp1 mo_X4_isRest) (sp1 mo_X4_ring))) (spl (b := 211) (spl (b := 210) (sp1 mo_X4_whereOf) (sp1 mo_X4_areAlike)) (spl (b := 212) (sp1 mo_X4_bread) (sp1 mo_X4_shortOf)))) (spl (b := 217) (spl (b := 215) (spl (b := 214) (sp1 mo_X4_note) (sp1 mo_X4_ruled)) (spl (b := 216) (sp1 mo_X4_fillsFits) (sp1 mo_X4_areAllSo))) (spl (b := 219) (spl (b := 218) (sp1 mo_X4_areNotesSo) (sp1 mo_X4_cellOn)) (spl (b := 220) (sp1 mo_X4_look) (spl (b := 221) (sp1 mo_X4_alikeAt) (sp1 mo_X4_folds)))))) (spl (b := 230) (spl (b := 226) (spl (b := 224) (spl (b := 223) (sp1 mo_X4_seed) (sp1 mo_X4_gusts)) (spl (b := 225) (sp1 mo_X4_draw) (sp1 mo_X4_blows))) (spl (b := 228) (spl (b := 227) (sp1 mo_X4_count) (sp1 mo_X4_image)) (spl (b := 229) (sp1 mo_X4_back) (sp1 mo_X5_init)))) (spl (b := 234) (spl (b := 232) (spl (b := 231) (sp1 mo_X5_sheet) (sp1 mo_X5_clause)) (spl (b := 233) (sp1 mo_X5_begins) (sp1 mo_X5_isWord))) (spl (b := 236) (spl (b := 235) (sp1 mo_X5_next) (sp1 mo_X5_sign)) (spl (b := 237) (sp1 mo_X5_number) (spl (b := 238) (sp1 mo_X5_isDigit) (sp1 mo_X5_goer))))))) (spl (b := 256) (spl (b := 247) (spl (b := 243) (spl (b := 241) (spl (b := 240) (sp1 mo_X5_join) (sp1 mo_X5_goesOn)) (spl (b := 242) (sp1 mo_X5_rule) (sp1 mo_X5_clause_2))) (spl (b := 245) (spl (b := 244) (sp1 mo_X5_sum) (sp1 mo_X5_term)) (spl (b := 246) (sp1 mo_X5_value) (sp1 mo_X5_counts)))) (spl (b := 251) (spl (b := 249) (spl (b := 248) (sp1 mo_X5_takes) (sp1 mo_X5_test)) (spl (b := 250) (sp1 mo_X5_part) (sp1 mo_X5_fact))) (spl (b := 253) (spl (b := 252) (sp1 mo_X5_goesDeeper) (sp1 mo_X6_init)) (spl (b := 254) (sp1 mo_X7_init) (spl (b := 255) (sp1 mo_X7_turns) (sp1 mo_X8_init)))))) (spl (b := 265) (spl (b := 260) (spl (b := 258) (spl (b := 257) (sp1 mo_X9_init) (sp1 mo_X9_of)) (spl (b := 259) (sp1 mo_X10_init) (sp1 mo_X10_of))) (spl (b := 262) (spl (b := 261) (sp1 mo_X11_init) (sp1 mo_X11_of)) (spl (b := 263) (sp1 mo_X12_init) (spl (b := 264) (sp1 mo_X12_holds) (sp1 mo_X13_init))))) (spl (b := 269) (spl (b := 267) (spl (b := 266) (sp1 mo_X14_init) (sp1 mo_X14_is)) (spl (b := 268) (sp1 mo_X15_init) (sp1 mo_X15_is))) (spl (b := 271) (spl (b := 270) (sp1 mo_X16_init) (sp1 mo_X16_is)) (spl (b := 272) (sp1 mo_X17_init) (spl (b := 273) (sp1 mo_X17_keep) (sp1 mo_X17_back))))))))) : ∀ j, 0 ≤ j → j < 274 → MOK j) j (Nat.zero_le _) h
