/-! ===== walks (by program) ===== -/
set_option maxRecDepth 100000
set_option linter.unusedVariables false
theorem n_J0_init : zNm yJ0_init 0 := ⟨by decide +kernel, by decide +kernel, by decide +kernel⟩
theorem n_J1_init : zNm yJ1_init 0 := ⟨by decide +kernel, by decide +kernel, by decide +kernel⟩
theorem n_J2_init : zNm yJ2_init 0 := ⟨by decide +kernel, by decide +kernel, by decide +kernel⟩
theorem n_X3_init : zNm yX3_init 0 := ⟨by decide +kernel, by decide +kernel, by decide +kernel⟩
theorem n_X5_init_2 : zNm yX5_init_2 1 := ⟨by decide +kernel, by decide +kernel, by decide +kernel⟩
theorem n_X4_init_2 : zNm yX4_init_2 1 := ⟨by decide +kernel, by decide +kernel, by decide +kernel⟩
theorem n_J8_copyOf_2 : zNm yJ8_copyOf_2 3 := ⟨by decide +kernel, by decide +kernel, by decide +kernel⟩
theorem n_J8_copyOf : zNm yJ8_copyOf 2 := ⟨by decide +kernel, by decide +kernel, by decide +kernel⟩
theorem n_J2_toArray : zNm yJ2_toArray 0 := ⟨by decide +kernel, by decide +kernel, by decide +kernel⟩
theorem n_J8_copyOfRange_2 : zNm yJ8_copyOfRange_2 4 := ⟨by decide +kernel, by decide +kernel, by decide +kernel⟩
theorem n_J3_toArray_2 : zNm yJ3_toArray_2 1 := ⟨by decide +kernel, by decide +kernel, by decide +kernel⟩
theorem n_J3_toArray : zNm yJ3_toArray 0 := ⟨by decide +kernel, by decide +kernel, by decide +kernel⟩
theorem n_J15_newLength : zNm yJ15_newLength 3 := ⟨by decide +kernel, by decide +kernel, by decide +kernel⟩
theorem n_J2_grow_2 : zNm yJ2_grow_2 1 := ⟨by decide +kernel, by decide +kernel, by decide +kernel⟩
theorem n_J2_addAll : zNm yJ2_addAll 1 := ⟨by decide +kernel, by decide +kernel, by decide +kernel⟩
theorem n_X2_init_2 : zNm yX2_init_2 1 := ⟨by decide +kernel, by decide +kernel, by decide +kernel⟩
theorem n_X1_isBetween : zNm yX1_isBetween 3 := ⟨by decide +kernel, by decide +kernel, by decide +kernel⟩
theorem n_X1_requireArgument : zNm yX1_requireArgument 1 := ⟨by decide +kernel, by decide +kernel, by decide +kernel⟩
theorem n_X1_requirePredicate : zNm yX1_requirePredicate 1 := ⟨by decide +kernel, by decide +kernel, by decide +kernel⟩
theorem n_X1_isPair : zNm yX1_isPair 1 := ⟨by decide +kernel, by decide +kernel, by decide +kernel⟩
theorem n_X1_codeOf : zNm yX1_codeOf 3 := ⟨by decide +kernel, by decide +kernel, by decide +kernel⟩
theorem n_X1_requireCode : zNm yX1_requireCode 3 := ⟨by decide +kernel, by decide +kernel, by decide +kernel⟩
theorem n_X5_has : zNm yX5_has 1 := ⟨by decide +kernel, by decide +kernel, by decide +kernel⟩
theorem n_X4_has : zNm yX4_has 2 := ⟨by decide +kernel, by decide +kernel, by decide +kernel⟩
theorem n_X1_requireSupport : zNm yX1_requireSupport 1 := ⟨by decide +kernel, by decide +kernel, by decide +kernel⟩
theorem n_J14_bitCount : zNm yJ14_bitCount 1 := ⟨by decide +kernel, by decide +kernel, by decide +kernel⟩
theorem n_X5_count : zNm yX5_count 0 := ⟨by decide +kernel, by decide +kernel, by decide +kernel⟩
theorem n_X4_count : zNm yX4_count 0 := ⟨by decide +kernel, by decide +kernel, by decide +kernel⟩
theorem n_X1_requireState : zNm yX1_requireState 1 := ⟨by decide +kernel, by decide +kernel, by decide +kernel⟩
theorem n_X5_add : zNm yX5_add 1 := ⟨by decide +kernel, by decide +kernel, by decide +kernel⟩
theorem n_X4_add : zNm yX4_add 2 := ⟨by decide +kernel, by decide +kernel, by decide +kernel⟩
theorem n_X2_addFact : zNm yX2_addFact 3 := ⟨by decide +kernel, by decide +kernel, by decide +kernel⟩
theorem n_J3_sub : zNm yJ3_sub 3 := ⟨by decide +kernel, by decide +kernel, by decide +kernel⟩
theorem n_J3_size : zNm yJ3_size 0 := ⟨by decide +kernel, by decide +kernel, by decide +kernel⟩
theorem n_J3_elementAt : zNm yJ3_elementAt 2 := ⟨by decide +kernel, by decide +kernel, by decide +kernel⟩
theorem n_J3_inc : zNm yJ3_inc 2 := ⟨by decide +kernel, by decide +kernel, by decide +kernel⟩
theorem n_J3_pollFirst : zNm yJ3_pollFirst 0 := ⟨by decide +kernel, by decide +kernel, by decide +kernel⟩
theorem n_J3_removeFirst : zNm yJ3_removeFirst 0 := ⟨by decide +kernel, by decide +kernel, by decide +kernel⟩
theorem n_J3_newCapacity : zNm yJ3_newCapacity 2 := ⟨by decide +kernel, by decide +kernel, by decide +kernel⟩
theorem n_J3_grow : zNm yJ3_grow 1 := ⟨by decide +kernel, by decide +kernel, by decide +kernel⟩
theorem n_J3_addLast : zNm yJ3_addLast 1 := ⟨by decide +kernel, by decide +kernel, by decide +kernel⟩
theorem n_X1_replaceLogic : zNm yX1_replaceLogic 1 := ⟨by decide +kernel, by decide +kernel, by decide +kernel⟩
theorem n_X1_addFact : zNm yX1_addFact 3 := ⟨by decide +kernel, by decide +kernel, by decide +kernel⟩
theorem n_X0_addFact : zNm yX0_addFact 5 := ⟨by decide +kernel, by decide +kernel, by decide +kernel⟩
theorem n_J22_init : zNm yJ22_init 1 := ⟨by decide +kernel, by decide +kernel, by decide +kernel⟩
theorem n_J2_iterator : zNm yJ2_iterator 0 := ⟨by decide +kernel, by decide +kernel, by decide +kernel⟩
theorem n_J22_hasNext : zNm yJ22_hasNext 0 := ⟨by decide +kernel, by decide +kernel, by decide +kernel⟩
theorem n_J22_checkForComodification : zNm yJ22_checkForComodification 0 := ⟨by decide +kernel, by decide +kernel, by decide +kernel⟩
theorem n_J22_next : zNm yJ22_next 0 := ⟨by decide +kernel, by decide +kernel, by decide +kernel⟩
theorem n_J24_requireNonNull : zNm yJ24_requireNonNull 1 := ⟨by decide +kernel, by decide +kernel, by decide +kernel⟩
theorem n_J23_init : zNm yJ23_init 1 := ⟨by decide +kernel, by decide +kernel, by decide +kernel⟩
theorem n_J23_of : zNm yJ23_of 1 := ⟨by decide +kernel, by decide +kernel, by decide +kernel⟩
theorem n_X23_atom : zNm yX23_atom 0 := ⟨by decide +kernel, by decide +kernel, by decide +kernel⟩
theorem n_J23_empty : zNm yJ23_empty 0 := ⟨by decide +kernel, by decide +kernel, by decide +kernel⟩
theorem n_X26_atom : zNm yX26_atom 0 := ⟨by decide +kernel, by decide +kernel, by decide +kernel⟩
theorem n_J23_isPresent : zNm yJ23_isPresent 0 := ⟨by decide +kernel, by decide +kernel, by decide +kernel⟩
theorem n_J23_get : zNm yJ23_get 0 := ⟨by decide +kernel, by decide +kernel, by decide +kernel⟩
theorem n_X23_isPositive : zNm yX23_isPositive 0 := ⟨by decide +kernel, by decide +kernel, by decide +kernel⟩
theorem n_X26_isPositive : zNm yX26_isPositive 0 := ⟨by decide +kernel, by decide +kernel, by decide +kernel⟩
theorem n_X26_isNegative : zNm yX26_isNegative 0 := ⟨by decide +kernel, by decide +kernel, by decide +kernel⟩
theorem n_X7_add : zNm yX7_add 2 := ⟨by decide +kernel, by decide +kernel, by decide +kernel⟩
theorem n_X7_init : zNm yX7_init 1 := ⟨by decide +kernel, by decide +kernel, by decide +kernel⟩
theorem n_X7_wantedLayer : zNm yX7_wantedLayer 2 := ⟨by decide +kernel, by decide +kernel, by decide +kernel⟩
theorem n_X7_layers : zNm yX7_layers 0 := ⟨by decide +kernel, by decide +kernel, by decide +kernel⟩
theorem n_X8_init : zNm yX8_init 1 := ⟨by decide +kernel, by decide +kernel, by decide +kernel⟩
theorem n_J2_grow : zNm yJ2_grow 0 := ⟨by decide +kernel, by decide +kernel, by decide +kernel⟩
theorem n_J2_add_2 : zNm yJ2_add_2 3 := ⟨by decide +kernel, by decide +kernel, by decide +kernel⟩
theorem n_J2_add : zNm yJ2_add 1 := ⟨by decide +kernel, by decide +kernel, by decide +kernel⟩
theorem n_X2_rulesOf : zNm yX2_rulesOf 2 := ⟨by decide +kernel, by decide +kernel, by decide +kernel⟩
theorem n_X5_init : zNm yX5_init 0 := ⟨by decide +kernel, by decide +kernel, by decide +kernel⟩
theorem n_X4_init : zNm yX4_init 0 := ⟨by decide +kernel, by decide +kernel, by decide +kernel⟩
theorem n_X8_unknown : zNm yX8_unknown 0 := ⟨by decide +kernel, by decide +kernel, by decide +kernel⟩
theorem n_J2_size : zNm yJ2_size 0 := ⟨by decide +kernel, by decide +kernel, by decide +kernel⟩
theorem n_X8_known : zNm yX8_known 1 := ⟨by decide +kernel, by decide +kernel, by decide +kernel⟩
theorem n_X1_valueOf : zNm yX1_valueOf 2 := ⟨by decide +kernel, by decide +kernel, by decide +kernel⟩
theorem n_X9_code : zNm yX9_code 1 := ⟨by decide +kernel, by decide +kernel, by decide +kernel⟩
theorem n_X23_holds : zNm yX23_holds 2 := ⟨by decide +kernel, by decide +kernel, by decide +kernel⟩
theorem n_X24_holds : zNm yX24_holds 2 := ⟨by decide +kernel, by decide +kernel, by decide +kernel⟩
theorem n_X25_holds : zNm yX25_holds 2 := ⟨by decide +kernel, by decide +kernel, by decide +kernel⟩
theorem n_X8_found : zNm yX8_found 2 := ⟨by decide +kernel, by decide +kernel, by decide +kernel⟩
theorem n_J17_checkIndex : zNm yJ17_checkIndex 3 := ⟨by decide +kernel, by decide +kernel, by decide +kernel⟩
theorem n_J24_checkIndex : zNm yJ24_checkIndex 2 := ⟨by decide +kernel, by decide +kernel, by decide +kernel⟩
theorem n_J2_elementData : zNm yJ2_elementData 1 := ⟨by decide +kernel, by decide +kernel, by decide +kernel⟩
theorem n_J2_get : zNm yJ2_get 1 := ⟨by decide +kernel, by decide +kernel, by decide +kernel⟩
theorem n_X9_bind : zNm yX9_bind 3 := ⟨by decide +kernel, by decide +kernel, by decide +kernel⟩
theorem n_X9_match : zNm yX9_match 2 := ⟨by decide +kernel, by decide +kernel, by decide +kernel⟩
theorem n_X8_join : zNm yX8_join 4 := ⟨by decide +kernel, by decide +kernel, by decide +kernel⟩
theorem n_X8_goOn : zNm yX8_goOn 0 := ⟨by decide +kernel, by decide +kernel, by decide +kernel⟩
theorem n_X8_close : zNm yX8_close 1 := ⟨by decide +kernel, by decide +kernel, by decide +kernel⟩
theorem n_X2_facts : zNm yX2_facts 0 := ⟨by decide +kernel, by decide +kernel, by decide +kernel⟩
theorem n_X1_requireElement : zNm yX1_requireElement 1 := ⟨by decide +kernel, by decide +kernel, by decide +kernel⟩
theorem n_X5_remove : zNm yX5_remove 1 := ⟨by decide +kernel, by decide +kernel, by decide +kernel⟩
theorem n_X2_without : zNm yX2_without 2 := ⟨by decide +kernel, by decide +kernel, by decide +kernel⟩
theorem n_X4_countWithout : zNm yX4_countWithout 1 := ⟨by decide +kernel, by decide +kernel, by decide +kernel⟩
theorem n_X2_takeFact : zNm yX2_takeFact 3 := ⟨by decide +kernel, by decide +kernel, by decide +kernel⟩
theorem n_X1_takeFact : zNm yX1_takeFact 3 := ⟨by decide +kernel, by decide +kernel, by decide +kernel⟩
theorem n_X0_takeFact : zNm yX0_takeFact 5 := ⟨by decide +kernel, by decide +kernel, by decide +kernel⟩
theorem n_X1_requireIndex : zNm yX1_requireIndex 2 := ⟨by decide +kernel, by decide +kernel, by decide +kernel⟩
theorem n_J2_fastRemove : zNm yJ2_fastRemove 2 := ⟨by decide +kernel, by decide +kernel, by decide +kernel⟩
theorem n_J2_remove : zNm yJ2_remove 1 := ⟨by decide +kernel, by decide +kernel, by decide +kernel⟩
theorem n_X2_dropRule : zNm yX2_dropRule 1 := ⟨by decide +kernel, by decide +kernel, by decide +kernel⟩
theorem n_X1_dropRule : zNm yX1_dropRule 1 := ⟨by decide +kernel, by decide +kernel, by decide +kernel⟩
theorem n_X0_dropRule : zNm yX0_dropRule 3 := ⟨by decide +kernel, by decide +kernel, by decide +kernel⟩
theorem n_X1_isGiven : zNm yX1_isGiven 3 := ⟨by decide +kernel, by decide +kernel, by decide +kernel⟩
theorem n_X0_isGiven : zNm yX0_isGiven 5 := ⟨by decide +kernel, by decide +kernel, by decide +kernel⟩
theorem n_X1_isTrue : zNm yX1_isTrue 3 := ⟨by decide +kernel, by decide +kernel, by decide +kernel⟩
theorem n_X0_isTrue : zNm yX0_isTrue 5 := ⟨by decide +kernel, by decide +kernel, by decide +kernel⟩
theorem n_X10_init : zNm yX10_init 0 := ⟨by decide +kernel, by decide +kernel, by decide +kernel⟩
theorem n_X11_init : zNm yX11_init 1 := ⟨by decide +kernel, by decide +kernel, by decide +kernel⟩
theorem n_X25_range : zNm yX25_range 1 := ⟨by decide +kernel, by decide +kernel, by decide +kernel⟩
theorem n_X11_meet : zNm yX11_meet 2 := ⟨by decide +kernel, by decide +kernel, by decide +kernel⟩
theorem n_X12_heightBy : zNm yX12_heightBy 2 := ⟨by decide +kernel, by decide +kernel, by decide +kernel⟩
theorem n_X13_meet : zNm yX13_meet 2 := ⟨by decide +kernel, by decide +kernel, by decide +kernel⟩
theorem n_X14_meet : zNm yX14_meet 2 := ⟨by decide +kernel, by decide +kernel, by decide +kernel⟩
theorem n_X15_meet : zNm yX15_meet 2 := ⟨by decide +kernel, by decide +kernel, by decide +kernel⟩
theorem n_X19_meet : zNm yX19_meet 2 := ⟨by decide +kernel, by decide +kernel, by decide +kernel⟩
theorem n_X10_take : zNm yX10_take 2 := ⟨by decide +kernel, by decide +kernel, by decide +kernel⟩
theorem n_X11_close : zNm yX11_close 1 := ⟨by decide +kernel, by decide +kernel, by decide +kernel⟩
theorem n_X2_byTrying : zNm yX2_byTrying 0 := ⟨by decide +kernel, by decide +kernel, by decide +kernel⟩
theorem n_X1_isTrueByTrying : zNm yX1_isTrueByTrying 3 := ⟨by decide +kernel, by decide +kernel, by decide +kernel⟩
theorem n_X0_isTrueByTrying : zNm yX0_isTrueByTrying 5 := ⟨by decide +kernel, by decide +kernel, by decide +kernel⟩
theorem n_X1_trueCount : zNm yX1_trueCount 1 := ⟨by decide +kernel, by decide +kernel, by decide +kernel⟩
theorem n_X0_trueCount : zNm yX0_trueCount 3 := ⟨by decide +kernel, by decide +kernel, by decide +kernel⟩
theorem n_X1_gainedWithout : zNm yX1_gainedWithout 3 := ⟨by decide +kernel, by decide +kernel, by decide +kernel⟩
theorem n_X0_gainedWithout : zNm yX0_gainedWithout 5 := ⟨by decide +kernel, by decide +kernel, by decide +kernel⟩
theorem n_X2_countFirst : zNm yX2_countFirst 2 := ⟨by decide +kernel, by decide +kernel, by decide +kernel⟩
theorem n_X2_constantAtRank : zNm yX2_constantAtRank 2 := ⟨by decide +kernel, by decide +kernel, by decide +kernel⟩
theorem n_X1_requireFound : zNm yX1_requireFound 1 := ⟨by decide +kernel, by decide +kernel, by decide +kernel⟩
theorem n_X1_constantAtRank : zNm yX1_constantAtRank 2 := ⟨by decide +kernel, by decide +kernel, by decide +kernel⟩
theorem n_X0_constantAtRank : zNm yX0_constantAtRank 4 := ⟨by decide +kernel, by decide +kernel, by decide +kernel⟩
theorem n_X2_greatest : zNm yX2_greatest 1 := ⟨by decide +kernel, by decide +kernel, by decide +kernel⟩
theorem n_X1_greatest : zNm yX1_greatest 1 := ⟨by decide +kernel, by decide +kernel, by decide +kernel⟩
theorem n_X0_greatest : zNm yX0_greatest 3 := ⟨by decide +kernel, by decide +kernel, by decide +kernel⟩
theorem n_X2_requireTrue : zNm yX2_requireTrue 2 := ⟨by decide +kernel, by decide +kernel, by decide +kernel⟩
theorem n_X1_requireTrue : zNm yX1_requireTrue 3 := ⟨by decide +kernel, by decide +kernel, by decide +kernel⟩
theorem n_X12_init : zNm yX12_init 1 := ⟨by decide +kernel, by decide +kernel, by decide +kernel⟩
theorem n_X12_sum : zNm yX12_sum 0 := ⟨by decide +kernel, by decide +kernel, by decide +kernel⟩
theorem n_X13_init : zNm yX13_init 1 := ⟨by decide +kernel, by decide +kernel, by decide +kernel⟩
theorem n_X12_takeAll : zNm yX12_takeAll 1 := ⟨by decide +kernel, by decide +kernel, by decide +kernel⟩
theorem n_X12_inRounds : zNm yX12_inRounds 0 := ⟨by decide +kernel, by decide +kernel, by decide +kernel⟩
theorem n_X1_height : zNm yX1_height 3 := ⟨by decide +kernel, by decide +kernel, by decide +kernel⟩
theorem n_X0_height : zNm yX0_height 5 := ⟨by decide +kernel, by decide +kernel, by decide +kernel⟩
theorem n_X12_hasOpen : zNm yX12_hasOpen 0 := ⟨by decide +kernel, by decide +kernel, by decide +kernel⟩
theorem n_X14_init : zNm yX14_init 2 := ⟨by decide +kernel, by decide +kernel, by decide +kernel⟩
theorem n_X12_byLevels : zNm yX12_byLevels 0 := ⟨by decide +kernel, by decide +kernel, by decide +kernel⟩
theorem n_X1_heightByLevels : zNm yX1_heightByLevels 3 := ⟨by decide +kernel, by decide +kernel, by decide +kernel⟩
theorem n_X0_heightByLevels : zNm yX0_heightByLevels 5 := ⟨by decide +kernel, by decide +kernel, by decide +kernel⟩
theorem n_X2_isDerived : zNm yX2_isDerived 2 := ⟨by decide +kernel, by decide +kernel, by decide +kernel⟩
theorem n_X15_init : zNm yX15_init 3 := ⟨by decide +kernel, by decide +kernel, by decide +kernel⟩
theorem n_X16_init : zNm yX16_init 3 := ⟨by decide +kernel, by decide +kernel, by decide +kernel⟩
theorem n_X12_step : zNm yX12_step 2 := ⟨by decide +kernel, by decide +kernel, by decide +kernel⟩
theorem n_X1_ruleOf : zNm yX1_ruleOf 3 := ⟨by decide +kernel, by decide +kernel, by decide +kernel⟩
theorem n_X0_ruleOf : zNm yX0_ruleOf 5 := ⟨by decide +kernel, by decide +kernel, by decide +kernel⟩
theorem n_X12_size : zNm yX12_size 3 := ⟨by decide +kernel, by decide +kernel, by decide +kernel⟩
theorem n_X1_proofSize : zNm yX1_proofSize 3 := ⟨by decide +kernel, by decide +kernel, by decide +kernel⟩
theorem n_X0_proofSize : zNm yX0_proofSize 5 := ⟨by decide +kernel, by decide +kernel, by decide +kernel⟩
theorem n_X1_requireGoal : zNm yX1_requireGoal 3 := ⟨by decide +kernel, by decide +kernel, by decide +kernel⟩
theorem n_X17_init : zNm yX17_init 3 := ⟨by decide +kernel, by decide +kernel, by decide +kernel⟩
theorem n_X17_fits : zNm yX17_fits 1 := ⟨by decide +kernel, by decide +kernel, by decide +kernel⟩
theorem n_X2_answers : zNm yX2_answers 1 := ⟨by decide +kernel, by decide +kernel, by decide +kernel⟩
theorem n_X1_answers : zNm yX1_answers 3 := ⟨by decide +kernel, by decide +kernel, by decide +kernel⟩
theorem n_X0_answers : zNm yX0_answers 5 := ⟨by decide +kernel, by decide +kernel, by decide +kernel⟩
theorem n_X18_init : zNm yX18_init 1 := ⟨by decide +kernel, by decide +kernel, by decide +kernel⟩
theorem n_X17_isSameAs : zNm yX17_isSameAs 3 := ⟨by decide +kernel, by decide +kernel, by decide +kernel⟩
theorem n_X18_goal : zNm yX18_goal 3 := ⟨by decide +kernel, by decide +kernel, by decide +kernel⟩
theorem n_X18_bindHead : zNm yX18_bindHead 3 := ⟨by decide +kernel, by decide +kernel, by decide +kernel⟩
theorem n_X18_solveNegated : zNm yX18_solveNegated 1 := ⟨by decide +kernel, by decide +kernel, by decide +kernel⟩
theorem n_X18_holdsRest : zNm yX18_holdsRest 2 := ⟨by decide +kernel, by decide +kernel, by decide +kernel⟩
theorem n_X9_firstKnown : zNm yX9_firstKnown 1 := ⟨by decide +kernel, by decide +kernel, by decide +kernel⟩
theorem n_X9_secondKnown : zNm yX9_secondKnown 1 := ⟨by decide +kernel, by decide +kernel, by decide +kernel⟩
theorem n_X18_join : zNm yX18_join 4 := ⟨by decide +kernel, by decide +kernel, by decide +kernel⟩
theorem n_X18_work : zNm yX18_work 1 := ⟨by decide +kernel, by decide +kernel, by decide +kernel⟩
theorem n_X18_solve : zNm yX18_solve 3 := ⟨by decide +kernel, by decide +kernel, by decide +kernel⟩
theorem n_X1_answersByGoals : zNm yX1_answersByGoals 3 := ⟨by decide +kernel, by decide +kernel, by decide +kernel⟩
theorem n_X0_answersByGoals : zNm yX0_answersByGoals 5 := ⟨by decide +kernel, by decide +kernel, by decide +kernel⟩
theorem n_X2_answerAt : zNm yX2_answerAt 2 := ⟨by decide +kernel, by decide +kernel, by decide +kernel⟩
theorem n_X1_answerAt : zNm yX1_answerAt 4 := ⟨by decide +kernel, by decide +kernel, by decide +kernel⟩
theorem n_X0_answerAt : zNm yX0_answerAt 6 := ⟨by decide +kernel, by decide +kernel, by decide +kernel⟩
theorem n_X1_requireRule : zNm yX1_requireRule 1 := ⟨by decide +kernel, by decide +kernel, by decide +kernel⟩
theorem n_X1_variables : zNm yX1_variables 1 := ⟨by decide +kernel, by decide +kernel, by decide +kernel⟩
theorem n_X0_variables : zNm yX0_variables 3 := ⟨by decide +kernel, by decide +kernel, by decide +kernel⟩
theorem n_J3_init : zNm yJ3_init 0 := ⟨by decide +kernel, by decide +kernel, by decide +kernel⟩
theorem n_J13_init : zNm yJ13_init 0 := ⟨by decide +kernel, by decide +kernel, by decide +kernel⟩
theorem n_J14_init : zNm yJ14_init 1 := ⟨by decide +kernel, by decide +kernel, by decide +kernel⟩
theorem n_J14_valueOf : zNm yJ14_valueOf 1 := ⟨by decide +kernel, by decide +kernel, by decide +kernel⟩
theorem n_J3_isEmpty : zNm yJ3_isEmpty 0 := ⟨by decide +kernel, by decide +kernel, by decide +kernel⟩
theorem n_J14_intValue : zNm yJ14_intValue 0 := ⟨by decide +kernel, by decide +kernel, by decide +kernel⟩
theorem n_X7_reached : zNm yX7_reached 1 := ⟨by decide +kernel, by decide +kernel, by decide +kernel⟩
theorem n_X2_isRecursive : zNm yX2_isRecursive 1 := ⟨by decide +kernel, by decide +kernel, by decide +kernel⟩
theorem n_X1_isRecursive : zNm yX1_isRecursive 1 := ⟨by decide +kernel, by decide +kernel, by decide +kernel⟩
theorem n_X0_isRecursive : zNm yX0_isRecursive 3 := ⟨by decide +kernel, by decide +kernel, by decide +kernel⟩
theorem n_X19_init : zNm yX19_init 0 := ⟨by decide +kernel, by decide +kernel, by decide +kernel⟩
theorem n_X2_countSteps : zNm yX2_countSteps 1 := ⟨by decide +kernel, by decide +kernel, by decide +kernel⟩
theorem n_X1_stepsOf : zNm yX1_stepsOf 1 := ⟨by decide +kernel, by decide +kernel, by decide +kernel⟩
theorem n_X0_stepsOf : zNm yX0_stepsOf 3 := ⟨by decide +kernel, by decide +kernel, by decide +kernel⟩
theorem n_X1_layerOf : zNm yX1_layerOf 1 := ⟨by decide +kernel, by decide +kernel, by decide +kernel⟩
theorem n_X0_layerOf : zNm yX0_layerOf 3 := ⟨by decide +kernel, by decide +kernel, by decide +kernel⟩
theorem n_X7_longestChain : zNm yX7_longestChain 2 := ⟨by decide +kernel, by decide +kernel, by decide +kernel⟩
theorem n_X1_layerByChains : zNm yX1_layerByChains 1 := ⟨by decide +kernel, by decide +kernel, by decide +kernel⟩
theorem n_X0_layerByChains : zNm yX0_layerByChains 3 := ⟨by decide +kernel, by decide +kernel, by decide +kernel⟩
theorem n_X1_dependsOn : zNm yX1_dependsOn 2 := ⟨by decide +kernel, by decide +kernel, by decide +kernel⟩
theorem n_X0_dependsOn : zNm yX0_dependsOn 4 := ⟨by decide +kernel, by decide +kernel, by decide +kernel⟩
theorem n_X1_requireRefusal : zNm yX1_requireRefusal 0 := ⟨by decide +kernel, by decide +kernel, by decide +kernel⟩
theorem n_X1_reason : zNm yX1_reason 0 := ⟨by decide +kernel, by decide +kernel, by decide +kernel⟩
theorem n_X0_reason : zNm yX0_reason 2 := ⟨by decide +kernel, by decide +kernel, by decide +kernel⟩
theorem n_X1_detail : zNm yX1_detail 0 := ⟨by decide +kernel, by decide +kernel, by decide +kernel⟩
theorem n_X0_detail : zNm yX0_detail 2 := ⟨by decide +kernel, by decide +kernel, by decide +kernel⟩
theorem n_X1_requireSome : zNm yX1_requireSome 1 := ⟨by decide +kernel, by decide +kernel, by decide +kernel⟩
theorem n_X12_sumOfTrue : zNm yX12_sumOfTrue 0 := ⟨by decide +kernel, by decide +kernel, by decide +kernel⟩
theorem n_X1_meanHeight : zNm yX1_meanHeight 0 := ⟨by decide +kernel, by decide +kernel, by decide +kernel⟩
theorem n_X0_meanHeight : zNm yX0_meanHeight 2 := ⟨by decide +kernel, by decide +kernel, by decide +kernel⟩
theorem n_X1_derivedShare : zNm yX1_derivedShare 0 := ⟨by decide +kernel, by decide +kernel, by decide +kernel⟩
theorem n_X0_derivedShare : zNm yX0_derivedShare 2 := ⟨by decide +kernel, by decide +kernel, by decide +kernel⟩
theorem n_J4_length : zNm yJ4_length 0 := ⟨by decide +kernel, by decide +kernel, by decide +kernel⟩
theorem n_J5_length : zNm yJ5_length 0 := ⟨by decide +kernel, by decide +kernel, by decide +kernel⟩
theorem n_J4_newCapacity : zNm yJ4_newCapacity 1 := ⟨by decide +kernel, by decide +kernel, by decide +kernel⟩
theorem n_J8_copyOf_3 : zNm yJ8_copyOf_3 2 := ⟨by decide +kernel, by decide +kernel, by decide +kernel⟩
theorem n_J4_ensureCapacityInternal : zNm yJ4_ensureCapacityInternal 1 := ⟨by decide +kernel, by decide +kernel, by decide +kernel⟩
theorem n_J4_isLatin1 : zNm yJ4_isLatin1 0 := ⟨by decide +kernel, by decide +kernel, by decide +kernel⟩
theorem n_J18_canEncode : zNm yJ18_canEncode 1 := ⟨by decide +kernel, by decide +kernel, by decide +kernel⟩
theorem n_J7_newBytesLength : zNm yJ7_newBytesLength 1 := ⟨by decide +kernel, by decide +kernel, by decide +kernel⟩
theorem n_J7_newBytesFor : zNm yJ7_newBytesFor 1 := ⟨by decide +kernel, by decide +kernel, by decide +kernel⟩
theorem n_J7_length : zNm yJ7_length 1 := ⟨by decide +kernel, by decide +kernel, by decide +kernel⟩
theorem n_J17_checkFromIndexSize : zNm yJ17_checkFromIndexSize 4 := ⟨by decide +kernel, by decide +kernel, by decide +kernel⟩
theorem n_J6_checkBoundsOffCount : zNm yJ6_checkBoundsOffCount 3 := ⟨by decide +kernel, by decide +kernel, by decide +kernel⟩
theorem n_J7_checkBoundsOffCount : zNm yJ7_checkBoundsOffCount 3 := ⟨by decide +kernel, by decide +kernel, by decide +kernel⟩
theorem n_J7_putChar : zNm yJ7_putChar 3 := ⟨by decide +kernel, by decide +kernel, by decide +kernel⟩
theorem n_J7_inflate : zNm yJ7_inflate 5 := ⟨by decide +kernel, by decide +kernel, by decide +kernel⟩
theorem n_J18_inflate : zNm yJ18_inflate 5 := ⟨by decide +kernel, by decide +kernel, by decide +kernel⟩
theorem n_J4_inflate : zNm yJ4_inflate 0 := ⟨by decide +kernel, by decide +kernel, by decide +kernel⟩
theorem n_J6_checkIndex : zNm yJ6_checkIndex 2 := ⟨by decide +kernel, by decide +kernel, by decide +kernel⟩
theorem n_J7_checkIndex : zNm yJ7_checkIndex 2 := ⟨by decide +kernel, by decide +kernel, by decide +kernel⟩
theorem n_J7_putCharSB : zNm yJ7_putCharSB 3 := ⟨by decide +kernel, by decide +kernel, by decide +kernel⟩
theorem n_J4_append_2 : zNm yJ4_append_2 1 := ⟨by decide +kernel, by decide +kernel, by decide +kernel⟩
theorem n_J5_append_2 : zNm yJ5_append_2 1 := ⟨by decide +kernel, by decide +kernel, by decide +kernel⟩
theorem n_X1_append : zNm yX1_append 1 := ⟨by decide +kernel, by decide +kernel, by decide +kernel⟩
theorem n_X0_append : zNm yX0_append 3 := ⟨by decide +kernel, by decide +kernel, by decide +kernel⟩
theorem n_J4_getValue : zNm yJ4_getValue 0 := ⟨by decide +kernel, by decide +kernel, by decide +kernel⟩
theorem n_J8_checkLength : zNm yJ8_checkLength 2 := ⟨by decide +kernel, by decide +kernel, by decide +kernel⟩
theorem n_J8_copyOfRangeByte : zNm yJ8_copyOfRangeByte 3 := ⟨by decide +kernel, by decide +kernel, by decide +kernel⟩
theorem n_J8_copyOfRange : zNm yJ8_copyOfRange 3 := ⟨by decide +kernel, by decide +kernel, by decide +kernel⟩
theorem n_J7_getChar : zNm yJ7_getChar 2 := ⟨by decide +kernel, by decide +kernel, by decide +kernel⟩
theorem n_J7_compress_2 : zNm yJ7_compress_2 5 := ⟨by decide +kernel, by decide +kernel, by decide +kernel⟩
theorem n_J7_compress : zNm yJ7_compress 3 := ⟨by decide +kernel, by decide +kernel, by decide +kernel⟩
theorem n_J7_coderFromArrayLen : zNm yJ7_coderFromArrayLen 2 := ⟨by decide +kernel, by decide +kernel, by decide +kernel⟩
theorem n_J6_init_2 : zNm yJ6_init_2 2 := ⟨by decide +kernel, by decide +kernel, by decide +kernel⟩
theorem n_J6_init : zNm yJ6_init 1 := ⟨by decide +kernel, by decide +kernel, by decide +kernel⟩
theorem n_J5_toString : zNm yJ5_toString 0 := ⟨by decide +kernel, by decide +kernel, by decide +kernel⟩
theorem n_X20_init : zNm yX20_init 1 := ⟨by decide +kernel, by decide +kernel, by decide +kernel⟩
theorem n_J8_rangeCheck : zNm yJ8_rangeCheck 3 := ⟨by decide +kernel, by decide +kernel, by decide +kernel⟩
theorem n_J8_fill : zNm yJ8_fill 4 := ⟨by decide +kernel, by decide +kernel, by decide +kernel⟩
theorem n_J18_fillNull : zNm yJ18_fillNull 3 := ⟨by decide +kernel, by decide +kernel, by decide +kernel⟩
theorem n_J7_fillNull : zNm yJ7_fillNull 3 := ⟨by decide +kernel, by decide +kernel, by decide +kernel⟩
theorem n_J4_setLength : zNm yJ4_setLength 1 := ⟨by decide +kernel, by decide +kernel, by decide +kernel⟩
theorem n_J5_setLength : zNm yJ5_setLength 1 := ⟨by decide +kernel, by decide +kernel, by decide +kernel⟩
theorem n_J6_coder : zNm yJ6_coder 0 := ⟨by decide +kernel, by decide +kernel, by decide +kernel⟩
theorem n_J6_length : zNm yJ6_length 0 := ⟨by decide +kernel, by decide +kernel, by decide +kernel⟩
theorem n_J6_isLatin1 : zNm yJ6_isLatin1 0 := ⟨by decide +kernel, by decide +kernel, by decide +kernel⟩
theorem n_J18_charAt : zNm yJ18_charAt 2 := ⟨by decide +kernel, by decide +kernel, by decide +kernel⟩
theorem n_J7_charAt : zNm yJ7_charAt 2 := ⟨by decide +kernel, by decide +kernel, by decide +kernel⟩
theorem n_J6_charAt : zNm yJ6_charAt 1 := ⟨by decide +kernel, by decide +kernel, by decide +kernel⟩
theorem n_X20_isNextBetween : zNm yX20_isNextBetween 2 := ⟨by decide +kernel, by decide +kernel, by decide +kernel⟩
theorem n_X21_init : zNm yX21_init 1 := ⟨by decide +kernel, by decide +kernel, by decide +kernel⟩
theorem n_X20_expect : zNm yX20_expect 1 := ⟨by decide +kernel, by decide +kernel, by decide +kernel⟩
theorem n_X20_accept : zNm yX20_accept 1 := ⟨by decide +kernel, by decide +kernel, by decide +kernel⟩
theorem n_X20_expectText : zNm yX20_expectText 1 := ⟨by decide +kernel, by decide +kernel, by decide +kernel⟩
theorem n_X20_parsePredicate : zNm yX20_parsePredicate 0 := ⟨by decide +kernel, by decide +kernel, by decide +kernel⟩
theorem n_X20_parseDigit : zNm yX20_parseDigit 0 := ⟨by decide +kernel, by decide +kernel, by decide +kernel⟩
theorem n_X22_init : zNm yX22_init 4 := ⟨by decide +kernel, by decide +kernel, by decide +kernel⟩
theorem n_X20_parseGround : zNm yX20_parseGround 1 := ⟨by decide +kernel, by decide +kernel, by decide +kernel⟩
theorem n_X20_isTerm : zNm yX20_isTerm 0 := ⟨by decide +kernel, by decide +kernel, by decide +kernel⟩
theorem n_X20_parseTerm : zNm yX20_parseTerm 0 := ⟨by decide +kernel, by decide +kernel, by decide +kernel⟩
theorem n_X9_init : zNm yX9_init 3 := ⟨by decide +kernel, by decide +kernel, by decide +kernel⟩
theorem n_X20_parseAtom : zNm yX20_parseAtom 0 := ⟨by decide +kernel, by decide +kernel, by decide +kernel⟩
theorem n_X23_init : zNm yX23_init 2 := ⟨by decide +kernel, by decide +kernel, by decide +kernel⟩
theorem n_X24_init : zNm yX24_init 3 := ⟨by decide +kernel, by decide +kernel, by decide +kernel⟩
theorem n_X20_parseLiteral : zNm yX20_parseLiteral 0 := ⟨by decide +kernel, by decide +kernel, by decide +kernel⟩
theorem n_J17_checkFromToIndex : zNm yJ17_checkFromToIndex 4 := ⟨by decide +kernel, by decide +kernel, by decide +kernel⟩
theorem n_J6_checkBoundsBeginEnd : zNm yJ6_checkBoundsBeginEnd 3 := ⟨by decide +kernel, by decide +kernel, by decide +kernel⟩
theorem n_J6_init_3 : zNm yJ6_init_3 2 := ⟨by decide +kernel, by decide +kernel, by decide +kernel⟩
theorem n_J18_newString : zNm yJ18_newString 3 := ⟨by decide +kernel, by decide +kernel, by decide +kernel⟩
theorem n_J7_newString : zNm yJ7_newString 3 := ⟨by decide +kernel, by decide +kernel, by decide +kernel⟩
theorem n_J6_substring : zNm yJ6_substring 2 := ⟨by decide +kernel, by decide +kernel, by decide +kernel⟩
theorem n_X1_maskOf : zNm yX1_maskOf 1 := ⟨by decide +kernel, by decide +kernel, by decide +kernel⟩
theorem n_X9_mask : zNm yX9_mask 0 := ⟨by decide +kernel, by decide +kernel, by decide +kernel⟩
theorem n_X23_mask : zNm yX23_mask 0 := ⟨by decide +kernel, by decide +kernel, by decide +kernel⟩
theorem n_X24_mask : zNm yX24_mask 0 := ⟨by decide +kernel, by decide +kernel, by decide +kernel⟩
theorem n_X26_masks : zNm yX26_masks 2 := ⟨by decide +kernel, by decide +kernel, by decide +kernel⟩
theorem n_X25_init : zNm yX25_init 3 := ⟨by decide +kernel, by decide +kernel, by decide +kernel⟩
theorem n_X20_parseRule : zNm yX20_parseRule 0 := ⟨by decide +kernel, by decide +kernel, by decide +kernel⟩
theorem n_X20_parseCommand : zNm yX20_parseCommand 0 := ⟨by decide +kernel, by decide +kernel, by decide +kernel⟩
theorem n_X20_parseProgram : zNm yX20_parseProgram 0 := ⟨by decide +kernel, by decide +kernel, by decide +kernel⟩
theorem n_X1_parseBuffer : zNm yX1_parseBuffer 0 := ⟨by decide +kernel, by decide +kernel, by decide +kernel⟩
theorem n_J15_signedHashCode : zNm yJ15_signedHashCode 4 := ⟨by decide +kernel, by decide +kernel, by decide +kernel⟩
theorem n_J15_hashCode_2 : zNm yJ15_hashCode_2 4 := ⟨by decide +kernel, by decide +kernel, by decide +kernel⟩
theorem n_J15_hashCode_4 : zNm yJ15_hashCode_4 4 := ⟨by decide +kernel, by decide +kernel, by decide +kernel⟩
theorem n_J15_vectorizedHashCode : zNm yJ15_vectorizedHashCode 5 := ⟨by decide +kernel, by decide +kernel, by decide +kernel⟩
theorem n_J18_hashCode : zNm yJ18_hashCode 1 := ⟨by decide +kernel, by decide +kernel, by decide +kernel⟩
theorem n_J7_hashCode : zNm yJ7_hashCode 1 := ⟨by decide +kernel, by decide +kernel, by decide +kernel⟩
theorem n_J6_hashCode : zNm yJ6_hashCode 0 := ⟨by decide +kernel, by decide +kernel, by decide +kernel⟩
theorem n_J18_equals : zNm yJ18_equals 2 := ⟨by decide +kernel, by decide +kernel, by decide +kernel⟩
theorem n_J6_equals : zNm yJ6_equals 1 := ⟨by decide +kernel, by decide +kernel, by decide +kernel⟩
theorem n_X25_unsafeVariable : zNm yX25_unsafeVariable 0 := ⟨by decide +kernel, by decide +kernel, by decide +kernel⟩
theorem n_X27_init : zNm yX27_init 2 := ⟨by decide +kernel, by decide +kernel, by decide +kernel⟩
theorem n_X1_refuseIf : zNm yX1_refuseIf 3 := ⟨by decide +kernel, by decide +kernel, by decide +kernel⟩
theorem n_X2_sameRule : zNm yX2_sameRule 1 := ⟨by decide +kernel, by decide +kernel, by decide +kernel⟩
theorem n_J2_init_2 : zNm yJ2_init_2 1 := ⟨by decide +kernel, by decide +kernel, by decide +kernel⟩
theorem n_X7_isCircle : zNm yX7_isCircle 0 := ⟨by decide +kernel, by decide +kernel, by decide +kernel⟩
theorem n_X2_makesCircle : zNm yX2_makesCircle 1 := ⟨by decide +kernel, by decide +kernel, by decide +kernel⟩
theorem n_X2_addRule : zNm yX2_addRule 1 := ⟨by decide +kernel, by decide +kernel, by decide +kernel⟩
theorem n_X22_execute : zNm yX22_execute 1 := ⟨by decide +kernel, by decide +kernel, by decide +kernel⟩
theorem n_X1_run : zNm yX1_run 0 := ⟨by decide +kernel, by decide +kernel, by decide +kernel⟩
theorem n_X0_run : zNm yX0_run 2 := ⟨by decide +kernel, by decide +kernel, by decide +kernel⟩
theorem n_X1_errorPosition : zNm yX1_errorPosition 0 := ⟨by decide +kernel, by decide +kernel, by decide +kernel⟩
theorem n_X0_errorPosition : zNm yX0_errorPosition 2 := ⟨by decide +kernel, by decide +kernel, by decide +kernel⟩
theorem n_X1_failedCommand : zNm yX1_failedCommand 0 := ⟨by decide +kernel, by decide +kernel, by decide +kernel⟩
theorem n_X0_failedCommand : zNm yX0_failedCommand 2 := ⟨by decide +kernel, by decide +kernel, by decide +kernel⟩
theorem n_X1_write : zNm yX1_write 1 := ⟨by decide +kernel, by decide +kernel, by decide +kernel⟩
theorem n_X1_writeRule : zNm yX1_writeRule 1 := ⟨by decide +kernel, by decide +kernel, by decide +kernel⟩
theorem n_X0_writeRule : zNm yX0_writeRule 3 := ⟨by decide +kernel, by decide +kernel, by decide +kernel⟩
theorem n_J4_init : zNm yJ4_init 1 := ⟨by decide +kernel, by decide +kernel, by decide +kernel⟩
theorem n_J5_init : zNm yJ5_init 0 := ⟨by decide +kernel, by decide +kernel, by decide +kernel⟩
theorem n_J14_stringSize : zNm yJ14_stringSize 1 := ⟨by decide +kernel, by decide +kernel, by decide +kernel⟩
theorem n_J14_getChars : zNm yJ14_getChars 3 := ⟨by decide +kernel, by decide +kernel, by decide +kernel⟩
theorem n_J7_checkBoundsBeginEnd : zNm yJ7_checkBoundsBeginEnd 3 := ⟨by decide +kernel, by decide +kernel, by decide +kernel⟩
theorem n_J7_getChars_2 : zNm yJ7_getChars_2 3 := ⟨by decide +kernel, by decide +kernel, by decide +kernel⟩
theorem n_J7_getChars : zNm yJ7_getChars 4 := ⟨by decide +kernel, by decide +kernel, by decide +kernel⟩
theorem n_J4_append_3 : zNm yJ4_append_3 1 := ⟨by decide +kernel, by decide +kernel, by decide +kernel⟩
theorem n_J5_append_3 : zNm yJ5_append_3 1 := ⟨by decide +kernel, by decide +kernel, by decide +kernel⟩
theorem n_X1_textOf : zNm yX1_textOf 2 := ⟨by decide +kernel, by decide +kernel, by decide +kernel⟩
theorem n_J4_inflateIfNeededFor : zNm yJ4_inflateIfNeededFor 1 := ⟨by decide +kernel, by decide +kernel, by decide +kernel⟩
theorem n_J6_getBytes : zNm yJ6_getBytes 3 := ⟨by decide +kernel, by decide +kernel, by decide +kernel⟩
theorem n_J4_putStringAt : zNm yJ4_putStringAt 2 := ⟨by decide +kernel, by decide +kernel, by decide +kernel⟩
theorem n_J4_append : zNm yJ4_append 1 := ⟨by decide +kernel, by decide +kernel, by decide +kernel⟩
theorem n_J5_append : zNm yJ5_append 1 := ⟨by decide +kernel, by decide +kernel, by decide +kernel⟩
theorem n_X16_toString : zNm yX16_toString 0 := ⟨by decide +kernel, by decide +kernel, by decide +kernel⟩
theorem n_X2_describeStep : zNm yX2_describeStep 2 := ⟨by decide +kernel, by decide +kernel, by decide +kernel⟩
theorem n_X1_writeStep : zNm yX1_writeStep 3 := ⟨by decide +kernel, by decide +kernel, by decide +kernel⟩
theorem n_X0_writeStep : zNm yX0_writeStep 5 := ⟨by decide +kernel, by decide +kernel, by decide +kernel⟩
theorem n_X1_outputAt : zNm yX1_outputAt 1 := ⟨by decide +kernel, by decide +kernel, by decide +kernel⟩
theorem n_X0_outputAt : zNm yX0_outputAt 3 := ⟨by decide +kernel, by decide +kernel, by decide +kernel⟩
theorem n_J3_dec : zNm yJ3_dec 2 := ⟨by decide +kernel, by decide +kernel, by decide +kernel⟩
theorem n_J3_pollLast : zNm yJ3_pollLast 0 := ⟨by decide +kernel, by decide +kernel, by decide +kernel⟩
theorem n_J3_removeLast : zNm yJ3_removeLast 0 := ⟨by decide +kernel, by decide +kernel, by decide +kernel⟩
theorem n_X1_undo : zNm yX1_undo 0 := ⟨by decide +kernel, by decide +kernel, by decide +kernel⟩
theorem n_X0_undo : zNm yX0_undo 2 := ⟨by decide +kernel, by decide +kernel, by decide +kernel⟩
theorem n_J3_circularClear : zNm yJ3_circularClear 3 := ⟨by decide +kernel, by decide +kernel, by decide +kernel⟩
theorem n_J3_clear : zNm yJ3_clear 0 := ⟨by decide +kernel, by decide +kernel, by decide +kernel⟩
theorem n_X1_restore : zNm yX1_restore 0 := ⟨by decide +kernel, by decide +kernel, by decide +kernel⟩
theorem n_X0_restore : zNm yX0_restore 1 := ⟨by decide +kernel, by decide +kernel, by decide +kernel⟩
theorem n_X2_init : zNm yX2_init 0 := ⟨by decide +kernel, by decide +kernel, by decide +kernel⟩
theorem n_X1_init : zNm yX1_init 0 := ⟨by decide +kernel, by decide +kernel, by decide +kernel⟩
theorem n_X1_givenCount : zNm yX1_givenCount 0 := ⟨by decide +kernel, by decide +kernel, by decide +kernel⟩
theorem n_X1_allTrue : zNm yX1_allTrue 0 := ⟨by decide +kernel, by decide +kernel, by decide +kernel⟩
theorem n_X1_ruleCount : zNm yX1_ruleCount 0 := ⟨by decide +kernel, by decide +kernel, by decide +kernel⟩
theorem n_X1_givenByAccounts : zNm yX1_givenByAccounts 0 := ⟨by decide +kernel, by decide +kernel, by decide +kernel⟩
theorem n_X12_isSameAs : zNm yX12_isSameAs 1 := ⟨by decide +kernel, by decide +kernel, by decide +kernel⟩
theorem n_X2_isPredicateSo : zNm yX2_isPredicateSo 2 := ⟨by decide +kernel, by decide +kernel, by decide +kernel⟩
theorem n_X2_isConsistent : zNm yX2_isConsistent 0 := ⟨by decide +kernel, by decide +kernel, by decide +kernel⟩
theorem n_X1_isConsistent : zNm yX1_isConsistent 0 := ⟨by decide +kernel, by decide +kernel, by decide +kernel⟩
theorem n_X2_describeGiven : zNm yX2_describeGiven 0 := ⟨by decide +kernel, by decide +kernel, by decide +kernel⟩
theorem n_X1_writeGiven : zNm yX1_writeGiven 0 := ⟨by decide +kernel, by decide +kernel, by decide +kernel⟩
theorem n_X1_save : zNm yX1_save 0 := ⟨by decide +kernel, by decide +kernel, by decide +kernel⟩
theorem n_X6_init : zNm yX6_init 0 := ⟨by decide +kernel, by decide +kernel, by decide +kernel⟩
theorem n_X6_thrown : zNm yX6_thrown 0 := ⟨by decide +kernel, by decide +kernel, by decide +kernel⟩
theorem n_X6_copies : zNm yX6_copies 4 := ⟨by decide +kernel, by decide +kernel, by decide +kernel⟩
theorem n_X6_keeps : zNm yX6_keeps 0 := ⟨by decide +kernel, by decide +kernel, by decide +kernel⟩
theorem n_X6_isIn : zNm yX6_isIn 3 := ⟨by decide +kernel, by decide +kernel, by decide +kernel⟩
theorem n_X6_isPredicate : zNm yX6_isPredicate 1 := ⟨by decide +kernel, by decide +kernel, by decide +kernel⟩
theorem n_X6_isFact : zNm yX6_isFact 3 := ⟨by decide +kernel, by decide +kernel, by decide +kernel⟩
theorem n_X6_isThrown : zNm yX6_isThrown 2 := ⟨by decide +kernel, by decide +kernel, by decide +kernel⟩
theorem n_X6_isPair : zNm yX6_isPair 1 := ⟨by decide +kernel, by decide +kernel, by decide +kernel⟩
theorem n_X6_fact : zNm yX6_fact 3 := ⟨by decide +kernel, by decide +kernel, by decide +kernel⟩
theorem n_X6_factOf : zNm yX6_factOf 3 := ⟨by decide +kernel, by decide +kernel, by decide +kernel⟩
theorem n_X6_adds : zNm yX6_adds 3 := ⟨by decide +kernel, by decide +kernel, by decide +kernel⟩
theorem n_X6_ends : zNm yX6_ends 1 := ⟨by decide +kernel, by decide +kernel, by decide +kernel⟩
theorem n_X6_addFact : zNm yX6_addFact 3 := ⟨by decide +kernel, by decide +kernel, by decide +kernel⟩
theorem n_X6_of : zNm yX6_of 2 := ⟨by decide +kernel, by decide +kernel, by decide +kernel⟩
theorem n_X6_literal : zNm yX6_literal 3 := ⟨by decide +kernel, by decide +kernel, by decide +kernel⟩
theorem n_X6_needsBy : zNm yX6_needsBy 3 := ⟨by decide +kernel, by decide +kernel, by decide +kernel⟩
theorem n_X6_layers : zNm yX6_layers 0 := ⟨by decide +kernel, by decide +kernel, by decide +kernel⟩
theorem n_X6_hasVariable : zNm yX6_hasVariable 2 := ⟨by decide +kernel, by decide +kernel, by decide +kernel⟩
theorem n_X6_lastOf : zNm yX6_lastOf 2 := ⟨by decide +kernel, by decide +kernel, by decide +kernel⟩
theorem n_X6_isStep : zNm yX6_isStep 2 := ⟨by decide +kernel, by decide +kernel, by decide +kernel⟩
theorem n_X6_constant : zNm yX6_constant 1 := ⟨by decide +kernel, by decide +kernel, by decide +kernel⟩
theorem n_X6_factOfLiteral : zNm yX6_factOfLiteral 2 := ⟨by decide +kernel, by decide +kernel, by decide +kernel⟩
theorem n_X6_holds : zNm yX6_holds 2 := ⟨by decide +kernel, by decide +kernel, by decide +kernel⟩
theorem n_X6_holdsAll : zNm yX6_holdsAll 1 := ⟨by decide +kernel, by decide +kernel, by decide +kernel⟩
theorem n_X6_head : zNm yX6_head 1 := ⟨by decide +kernel, by decide +kernel, by decide +kernel⟩
theorem n_X6_next : zNm yX6_next 2 := ⟨by decide +kernel, by decide +kernel, by decide +kernel⟩
theorem n_X6_makes : zNm yX6_makes 1 := ⟨by decide +kernel, by decide +kernel, by decide +kernel⟩
theorem n_X6_derives : zNm yX6_derives 0 := ⟨by decide +kernel, by decide +kernel, by decide +kernel⟩
theorem n_X6_heightBy : zNm yX6_heightBy 1 := ⟨by decide +kernel, by decide +kernel, by decide +kernel⟩
theorem n_X6_lowers : zNm yX6_lowers 1 := ⟨by decide +kernel, by decide +kernel, by decide +kernel⟩
theorem n_X6_chooses : zNm yX6_chooses 1 := ⟨by decide +kernel, by decide +kernel, by decide +kernel⟩
theorem n_X6_measures : zNm yX6_measures 0 := ⟨by decide +kernel, by decide +kernel, by decide +kernel⟩
theorem n_X6_finds : zNm yX6_finds 0 := ⟨by decide +kernel, by decide +kernel, by decide +kernel⟩
theorem n_X6_remembers : zNm yX6_remembers 0 := ⟨by decide +kernel, by decide +kernel, by decide +kernel⟩
theorem n_X6_isNotGiven : zNm yX6_isNotGiven 3 := ⟨by decide +kernel, by decide +kernel, by decide +kernel⟩
theorem n_X6_takes : zNm yX6_takes 3 := ⟨by decide +kernel, by decide +kernel, by decide +kernel⟩
theorem n_X6_unlike : zNm yX6_unlike 1 := ⟨by decide +kernel, by decide +kernel, by decide +kernel⟩
theorem n_X6_takeFact : zNm yX6_takeFact 3 := ⟨by decide +kernel, by decide +kernel, by decide +kernel⟩
theorem n_X6_isRule : zNm yX6_isRule 1 := ⟨by decide +kernel, by decide +kernel, by decide +kernel⟩
theorem n_X6_drops : zNm yX6_drops 1 := ⟨by decide +kernel, by decide +kernel, by decide +kernel⟩
theorem n_X6_dropRule : zNm yX6_dropRule 1 := ⟨by decide +kernel, by decide +kernel, by decide +kernel⟩
theorem n_X6_givenCount : zNm yX6_givenCount 0 := ⟨by decide +kernel, by decide +kernel, by decide +kernel⟩
theorem n_X6_isGiven : zNm yX6_isGiven 3 := ⟨by decide +kernel, by decide +kernel, by decide +kernel⟩
theorem n_X6_isTrue : zNm yX6_isTrue 3 := ⟨by decide +kernel, by decide +kernel, by decide +kernel⟩
theorem n_X6_isTrueByTrying : zNm yX6_isTrueByTrying 3 := ⟨by decide +kernel, by decide +kernel, by decide +kernel⟩
theorem n_X6_begin : zNm yX6_begin 1 := ⟨by decide +kernel, by decide +kernel, by decide +kernel⟩
theorem n_X6_end : zNm yX6_end 1 := ⟨by decide +kernel, by decide +kernel, by decide +kernel⟩
theorem n_X6_trueMany : zNm yX6_trueMany 2 := ⟨by decide +kernel, by decide +kernel, by decide +kernel⟩
theorem n_X6_trueCount : zNm yX6_trueCount 1 := ⟨by decide +kernel, by decide +kernel, by decide +kernel⟩
theorem n_X6_allTrue : zNm yX6_allTrue 0 := ⟨by decide +kernel, by decide +kernel, by decide +kernel⟩
theorem n_X6_gainedWithout : zNm yX6_gainedWithout 3 := ⟨by decide +kernel, by decide +kernel, by decide +kernel⟩
theorem n_X6_trueWith : zNm yX6_trueWith 2 := ⟨by decide +kernel, by decide +kernel, by decide +kernel⟩
theorem n_X6_constantAtRank : zNm yX6_constantAtRank 2 := ⟨by decide +kernel, by decide +kernel, by decide +kernel⟩
theorem n_X6_greatest : zNm yX6_greatest 1 := ⟨by decide +kernel, by decide +kernel, by decide +kernel⟩
theorem n_X6_isNotTrue : zNm yX6_isNotTrue 3 := ⟨by decide +kernel, by decide +kernel, by decide +kernel⟩
theorem n_X6_height : zNm yX6_height 3 := ⟨by decide +kernel, by decide +kernel, by decide +kernel⟩
theorem n_X6_heightByLevels : zNm yX6_heightByLevels 3 := ⟨by decide +kernel, by decide +kernel, by decide +kernel⟩
theorem n_X6_ruleOf : zNm yX6_ruleOf 3 := ⟨by decide +kernel, by decide +kernel, by decide +kernel⟩
theorem n_X6_sizeBy : zNm yX6_sizeBy 1 := ⟨by decide +kernel, by decide +kernel, by decide +kernel⟩
theorem n_X6_sizes : zNm yX6_sizes 0 := ⟨by decide +kernel, by decide +kernel, by decide +kernel⟩
theorem n_X6_proofSize : zNm yX6_proofSize 3 := ⟨by decide +kernel, by decide +kernel, by decide +kernel⟩
theorem n_X6_isGoal : zNm yX6_isGoal 3 := ⟨by decide +kernel, by decide +kernel, by decide +kernel⟩
theorem n_X6_predicate : zNm yX6_predicate 1 := ⟨by decide +kernel, by decide +kernel, by decide +kernel⟩
theorem n_X6_isAnswer : zNm yX6_isAnswer 4 := ⟨by decide +kernel, by decide +kernel, by decide +kernel⟩
theorem n_X6_answers : zNm yX6_answers 3 := ⟨by decide +kernel, by decide +kernel, by decide +kernel⟩
theorem n_X6_answersByGoals : zNm yX6_answersByGoals 3 := ⟨by decide +kernel, by decide +kernel, by decide +kernel⟩
theorem n_X6_answerAt : zNm yX6_answerAt 4 := ⟨by decide +kernel, by decide +kernel, by decide +kernel⟩
theorem n_X6_ruleCount : zNm yX6_ruleCount 0 := ⟨by decide +kernel, by decide +kernel, by decide +kernel⟩
theorem n_X6_variables : zNm yX6_variables 1 := ⟨by decide +kernel, by decide +kernel, by decide +kernel⟩
theorem n_X6_depends : zNm yX6_depends 0 := ⟨by decide +kernel, by decide +kernel, by decide +kernel⟩
theorem n_X6_isRecursive : zNm yX6_isRecursive 1 := ⟨by decide +kernel, by decide +kernel, by decide +kernel⟩
theorem n_X6_stepsOf : zNm yX6_stepsOf 1 := ⟨by decide +kernel, by decide +kernel, by decide +kernel⟩
theorem n_X6_layerOf : zNm yX6_layerOf 1 := ⟨by decide +kernel, by decide +kernel, by decide +kernel⟩
theorem n_X6_layerByChains : zNm yX6_layerByChains 1 := ⟨by decide +kernel, by decide +kernel, by decide +kernel⟩
theorem n_X6_dependsOn : zNm yX6_dependsOn 2 := ⟨by decide +kernel, by decide +kernel, by decide +kernel⟩
theorem n_X6_givenByAccounts : zNm yX6_givenByAccounts 0 := ⟨by decide +kernel, by decide +kernel, by decide +kernel⟩
theorem n_X6_reason : zNm yX6_reason 0 := ⟨by decide +kernel, by decide +kernel, by decide +kernel⟩
theorem n_X6_detail : zNm yX6_detail 0 := ⟨by decide +kernel, by decide +kernel, by decide +kernel⟩
theorem n_X6_meanHeight : zNm yX6_meanHeight 0 := ⟨by decide +kernel, by decide +kernel, by decide +kernel⟩
theorem n_X6_derivedShare : zNm yX6_derivedShare 0 := ⟨by decide +kernel, by decide +kernel, by decide +kernel⟩
theorem n_X6_isConsistent : zNm yX6_isConsistent 0 := ⟨by decide +kernel, by decide +kernel, by decide +kernel⟩
theorem n_X6_append : zNm yX6_append 1 := ⟨by decide +kernel, by decide +kernel, by decide +kernel⟩
theorem n_X6_now : zNm yX6_now 0 := ⟨by decide +kernel, by decide +kernel, by decide +kernel⟩
theorem n_X6_isSign : zNm yX6_isSign 1 := ⟨by decide +kernel, by decide +kernel, by decide +kernel⟩
theorem n_X6_isWord : zNm yX6_isWord 1 := ⟨by decide +kernel, by decide +kernel, by decide +kernel⟩
theorem n_X6_isDigit : zNm yX6_isDigit 1 := ⟨by decide +kernel, by decide +kernel, by decide +kernel⟩
theorem n_X6_isTerm : zNm yX6_isTerm 1 := ⟨by decide +kernel, by decide +kernel, by decide +kernel⟩
theorem n_X6_isAtom : zNm yX6_isAtom 2 := ⟨by decide +kernel, by decide +kernel, by decide +kernel⟩
theorem n_X6_isLiteral : zNm yX6_isLiteral 1 := ⟨by decide +kernel, by decide +kernel, by decide +kernel⟩
theorem n_X6_readsRule : zNm yX6_readsRule 1 := ⟨by decide +kernel, by decide +kernel, by decide +kernel⟩
theorem n_X6_readsRest : zNm yX6_readsRest 2 := ⟨by decide +kernel, by decide +kernel, by decide +kernel⟩
theorem n_X6_readsCommand : zNm yX6_readsCommand 0 := ⟨by decide +kernel, by decide +kernel, by decide +kernel⟩
theorem n_X6_isProgram : zNm yX6_isProgram 0 := ⟨by decide +kernel, by decide +kernel, by decide +kernel⟩
theorem n_X6_writesRule : zNm yX6_writesRule 2 := ⟨by decide +kernel, by decide +kernel, by decide +kernel⟩
theorem n_X6_occurs : zNm yX6_occurs 3 := ⟨by decide +kernel, by decide +kernel, by decide +kernel⟩
theorem n_X6_unsafe : zNm yX6_unsafe 1 := ⟨by decide +kernel, by decide +kernel, by decide +kernel⟩
theorem n_X6_areSame : zNm yX6_areSame 2 := ⟨by decide +kernel, by decide +kernel, by decide +kernel⟩
theorem n_X6_sameAs : zNm yX6_sameAs 1 := ⟨by decide +kernel, by decide +kernel, by decide +kernel⟩
theorem n_X6_isRefused : zNm yX6_isRefused 3 := ⟨by decide +kernel, by decide +kernel, by decide +kernel⟩
theorem n_X6_isLayered : zNm yX6_isLayered 0 := ⟨by decide +kernel, by decide +kernel, by decide +kernel⟩
theorem n_X6_addsRule : zNm yX6_addsRule 1 := ⟨by decide +kernel, by decide +kernel, by decide +kernel⟩
theorem n_X6_does : zNm yX6_does 1 := ⟨by decide +kernel, by decide +kernel, by decide +kernel⟩
theorem n_X6_run : zNm yX6_run 0 := ⟨by decide +kernel, by decide +kernel, by decide +kernel⟩
theorem n_X6_errorPosition : zNm yX6_errorPosition 0 := ⟨by decide +kernel, by decide +kernel, by decide +kernel⟩
theorem n_X6_failedCommand : zNm yX6_failedCommand 0 := ⟨by decide +kernel, by decide +kernel, by decide +kernel⟩
theorem n_X6_writes : zNm yX6_writes 1 := ⟨by decide +kernel, by decide +kernel, by decide +kernel⟩
theorem n_X6_writeRule : zNm yX6_writeRule 1 := ⟨by decide +kernel, by decide +kernel, by decide +kernel⟩
theorem n_X6_writesFact : zNm yX6_writesFact 1 := ⟨by decide +kernel, by decide +kernel, by decide +kernel⟩
theorem n_X6_writesAll : zNm yX6_writesAll 1 := ⟨by decide +kernel, by decide +kernel, by decide +kernel⟩
theorem n_X6_writesPremises : zNm yX6_writesPremises 1 := ⟨by decide +kernel, by decide +kernel, by decide +kernel⟩
theorem n_X6_writeStep : zNm yX6_writeStep 3 := ⟨by decide +kernel, by decide +kernel, by decide +kernel⟩
theorem n_X6_writeGiven : zNm yX6_writeGiven 0 := ⟨by decide +kernel, by decide +kernel, by decide +kernel⟩
theorem n_X6_outputAt : zNm yX6_outputAt 1 := ⟨by decide +kernel, by decide +kernel, by decide +kernel⟩
theorem n_X6_undo : zNm yX6_undo 0 := ⟨by decide +kernel, by decide +kernel, by decide +kernel⟩
theorem n_X6_save : zNm yX6_save 0 := ⟨by decide +kernel, by decide +kernel, by decide +kernel⟩
theorem n_X6_restore : zNm yX6_restore 0 := ⟨by decide +kernel, by decide +kernel, by decide +kernel⟩
theorem nx_java_util_Collection_toArray____Ljava_lang_Object_ : zNm ⟨"java/util/Collection", "toArray", "()[Ljava/lang/Object;"⟩ 0 := ⟨by decide +kernel, by decide +kernel, by decide +kernel⟩
theorem nx_java_util_List_addAll__Ljava_util_Collection__Z : zNm ⟨"java/util/List", "addAll", "(Ljava/util/Collection;)Z"⟩ 1 := ⟨by decide +kernel, by decide +kernel, by decide +kernel⟩
theorem nx_java_util_Deque_addLast__Ljava_lang_Object__V : zNm ⟨"java/util/Deque", "addLast", "(Ljava/lang/Object;)V"⟩ 1 := ⟨by decide +kernel, by decide +kernel, by decide +kernel⟩
theorem nx_java_util_Deque_removeFirst___Ljava_lang_Object_ : zNm ⟨"java/util/Deque", "removeFirst", "()Ljava/lang/Object;"⟩ 0 := ⟨by decide +kernel, by decide +kernel, by decide +kernel⟩
theorem nx_java_util_Deque_size___I : zNm ⟨"java/util/Deque", "size", "()I"⟩ 0 := ⟨by decide +kernel, by decide +kernel, by decide +kernel⟩
theorem nx_BrambleLogic_Literal_isPositive___Z : zNm ⟨"BrambleLogic$Literal", "isPositive", "()Z"⟩ 0 := ⟨by decide +kernel, by decide +kernel, by decide +kernel⟩
theorem nx_BrambleLogic_Literal_atom___Ljava_util_Optional_ : zNm ⟨"BrambleLogic$Literal", "atom", "()Ljava/util/Optional;"⟩ 0 := ⟨by decide +kernel, by decide +kernel, by decide +kernel⟩
theorem nx_BrambleLogic_Literal_isNegative___Z : zNm ⟨"BrambleLogic$Literal", "isNegative", "()Z"⟩ 0 := ⟨by decide +kernel, by decide +kernel, by decide +kernel⟩
theorem nx_java_util_Iterator_next___Ljava_lang_Object_ : zNm ⟨"java/util/Iterator", "next", "()Ljava/lang/Object;"⟩ 0 := ⟨by decide +kernel, by decide +kernel, by decide +kernel⟩
theorem nx_java_util_Iterator_hasNext___Z : zNm ⟨"java/util/Iterator", "hasNext", "()Z"⟩ 0 := ⟨by decide +kernel, by decide +kernel, by decide +kernel⟩
theorem nx_java_util_List_iterator___Ljava_util_Iterator_ : zNm ⟨"java/util/List", "iterator", "()Ljava/util/Iterator;"⟩ 0 := ⟨by decide +kernel, by decide +kernel, by decide +kernel⟩
theorem nx_java_util_List_add__Ljava_lang_Object__Z : zNm ⟨"java/util/List", "add", "(Ljava/lang/Object;)Z"⟩ 1 := ⟨by decide +kernel, by decide +kernel, by decide +kernel⟩
theorem nx_BrambleLogic_Literal_holds__LBrambleLogic_Facts__I_Z : zNm ⟨"BrambleLogic$Literal", "holds", "(LBrambleLogic$Facts;[I)Z"⟩ 2 := ⟨by decide +kernel, by decide +kernel, by decide +kernel⟩
theorem nx_java_util_List_get__I_Ljava_lang_Object_ : zNm ⟨"java/util/List", "get", "(I)Ljava/lang/Object;"⟩ 1 := ⟨by decide +kernel, by decide +kernel, by decide +kernel⟩
theorem nx_java_util_List_size___I : zNm ⟨"java/util/List", "size", "()I"⟩ 0 := ⟨by decide +kernel, by decide +kernel, by decide +kernel⟩
theorem nx_java_util_List_remove__I_Ljava_lang_Object_ : zNm ⟨"java/util/List", "remove", "(I)Ljava/lang/Object;"⟩ 1 := ⟨by decide +kernel, by decide +kernel, by decide +kernel⟩
theorem nx_BrambleLogic_Steps_meet__LBrambleLogic_Rule__I_V : zNm ⟨"BrambleLogic$Steps", "meet", "(LBrambleLogic$Rule;[I)V"⟩ 2 := ⟨by decide +kernel, by decide +kernel, by decide +kernel⟩
theorem nx_BrambleLogic_Trying_take__LBrambleLogic_Rule_LBrambleLogic_Facts__V : zNm ⟨"BrambleLogic$Trying", "take", "(LBrambleLogic$Rule;LBrambleLogic$Facts;)V"⟩ 2 := ⟨by decide +kernel, by decide +kernel, by decide +kernel⟩
theorem nx_BrambleLogic_Heights_First_take__LBrambleLogic_Rule_LBrambleLogic_Facts__V : zNm ⟨"BrambleLogic$Heights$First", "take", "(LBrambleLogic$Rule;LBrambleLogic$Facts;)V"⟩ 2 := ⟨by decide +kernel, by decide +kernel, by decide +kernel⟩
theorem nx_java_util_Deque_isEmpty___Z : zNm ⟨"java/util/Deque", "isEmpty", "()Z"⟩ 0 := ⟨by decide +kernel, by decide +kernel, by decide +kernel⟩
theorem nx_BrambleLogic_Logic_Counting_take__LBrambleLogic_Rule_LBrambleLogic_Facts__V : zNm ⟨"BrambleLogic$Logic$Counting", "take", "(LBrambleLogic$Rule;LBrambleLogic$Facts;)V"⟩ 2 := ⟨by decide +kernel, by decide +kernel, by decide +kernel⟩
theorem nx_java_lang_AbstractStringBuilder_length___I : zNm ⟨"java/lang/AbstractStringBuilder", "length", "()I"⟩ 0 := ⟨by decide +kernel, by decide +kernel, by decide +kernel⟩
theorem nx_BrambleLogic_Literal_mask___I : zNm ⟨"BrambleLogic$Literal", "mask", "()I"⟩ 0 := ⟨by decide +kernel, by decide +kernel, by decide +kernel⟩
theorem nx_java_util_Deque_removeLast___Ljava_lang_Object_ : zNm ⟨"java/util/Deque", "removeLast", "()Ljava/lang/Object;"⟩ 0 := ⟨by decide +kernel, by decide +kernel, by decide +kernel⟩
theorem nx_java_util_Deque_clear___V : zNm ⟨"java/util/Deque", "clear", "()V"⟩ 0 := ⟨by decide +kernel, by decide +kernel, by decide +kernel⟩
section ZGEN1
variable {p : Program} {l : Launch} {e : Env} {R : Room} {s : State} {m : MethodId} {args : Array Value} {below : List Frame} {meth : Method} {c : Code} {E : zE} {D : va_G} {tA : Nat → ClassId} {k0 : Nat}
/-! J0_init -/
def s_J0_init (E : zE) (a0 : Option Nat) : zM := zSp a0 (fun _ => zRet none)
theorem m_J0_init {l : Launch} {E : zE} {D : va_G} {tA : Nat → ClassId} (hl : l.stackTraces = false) (a0 : Option Nat) : zMet l E D tA yJ0_init (ws_ yJ0_init cJ0_init 1 (Option.none : Option Jvm.ClassFile.FieldType)) 9 (s_J0_init E a0) [zP a0] := by
  refine z_met hl (by decide +kernel) (by rw [zSl_len]; exact (Nat.le_of_ble_eq_true rfl)) fun p e R s m args below meth c k0 x hret hnm htab => ?_
  refine z_lv [(0, zP a0)] rfl ?_
  unfold s_J0_init
  refine z_aload_n (pc := 0) x 0 dJ0_init_0 rfl rfl ?_
  refine z_objInit (pc := 1) x q192 q173 q174 (by omega) (zSum (k := 0) rfl (by omega)) dJ0_init_1 ?_
  exact z_vret (pc := 4) x hret dJ0_init_4
/-! J1_init -/
def s_J1_init (E : zE) (a0 : Option Nat) : zM := zC (zSp a0 (fun b => s_J0_init E (some b))) zThr (zKV (zSet E a0 10 0 (zVal (zI (0 : Int32))) (zRet none)))
theorem m_J1_init {l : Launch} {E : zE} {D : va_G} {tA : Nat → ClassId} (hl : l.stackTraces = false) (a0 : Option Nat) : zMet l E D tA yJ1_init (ws_ yJ1_init cJ1_init 1 (Option.none : Option Jvm.ClassFile.FieldType)) 10 (s_J1_init E a0) [zP a0] := by
  refine z_met hl (by decide +kernel) (by rw [zSl_len]; exact (Nat.le_of_ble_eq_true rfl)) fun p e R s m args below meth c k0 x hret hnm htab => ?_
  refine z_lv [(0, zP a0)] rfl ?_
  unfold s_J1_init
  refine z_aload_n (pc := 0) x 0 dJ1_init_0 rfl rfl ?_
  refine z_call (pc := 1) (z_canI (pc := 1) (ret := none) (As := []) (st := []) x (fun b => m_J0_init hl (some b)) q189 rfl q190 q110 q191 n_J0_init ⟨by decide, by decide⟩ (Nat.le_of_ble_eq_true rfl) dJ1_init_1) (zv_V ?_) (fun q => zx_thr x (fun z hz => (htab z hz).elim) q)
  refine z_aload_n (pc := 4) x 0 dJ1_init_4 rfl rfl ?_
  refine z_iconst (pc := 5) x (v := (0 : Int32)) dJ1_init_5 rfl ?_
  refine z_set (pc := 6) (v := zI (0 : Int32)) x in_J2 tyJ2 tyJ2_ok nmJ2 (ci := 10) rfl (k := 0) (by decide) q199 (fun _ h => h) rfl rfl rfl dJ1_init_6 ?_
  exact z_vret (pc := 9) x hret dJ1_init_9
/-! J2_init -/
def s_J2_init (E : zE) (a0 : Option Nat) : zM := zC (zSp a0 (fun b => s_J1_init E (some b))) zThr (zKV (zSet E a0 10 1 (zVal (zP (some (E 5)))) (zRet none)))
theorem m_J2_init {l : Launch} {E : zE} {D : va_G} {tA : Nat → ClassId} (hl : l.stackTraces = false) (a0 : Option Nat) : zMet l E D tA yJ2_init (ws_ yJ2_init cJ2_init 1 (Option.none : Option Jvm.ClassFile.FieldType)) 11 (s_J2_init E a0) [zP a0] := by
  refine z_met hl (by decide +kernel) (by rw [zSl_len]; exact (Nat.le_of_ble_eq_true rfl)) fun p e R s m args below meth c k0 x hret hnm htab => ?_
  refine z_lv [(0, zP a0)] rfl ?_
  unfold s_J2_init
  refine z_aload_n (pc := 0) x 0 dJ2_init_0 rfl rfl ?_
  refine z_call (pc := 1) (z_canI (pc := 1) (ret := none) (As := []) (st := []) x (fun b => m_J1_init hl (some b)) q186 rfl q187 q111 q188 n_J1_init ⟨by decide, by decide⟩ (Nat.le_of_ble_eq_true rfl) dJ2_init_1) (zv_V ?_) (fun q => zx_thr x (fun z hz => (htab z hz).elim) q)
  refine z_aload_n (pc := 4) x 0 dJ2_init_4 rfl rfl ?_
  refine z_staR (pc := 5) x (k := 5) (by decide) q193 dJ2_init_5 ?_
  refine z_set (pc := 8) (v := zP (some (E 5))) x in_J2 tyJ2 tyJ2_ok nmJ2 (ci := 10) rfl (k := 1) (by decide) q195 (fun _ h => h) rfl (zfitR rfl _).1 (zfitR rfl _).2 dJ2_init_8 ?_
  exact z_vret (pc := 11) x hret dJ2_init_11
/-! X3_init -/
def s_X3_init (E : zE) (a0 : Option Nat) : zM := zSp a0 (fun _ => zRet none)
theorem m_X3_init {l : Launch} {E : zE} {D : va_G} {tA : Nat → ClassId} (hl : l.stackTraces = false) (a0 : Option Nat) : zMet l E D tA yX3_init (ws_ yX3_init cX3_init 1 (Option.none : Option Jvm.ClassFile.FieldType)) 9 (s_X3_init E a0) [zP a0] := by
  refine z_met hl (by decide +kernel) (by rw [zSl_len]; exact (Nat.le_of_ble_eq_true rfl)) fun p e R s m args below meth c k0 x hret hnm htab => ?_
  refine z_lv [(0, zP a0)] rfl ?_
  unfold s_X3_init
  refine z_aload_n (pc := 0) x 0 dX3_init_0 rfl rfl ?_
  refine z_objInit (pc := 1) x q215 q173 q174 (by omega) (zSum (k := 0) rfl (by omega)) dX3_init_1 ?_
  exact z_vret (pc := 4) x hret dX3_init_4
/-! X5_init_2 -/
def s_X5_init_2 (E : zE) (a0 : Option Nat) (a1 : Option Nat) : zM := zSp a0 (fun _ => zGetR a1 33 0 (fun v6 => zCln 0 v6 (fun v9 => zCsA 0 v9 (zSet E a0 33 0 (zVal (zP v9)) (zRet none)))))
theorem m_X5_init_2 {l : Launch} {E : zE} {D : va_G} {tA : Nat → ClassId} (hl : l.stackTraces = false) (a0 : Option Nat) (a1 : Option Nat) : zMet l E D tA yX5_init_2 (ws_ yX5_init_2 cX5_init_2 2 (Option.none : Option Jvm.ClassFile.FieldType)) 9 (s_X5_init_2 E a0 a1) [zP a0, zP a1] := by
  refine z_met hl (by decide +kernel) (by rw [zSl_len]; exact (Nat.le_of_ble_eq_true rfl)) fun p e R s m args below meth c k0 x hret hnm htab => ?_
  refine z_lv [(0, zP a0), (1, zP a1)] rfl ?_
  unfold s_X5_init_2
  refine z_aload_n (pc := 0) x 0 dX5_init_2_0 rfl rfl ?_
  refine z_objInit (pc := 1) x q235 q173 q174 (by omega) (zSum (k := 0) rfl (by omega)) dX5_init_2_1 ?_
  refine z_aload_n (pc := 4) x 0 dX5_init_2_4 rfl rfl ?_
  refine z_aload_n (pc := 5) x 1 dX5_init_2_5 rfl rfl ?_
  refine z_get (pc := 6) (fun _ _ h => zAsR_eq h) x in_X5 (ci := 33) rfl (k := 0) (by decide) q236 (fun _ h => h) dX5_init_2_6 fun v6 => ?_
  refine z_cln (pc := 9) x (t := 0) (ad := "[I") rfl (fun _ hc => hc) q628 q629 q630 q631 q632 q633 (by omega) (zSum (k := 1) rfl (by omega)) dX5_init_2_9 fun v9 => ?_
  refine z_csA (pc := 12) x (t := 0) rfl (fun _ hc => hc) q634 dX5_init_2_12 ?_
  refine z_setF (pc := 15) (v := zP v9) x in_X5 tyX5 tyX5_ok nmX5 (ci := 33) rfl (k := 0) (by decide) q236 (fun _ h => h) rfl hnm rfl (zfitR rfl _).1 (zfitR rfl _).2 dX5_init_2_15 ?_
  exact z_vret (pc := 18) x hret dX5_init_2_18
/-! X4_init_2 -/
def s_X4_init_2_15 (E : zE) : Nat → Option Nat → Option Nat → Int32 → zM
  | 0, _, _, _ => zFail
  | n + 1, a0, a1, a2 => if (8 : Int32) ≤ a2 then (zRet none) else (zGetR a0 32 0 (fun v22 => zNew 33 1 [.null] (fun v26 => zGetR a1 32 0 (fun v31 => zGaR 6 v31 a2 (fun v35 => zC (zSp v26 (fun b => s_X5_init_2 E (some b) v35)) zThr (zKV (zSaS E 6 33 v22 a2 v26 ((s_X4_init_2_15 E n) a0 a1 (a2 + (1 : Int32))))))))))
theorem w_X4_init_2_15 (x : zCx p l R s m args meth c E D tA cX4_init_2 3 yX4_init_2.cls 10) (hl : l.stackTraces = false) (hret : meth.sig.returnType = (Option.none : Option Jvm.ClassFile.FieldType)) (hnm : meth.name = yX4_init_2.name) (htab : ∀ z ∈ c.exceptionTable.toList, False) : ∀ (n : Nat) (a0 : Option Nat) (a1 : Option Nat) (a2 : Int32), zW p l e R s m args below meth c E D tA 3 k0 (s_X4_init_2_15 E n a0 a1 a2) [(0, zP a0), (1, zP a1), (2, zI a2)] 15 [] := by
  intro n
  induction n with
  | zero => intro a0 a1 a2; exact z_fail
  | succ n h15 =>
    intro a0 a1 a2
    rw [s_X4_init_2_15]
    refine z_iload_n (pc := 15) x 2 dX4_init_2_15 rfl rfl ?_
    refine z_bipush (pc := 16) x (v := (8 : Int32)) dX4_init_2_16 rfl ?_
    refine z_icmp_ge (pc := 18) (tgt := 46) x dX4_init_2_18 rfl (fun _ => ?_) (fun _ => ?_)
    · exact z_vret (pc := 46) x hret dX4_init_2_46
    · refine z_aload_n (pc := 21) x 0 dX4_init_2_21 rfl rfl ?_
      refine z_get (pc := 22) (fun _ _ h => zAsR_eq h) x in_X4 (ci := 32) rfl (k := 0) (by decide) q241 (fun _ h => h) dX4_init_2_22 fun v22 => ?_
      refine z_iload_n (pc := 25) x 2 dX4_init_2_25 rfl rfl ?_
      refine z_new (pc := 26) x in_X5 tyX5 tyX5_ok q229 q231 q115 (ci := 33) rfl (by decide) (by decide +kernel) dX4_init_2_26 fun v26 => ?_
      refine z_dup (pc := 29) x dX4_init_2_29 rfl ?_
      refine z_aload_n (pc := 30) x 1 dX4_init_2_30 rfl rfl ?_
      refine z_get (pc := 31) (fun _ _ h => zAsR_eq h) x in_X4 (ci := 32) rfl (k := 0) (by decide) q241 (fun _ h => h) dX4_init_2_31 fun v31 => ?_
      refine z_iload_n (pc := 34) x 2 dX4_init_2_34 rfl rfl ?_
      refine z_aald (pc := 35) x (t := 6) rfl rfl dX4_init_2_35 fun v35 => ?_
      refine z_call (pc := 36) (z_canI (pc := 36) (ret := none) (As := [zP v35]) (st := [zP v26, zI a2, zP v22]) x (fun b => m_X5_init_2 hl (some b) v35) q625 rfl q626 q115 q627 n_X5_init_2 ⟨by decide, by decide⟩ (Nat.le_of_ble_eq_true rfl) dX4_init_2_36) (zv_V ?_) (fun q => zx_thr x (fun z hz => (htab z hz).elim) q)
      refine z_aastS (pc := 39) x (t := 6) (ci := 33) rfl rfl dX4_init_2_39 ?_
      refine z_iinc (pc := 40) (lv' := [(2, zI (a2 + (1 : Int32))), (0, zP a0), (1, zP a1)]) x (v2 := (a2 + (1 : Int32))) 2 dX4_init_2_40 rfl rfl (Nat.le_of_ble_eq_true rfl) rfl ?_
      refine z_goto (pc := 43) (tgt := 15) x dX4_init_2_43 rfl ?_
      exact z_sub [1, 2, 0] rfl (h15 a0 a1 (a2 + (1 : Int32)))
def s_X4_init_2 (E : zE) (a0 : Option Nat) (a1 : Option Nat) : zM := zSp a0 (fun _ => zNewA 6 zAr0R (8 : Int32) (fun v7 => zSet E a0 32 0 (zVal (zP v7)) (s_X4_init_2_15 E zN a0 a1 (0 : Int32))))
theorem m_X4_init_2 {l : Launch} {E : zE} {D : va_G} {tA : Nat → ClassId} (hl : l.stackTraces = false) (a0 : Option Nat) (a1 : Option Nat) : zMet l E D tA yX4_init_2 (ws_ yX4_init_2 cX4_init_2 3 (Option.none : Option Jvm.ClassFile.FieldType)) 10 (s_X4_init_2 E a0 a1) [zP a0, zP a1] := by
  refine z_met hl (by decide +kernel) (by rw [zSl_len]; exact (Nat.le_of_ble_eq_true rfl)) fun p e R s m args below meth c k0 x hret hnm htab => ?_
  refine z_lv [(0, zP a0), (1, zP a1)] rfl ?_
  unfold s_X4_init_2
  refine z_aload_n (pc := 0) x 0 dX4_init_2_0 rfl rfl ?_
  refine z_objInit (pc := 1) x q228 q173 q174 (by omega) (zSum (k := 0) rfl (by omega)) dX4_init_2_1 ?_
  refine z_aload_n (pc := 4) x 0 dX4_init_2_4 rfl rfl ?_
  refine z_bipush (pc := 5) x (v := (8 : Int32)) dX4_init_2_5 rfl ?_
  refine z_newQ (pc := 7) x (t := 6) rfl q229 q230 dX4_init_2_7 fun v7 => ?_
  refine z_setF (pc := 10) (v := zP v7) x in_X4 tyX4 tyX4_ok nmX4 (ci := 32) rfl (k := 0) (by decide) q241 (fun _ h => h) rfl hnm rfl (zfitR rfl _).1 (zfitR rfl _).2 dX4_init_2_10 ?_
  refine z_iconst (pc := 13) x (v := (0 : Int32)) dX4_init_2_13 rfl ?_
  refine z_istore_n (pc := 14) (lv' := [(2, zI (0 : Int32)), (0, zP a0), (1, zP a1)]) x dX4_init_2_14 rfl (Nat.le_of_ble_eq_true rfl) rfl ?_
  exact z_sub [1, 2, 0] rfl (w_X4_init_2_15 x hl hret hnm htab zN a0 a1 (0 : Int32))
/-! J8_copyOf_2 -/
def s_J8_copyOf_2 (E : zE) (a0 : Option Nat) (a1 : Int32) (a2 : Option Nat) : zM := if a2 = (some (E 10)) then (zNewA 5 zAr0R a1 (fun v7 => zLen a0 (fun v30 => zCpR E 5 1 a0 (0 : Int32) v7 (0 : Int32) (if a1 < v30 then a1 else v30) (zRet (some (va_rf v7)))))) else zFail
theorem m_J8_copyOf_2 {l : Launch} {E : zE} {D : va_G} {tA : Nat → ClassId} (hl : l.stackTraces = false) (a0 : Option Nat) (a1 : Int32) (a2 : Option Nat) : zMet l E D tA yJ8_copyOf_2 (ws_ yJ8_copyOf_2 cJ8_copyOf_2 4 (Option.some (Jvm.ClassFile.FieldType.array (Jvm.ClassFile.FieldType.object "java/lang/Object")))) 9 (s_J8_copyOf_2 E a0 a1 a2) [zP a0, zI a1, zP a2] := by
  refine z_met hl (by decide +kernel) (by rw [zSl_len]; exact (Nat.le_of_ble_eq_true rfl)) fun p e R s m args below meth c k0 x hret hnm htab => ?_
  refine z_lv [(0, zP a0), (1, zI a1), (2, zP a2)] rfl ?_
  unfold s_J8_copyOf_2
  refine z_aload_n (pc := 0) x 2 dJ8_copyOf_2_0 rfl rfl ?_
  refine z_ldcM (pc := 1) x (k := 10) (by decide) q737 dJ8_copyOf_2_1 ?_
  refine z_acmp_ne (pc := 3) (tgt := 13) x dJ8_copyOf_2_3 rfl (fun _ => ?_) (fun _ => ?_)
  · refine z_iload_n (pc := 6) x 1 dJ8_copyOf_2_6 rfl rfl ?_
    refine z_newQ (pc := 7) x (t := 5) rfl q738 q275 dJ8_copyOf_2_7 fun v7 => ?_
    refine z_goto (pc := 10) (tgt := 24) x dJ8_copyOf_2_10 rfl ?_
    refine z_astore_n (pc := 24) (lv' := [(3, zP v7), (0, zP a0), (1, zI a1), (2, zP a2)]) x dJ8_copyOf_2_24 rfl (Nat.le_of_ble_eq_true rfl) rfl ?_
    refine z_aload_n (pc := 25) x 1 dJ8_copyOf_2_25 rfl rfl ?_
    refine z_iconst (pc := 26) x (v := (0 : Int32)) dJ8_copyOf_2_26 rfl ?_
    refine z_aload_n (pc := 27) x 0 dJ8_copyOf_2_27 rfl rfl ?_
    refine z_iconst (pc := 28) x (v := (0 : Int32)) dJ8_copyOf_2_28 rfl ?_
    refine z_aload_n (pc := 29) x 1 dJ8_copyOf_2_29 rfl rfl ?_
    refine z_len (pc := 30) x dJ8_copyOf_2_30 fun v30 => ?_
    refine z_iload_n (pc := 31) x 2 dJ8_copyOf_2_31 rfl rfl ?_
    refine z_mmin (pc := 32) x q739 q613 q130 q614 (by omega) (zSum (k := 4) rfl (by omega)) dJ8_copyOf_2_32 ?_
    refine z_cpyR (pc := 35) x (t := 5) (tg := 1) rfl rfl rfl q740 q742 q741 q131 (by omega) (zSum (k := 0) rfl (by omega)) dJ8_copyOf_2_35 ?_
    refine z_aload_n (pc := 38) x 0 dJ8_copyOf_2_38 rfl rfl ?_
    exact z_aret (pc := 39) x hret (Or.inr ⟨_, rfl⟩) dJ8_copyOf_2_39
  · exact z_fail
/-! J8_copyOf -/
def s_J8_copyOf (E : zE) (a0 : Option Nat) (a1 : Int32) : zM := zGcA 5 (E 10) a0 (fun v3 => zC (s_J8_copyOf_2 E a0 a1 v3) zThr (zKR (fun v6 => zRet (some (va_rf v6)))))
theorem m_J8_copyOf {l : Launch} {E : zE} {D : va_G} {tA : Nat → ClassId} (hl : l.stackTraces = false) (a0 : Option Nat) (a1 : Int32) : zMet l E D tA yJ8_copyOf (ws_ yJ8_copyOf cJ8_copyOf 2 (Option.some (Jvm.ClassFile.FieldType.array (Jvm.ClassFile.FieldType.object "java/lang/Object")))) 10 (s_J8_copyOf E a0 a1) [zP a0, zI a1] := by
  refine z_met hl (by decide +kernel) (by rw [zSl_len]; exact (Nat.le_of_ble_eq_true rfl)) fun p e R s m args below meth c k0 x hret hnm htab => ?_
  refine z_lv [(0, zP a0), (1, zI a1)] rfl ?_
  unfold s_J8_copyOf
  refine z_aload_n (pc := 0) x 0 dJ8_copyOf_0 rfl rfl ?_
  refine z_iload_n (pc := 1) x 1 dJ8_copyOf_1 rfl rfl ?_
  refine z_aload_n (pc := 2) x 0 dJ8_copyOf_2 rfl rfl ?_
  refine z_gcA (pc := 3) x (t := 5) (C := "[Ljava/lang/Object;") (mi := 10) rfl (fun _ hc => va_nmO hc (by decide +kernel)) (by decide) q689 q2660 q3407 q690 q733 (zSum (k := 2) rfl (by omega)) (by omega) dJ8_copyOf_3 fun v3 => ?_
  refine z_call (pc := 6) (z_canS (pc := 6) (As := [zP a0, zI a1, zP v3]) (st := []) x (m_J8_copyOf_2 hl a0 a1 v3) q734 q735 q122 q736 n_J8_copyOf_2 ⟨by decide, by decide⟩ (Nat.le_of_ble_eq_true rfl) dJ8_copyOf_6) (zv_R fun v6 => ?_) (fun q => zx_thr x (fun z hz => (htab z hz).elim) q)
  exact z_aret (pc := 9) x hret (Or.inr ⟨_, rfl⟩) dJ8_copyOf_9
/-! J2_toArray -/
def s_J2_toArray (E : zE) (a0 : Option Nat) : zM := zGetR a0 10 1 (fun v1 => zGetI a0 10 2 (fun v5 => zC (s_J8_copyOf E v1 v5) zThr (zKR (fun v8 => zRet (some (va_rf v8))))))
theorem m_J2_toArray {l : Launch} {E : zE} {D : va_G} {tA : Nat → ClassId} (hl : l.stackTraces = false) (a0 : Option Nat) : zMet l E D tA yJ2_toArray (ws_ yJ2_toArray cJ2_toArray 1 (Option.some (Jvm.ClassFile.FieldType.array (Jvm.ClassFile.FieldType.object "java/lang/Object")))) 11 (s_J2_toArray E a0) [zP a0] := by
  refine z_met hl (by decide +kernel) (by rw [zSl_len]; exact (Nat.le_of_ble_eq_true rfl)) fun p e R s m args below meth c k0 x hret hnm htab => ?_
  refine z_lv [(0, zP a0)] rfl ?_
  unfold s_J2_toArray
  refine z_aload_n (pc := 0) x 0 dJ2_toArray_0 rfl rfl ?_
  refine z_get (pc := 1) (fun _ _ h => zAsR_eq h) x in_J2 (ci := 10) rfl (k := 1) (by decide) q195 (fun _ h => h) dJ2_toArray_1 fun v1 => ?_
  refine z_aload_n (pc := 4) x 0 dJ2_toArray_4 rfl rfl ?_
  refine z_get (pc := 5) (fun _ _ h => zAsI_eq h) x in_J2 (ci := 10) rfl (k := 2) (by decide) q198 (fun _ h => h) dJ2_toArray_5 fun v5 => ?_
  refine z_call (pc := 8) (z_canS (pc := 8) (As := [zP v1, zI v5]) (st := []) x (m_J8_copyOf hl v1 v5) q686 q687 q122 q688 n_J8_copyOf ⟨by decide, by decide⟩ (Nat.le_of_ble_eq_true rfl) dJ2_toArray_8) (zv_R fun v8 => ?_) (fun q => zx_thr x (fun z hz => (htab z hz).elim) q)
  exact z_aret (pc := 11) x hret (Or.inr ⟨_, rfl⟩) dJ2_toArray_11
/-! J8_copyOfRange_2 -/
def s_J8_copyOfRange_2 (E : zE) (a0 : Option Nat) (a1 : Int32) (a2 : Int32) (a3 : Option Nat) : zM := if 0 ≤ (a2 - a1) then (if a3 = (some (E 10)) then (zNewA 5 zAr0R (a2 - a1) (fun v50 => zLen a0 (fun v76 => zCpR E 5 1 a0 a1 v50 (0 : Int32) (if (a2 - a1) < (v76 - a1) then (a2 - a1) else (v76 - a1)) (zRet (some (va_rf v50)))))) else zFail) else zFail
theorem m_J8_copyOfRange_2 {l : Launch} {E : zE} {D : va_G} {tA : Nat → ClassId} (hl : l.stackTraces = false) (a0 : Option Nat) (a1 : Int32) (a2 : Int32) (a3 : Option Nat) : zMet l E D tA yJ8_copyOfRange_2 (ws_ yJ8_copyOfRange_2 cJ8_copyOfRange_2 6 (Option.some (Jvm.ClassFile.FieldType.array (Jvm.ClassFile.FieldType.object "java/lang/Object")))) 9 (s_J8_copyOfRange_2 E a0 a1 a2 a3) [zP a0, zI a1, zI a2, zP a3] := by
  refine z_met hl (by decide +kernel) (by rw [zSl_len]; exact (Nat.le_of_ble_eq_true rfl)) fun p e R s m args below meth c k0 x hret hnm htab => ?_
  refine z_lv [(0, zP a0), (1, zI a1), (2, zI a2), (3, zP a3)] rfl ?_
  unfold s_J8_copyOfRange_2
  refine z_iload_n (pc := 0) x 2 dJ8_copyOfRange_2_0 rfl rfl ?_
  refine z_iload_n (pc := 1) x 1 dJ8_copyOfRange_2_1 rfl rfl ?_
  refine z_isub (pc := 2) x dJ8_copyOfRange_2_2 ?_
  refine z_istore (pc := 3) (lv' := [(4, zI (a2 - a1)), (0, zP a0), (1, zI a1), (2, zI a2), (3, zP a3)]) x dJ8_copyOfRange_2_3 (Nat.le_of_ble_eq_true rfl) rfl ?_
  refine z_iload (pc := 5) x 0 dJ8_copyOfRange_2_5 rfl ?_
  refine z_if_ge (pc := 7) (tgt := 42) x dJ8_copyOfRange_2_7 rfl (fun _ => ?_) (fun _ => ?_)
  · refine z_aload_n (pc := 42) x 4 dJ8_copyOfRange_2_42 rfl rfl ?_
    refine z_ldcM (pc := 43) x (k := 10) (by decide) q737 dJ8_copyOfRange_2_43 ?_
    refine z_acmp_ne (pc := 45) (tgt := 56) x dJ8_copyOfRange_2_45 rfl (fun _ => ?_) (fun _ => ?_)
    · refine z_iload (pc := 48) x 0 dJ8_copyOfRange_2_48 rfl ?_
      refine z_newQ (pc := 50) x (t := 5) rfl q738 q275 dJ8_copyOfRange_2_50 fun v50 => ?_
      refine z_goto (pc := 53) (tgt := 68) x dJ8_copyOfRange_2_53 rfl ?_
      refine z_astore (pc := 68) (lv' := [(5, zP v50), (4, zI (a2 - a1)), (0, zP a0), (1, zI a1), (2, zI a2), (3, zP a3)]) x dJ8_copyOfRange_2_68 (Nat.le_of_ble_eq_true rfl) rfl ?_
      refine z_aload_n (pc := 70) x 2 dJ8_copyOfRange_2_70 rfl rfl ?_
      refine z_iload_n (pc := 71) x 3 dJ8_copyOfRange_2_71 rfl rfl ?_
      refine z_aload (pc := 72) x 0 dJ8_copyOfRange_2_72 rfl ?_
      refine z_iconst (pc := 74) x (v := (0 : Int32)) dJ8_copyOfRange_2_74 rfl ?_
      refine z_aload_n (pc := 75) x 2 dJ8_copyOfRange_2_75 rfl rfl ?_
      refine z_len (pc := 76) x dJ8_copyOfRange_2_76 fun v76 => ?_
      refine z_iload_n (pc := 77) x 3 dJ8_copyOfRange_2_77 rfl rfl ?_
      refine z_isub (pc := 78) x dJ8_copyOfRange_2_78 ?_
      refine z_iload (pc := 79) x 1 dJ8_copyOfRange_2_79 rfl ?_
      refine z_mmin (pc := 81) x q739 q613 q130 q614 (by omega) (zSum (k := 4) rfl (by omega)) dJ8_copyOfRange_2_81 ?_
      refine z_cpyR (pc := 84) x (t := 5) (tg := 1) rfl rfl rfl q740 q742 q741 q131 (by omega) (zSum (k := 0) rfl (by omega)) dJ8_copyOfRange_2_84 ?_
      refine z_aload (pc := 87) x 0 dJ8_copyOfRange_2_87 rfl ?_
      exact z_aret (pc := 89) x hret (Or.inr ⟨_, rfl⟩) dJ8_copyOfRange_2_89
    · exact z_fail
  · exact z_fail
/-! J3_toArray_2 -/
def s_J3_toArray_2_77 (E : zE) (a2 : Option Nat) (a3 : Option Nat) (a4 : Int32) (a5 : Int32) (a6 : Int32) : zM := if a6 = a5 then (zRet (some (va_rf a3))) else (zLen a2 (fun v88 => zCpR E 5 1 a2 (0 : Int32) a3 (v88 - a4) a5 (zRet (some (va_rf a3)))))
theorem w_J3_toArray_2_77 (x : zCx p l R s m args meth c E D tA cJ3_toArray_2 7 yJ3_toArray_2.cls 10) (hl : l.stackTraces = false) (hret : meth.sig.returnType = (Option.some (Jvm.ClassFile.FieldType.array (Jvm.ClassFile.FieldType.object "java/lang/Object")))) (hnm : meth.name = yJ3_toArray_2.name) (htab : ∀ z ∈ c.exceptionTable.toList, False) (a2 : Option Nat) (a3 : Option Nat) (a4 : Int32) (a5 : Int32) (a6 : Int32) : zW p l e R s m args below meth c E D tA 7 k0 (s_J3_toArray_2_77 E a2 a3 a4 a5 a6) [(2, zP a2), (3, zP a3), (4, zI a4), (5, zI a5), (6, zI a6)] 77 [] := by
  unfold s_J3_toArray_2_77
  refine z_iload (pc := 77) x 4 dJ3_toArray_2_77 rfl ?_
  refine z_iload (pc := 79) x 3 dJ3_toArray_2_79 rfl ?_
  refine z_icmp_eq (pc := 81) (tgt := 97) x dJ3_toArray_2_81 rfl (fun _ => ?_) (fun _ => ?_)
  · refine z_aload_n (pc := 97) x 1 dJ3_toArray_2_97 rfl rfl ?_
    exact z_aret (pc := 98) x hret (Or.inr ⟨_, rfl⟩) dJ3_toArray_2_98
  · refine z_aload_n (pc := 84) x 0 dJ3_toArray_2_84 rfl rfl ?_
    refine z_iconst (pc := 85) x (v := (0 : Int32)) dJ3_toArray_2_85 rfl ?_
    refine z_aload_n (pc := 86) x 1 dJ3_toArray_2_86 rfl rfl ?_
    refine z_aload_n (pc := 87) x 0 dJ3_toArray_2_87 rfl rfl ?_
    refine z_len (pc := 88) x dJ3_toArray_2_88 fun v88 => ?_
    refine z_iload (pc := 89) x 2 dJ3_toArray_2_89 rfl ?_
    refine z_isub (pc := 91) x dJ3_toArray_2_91 ?_
    refine z_iload (pc := 92) x 3 dJ3_toArray_2_92 rfl ?_
    refine z_cpyR (pc := 94) x (t := 5) (tg := 1) rfl rfl rfl q1500 q742 q741 q131 (by omega) (zSum (k := 0) rfl (by omega)) dJ3_toArray_2_94 ?_
    refine z_aload_n (pc := 97) x 1 dJ3_toArray_2_97 rfl rfl ?_
    exact z_aret (pc := 98) x hret (Or.inr ⟨_, rfl⟩) dJ3_toArray_2_98
def s_J3_toArray_2_32 (E : zE) (a1 : Option Nat) (a2 : Option Nat) (a4 : Int32) (a5 : Int32) (b0 : Int32) (b1 : Int32) : zM := if (b0 + b1) < 0 then (zC (s_J8_copyOfRange_2 E a2 (0 : Int32) ((b0 + b1) - a4) a1) zThr (zKR (fun v60 => zLen a2 (fun v70 => zCpR E 5 1 a2 a4 v60 (0 : Int32) (v70 - a4) (s_J3_toArray_2_77 E a2 v60 a4 a5 (b0 + b1)))))) else (zC (s_J8_copyOfRange_2 E a2 a4 (b0 + b1) a1) zThr (zKR (fun v45 => s_J3_toArray_2_77 E a2 v45 a4 a5 (b0 + b1))))
theorem w_J3_toArray_2_32 (x : zCx p l R s m args meth c E D tA cJ3_toArray_2 7 yJ3_toArray_2.cls 10) (hl : l.stackTraces = false) (hret : meth.sig.returnType = (Option.some (Jvm.ClassFile.FieldType.array (Jvm.ClassFile.FieldType.object "java/lang/Object")))) (hnm : meth.name = yJ3_toArray_2.name) (htab : ∀ z ∈ c.exceptionTable.toList, False) (a1 : Option Nat) (a2 : Option Nat) (a4 : Int32) (a5 : Int32) (b0 : Int32) (b1 : Int32) : zW p l e R s m args below meth c E D tA 7 k0 (s_J3_toArray_2_32 E a1 a2 a4 a5 b0 b1) [(1, zP a1), (2, zP a2), (4, zI a4), (5, zI a5)] 32 [zI b1, zI b0] := by
  unfold s_J3_toArray_2_32
  refine z_iadd (pc := 32) x dJ3_toArray_2_32 ?_
  refine z_dup (pc := 33) x dJ3_toArray_2_33 rfl ?_
  refine z_istore (pc := 34) (lv' := [(6, zI (b0 + b1)), (1, zP a1), (2, zP a2), (4, zI a4), (5, zI a5)]) x dJ3_toArray_2_34 (Nat.le_of_ble_eq_true rfl) rfl ?_
  refine z_if_lt (pc := 36) (tgt := 52) x dJ3_toArray_2_36 rfl (fun _ => ?_) (fun _ => ?_)
  · refine z_aload_n (pc := 52) x 2 dJ3_toArray_2_52 rfl rfl ?_
    refine z_iconst (pc := 53) x (v := (0 : Int32)) dJ3_toArray_2_53 rfl ?_
    refine z_iload (pc := 54) x 0 dJ3_toArray_2_54 rfl ?_
    refine z_iload (pc := 56) x 3 dJ3_toArray_2_56 rfl ?_
    refine z_isub (pc := 58) x dJ3_toArray_2_58 ?_
    refine z_aload_n (pc := 59) x 1 dJ3_toArray_2_59 rfl rfl ?_
    refine z_call (pc := 60) (z_canS (pc := 60) (As := [zP a2, zI (0 : Int32), zI ((b0 + b1) - a4), zP a1]) (st := []) x (m_J8_copyOfRange_2 hl a2 (0 : Int32) ((b0 + b1) - a4) a1) q1497 q1498 q122 q1499 n_J8_copyOfRange_2 ⟨by decide, by decide⟩ (Nat.le_of_ble_eq_true rfl) dJ3_toArray_2_60) (zv_R fun v60 => ?_) (fun q => zx_thr x (fun z hz => (htab z hz).elim) q)
    refine z_astore_n (pc := 63) (lv' := [(3, zP v60), (6, zI (b0 + b1)), (1, zP a1), (2, zP a2), (4, zI a4), (5, zI a5)]) x dJ3_toArray_2_63 rfl (Nat.le_of_ble_eq_true rfl) rfl ?_
    refine z_aload_n (pc := 64) x 3 dJ3_toArray_2_64 rfl rfl ?_
    refine z_iload (pc := 65) x 4 dJ3_toArray_2_65 rfl ?_
    refine z_aload_n (pc := 67) x 0 dJ3_toArray_2_67 rfl rfl ?_
    refine z_iconst (pc := 68) x (v := (0 : Int32)) dJ3_toArray_2_68 rfl ?_
    refine z_aload_n (pc := 69) x 3 dJ3_toArray_2_69 rfl rfl ?_
    refine z_len (pc := 70) x dJ3_toArray_2_70 fun v70 => ?_
    refine z_iload (pc := 71) x 4 dJ3_toArray_2_71 rfl ?_
    refine z_isub (pc := 73) x dJ3_toArray_2_73 ?_
    refine z_cpyR (pc := 74) x (t := 5) (tg := 1) rfl rfl rfl q1500 q742 q741 q131 (by omega) (zSum (k := 0) rfl (by omega)) dJ3_toArray_2_74 ?_
    exact z_sub [3, 0, 4, 5, 1] rfl (w_J3_toArray_2_77 x hl hret hnm htab a2 v60 a4 a5 (b0 + b1))
  · refine z_aload_n (pc := 39) x 2 dJ3_toArray_2_39 rfl rfl ?_
    refine z_iload (pc := 40) x 3 dJ3_toArray_2_40 rfl ?_
    refine z_iload (pc := 42) x 0 dJ3_toArray_2_42 rfl ?_
    refine z_aload_n (pc := 44) x 1 dJ3_toArray_2_44 rfl rfl ?_
    refine z_call (pc := 45) (z_canS (pc := 45) (As := [zP a2, zI a4, zI (b0 + b1), zP a1]) (st := []) x (m_J8_copyOfRange_2 hl a2 a4 (b0 + b1) a1) q1497 q1498 q122 q1499 n_J8_copyOfRange_2 ⟨by decide, by decide⟩ (Nat.le_of_ble_eq_true rfl) dJ3_toArray_2_45) (zv_R fun v45 => ?_) (fun q => zx_thr x (fun z hz => (htab z hz).elim) q)
    refine z_astore_n (pc := 48) (lv' := [(3, zP v45), (6, zI (b0 + b1)), (1, zP a1), (2, zP a2), (4, zI a4), (5, zI a5)]) x dJ3_toArray_2_48 rfl (Nat.le_of_ble_eq_true rfl) rfl ?_
    refine z_goto (pc := 49) (tgt := 77) x dJ3_toArray_2_49 rfl ?_
    exact z_sub [3, 0, 4, 5, 1] rfl (w_J3_toArray_2_77 x hl hret hnm htab a2 v45 a4 a5 (b0 + b1))
def s_J3_toArray_2 (E : zE) (a0 : Option Nat) (a1 : Option Nat) : zM := zGetR a0 13 0 (fun v1 => zGetI a0 13 1 (fun v6 => zGetI a0 13 2 (fun v12 => if v12 < v6 then (zLen v1 (fun v31 => s_J3_toArray_2_32 E a1 v1 v6 v12 v12 v31)) else (s_J3_toArray_2_32 E a1 v1 v6 v12 v12 (0 : Int32)))))
theorem m_J3_toArray_2 {l : Launch} {E : zE} {D : va_G} {tA : Nat → ClassId} (hl : l.stackTraces = false) (a0 : Option Nat) (a1 : Option Nat) : zMet l E D tA yJ3_toArray_2 (ws_ yJ3_toArray_2 cJ3_toArray_2 7 (Option.some (Jvm.ClassFile.FieldType.array (Jvm.ClassFile.FieldType.object "java/lang/Object")))) 10 (s_J3_toArray_2 E a0 a1) [zP a0, zP a1] := by
  refine z_met hl (by decide +kernel) (by rw [zSl_len]; exact (Nat.le_of_ble_eq_true rfl)) fun p e R s m args below meth c k0 x hret hnm htab => ?_
  refine z_lv [(0, zP a0), (1, zP a1)] rfl ?_
  unfold s_J3_toArray_2
  refine z_aload_n (pc := 0) x 0 dJ3_toArray_2_0 rfl rfl ?_
  refine z_get (pc := 1) (fun _ _ h => zAsR_eq h) x in_J3 (ci := 13) rfl (k := 0) (by decide) q276 (fun _ h => h) dJ3_toArray_2_1 fun v1 => ?_
  refine z_astore_n (pc := 4) (lv' := [(2, zP v1), (0, zP a0), (1, zP a1)]) x dJ3_toArray_2_4 rfl (Nat.le_of_ble_eq_true rfl) rfl ?_
  refine z_aload_n (pc := 5) x 1 dJ3_toArray_2_5 rfl rfl ?_
  refine z_get (pc := 6) (fun _ _ h => zAsI_eq h) x in_J3 (ci := 13) rfl (k := 1) (by decide) q277 (fun _ h => h) dJ3_toArray_2_6 fun v6 => ?_
  refine z_istore (pc := 9) (lv' := [(4, zI v6), (2, zP v1), (0, zP a0), (1, zP a1)]) x dJ3_toArray_2_9 (Nat.le_of_ble_eq_true rfl) rfl ?_
  refine z_aload_n (pc := 11) x 2 dJ3_toArray_2_11 rfl rfl ?_
  refine z_get (pc := 12) (fun _ _ h => zAsI_eq h) x in_J3 (ci := 13) rfl (k := 2) (by decide) q278 (fun _ h => h) dJ3_toArray_2_12 fun v12 => ?_
  refine z_istore (pc := 15) (lv' := [(5, zI v12), (4, zI v6), (2, zP v1), (0, zP a0), (1, zP a1)]) x dJ3_toArray_2_15 (Nat.le_of_ble_eq_true rfl) rfl ?_
  refine z_iload (pc := 17) x 0 dJ3_toArray_2_17 rfl ?_
  refine z_iload (pc := 19) x 1 dJ3_toArray_2_19 rfl ?_
  refine z_iload (pc := 21) x 0 dJ3_toArray_2_21 rfl ?_
  refine z_icmp_gt (pc := 23) (tgt := 30) x dJ3_toArray_2_23 rfl (fun _ => ?_) (fun _ => ?_)
  · refine z_aload_n (pc := 30) x 2 dJ3_toArray_2_30 rfl rfl ?_
    refine z_len (pc := 31) x dJ3_toArray_2_31 fun v31 => ?_
    exact z_sub [4, 2, 1, 0] rfl (w_J3_toArray_2_32 x hl hret hnm htab a1 v1 v6 v12 v12 v31)
  · refine z_iconst (pc := 26) x (v := (0 : Int32)) dJ3_toArray_2_26 rfl ?_
    refine z_goto (pc := 27) (tgt := 32) x dJ3_toArray_2_27 rfl ?_
    exact z_sub [4, 2, 1, 0] rfl (w_J3_toArray_2_32 x hl hret hnm htab a1 v1 v6 v12 v12 (0 : Int32))
/-! J3_toArray -/
def s_J3_toArray (E : zE) (a0 : Option Nat) : zM := zC (zRv a0 [(13, fun b => s_J3_toArray_2 E (some b) (some (E 10)))]) zThr (zKR (fun v3 => zRet (some (va_rf v3))))
theorem m_J3_toArray {l : Launch} {E : zE} {D : va_G} {tA : Nat → ClassId} (hl : l.stackTraces = false) (a0 : Option Nat) : zMet l E D tA yJ3_toArray (ws_ yJ3_toArray cJ3_toArray 1 (Option.some (Jvm.ClassFile.FieldType.array (Jvm.ClassFile.FieldType.object "java/lang/Object")))) 11 (s_J3_toArray E a0) [zP a0] := by
  refine z_met hl (by decide +kernel) (by rw [zSl_len]; exact (Nat.le_of_ble_eq_true rfl)) fun p e R s m args below meth c k0 x hret hnm htab => ?_
  refine z_lv [(0, zP a0)] rfl ?_
  unfold s_J3_toArray
  refine z_aload_n (pc := 0) x 0 dJ3_toArray_0 rfl rfl ?_
  refine z_ldcM (pc := 1) x (k := 10) (by decide) q1492 dJ3_toArray_1 ?_
  refine z_call (pc := 3) (z_canV (pc := 3) (As := [zP (some (E 10))]) (st := []) x (ci := 13) rfl (fun b => m_J3_toArray_2 hl (some b) (some (E 10))) q1493 q1495 (z_selP x (ci := 13) rfl (by decide) (zNi_inst x q269) q1494 q1495) q116 q1496 n_J3_toArray_2 ⟨by decide, by decide⟩ (Nat.le_of_ble_eq_true rfl) dJ3_toArray_3) (zv_R fun v3 => ?_) (fun q => zx_thr x (fun z hz => (htab z hz).elim) q)
  exact z_aret (pc := 6) x hret (Or.inr ⟨_, rfl⟩) dJ3_toArray_6
/-! J15_newLength -/
def s_J15_newLength (E : zE) (a0 : Int32) (a1 : Int32) (a2 : Int32) : zM := if (a0 + (if a1 < a2 then a2 else a1)) ≤ (0 : Int32) then zFail else (if (2147483639 : Int32) < (a0 + (if a1 < a2 then a2 else a1)) then zFail else (zRet (some (.int (a0 + (if a1 < a2 then a2 else a1))))))
theorem m_J15_newLength {l : Launch} {E : zE} {D : va_G} {tA : Nat → ClassId} (hl : l.stackTraces = false) (a0 : Int32) (a1 : Int32) (a2 : Int32) : zMet l E D tA yJ15_newLength (ws_ yJ15_newLength cJ15_newLength 4 (Option.some Jvm.ClassFile.FieldType.int)) 9 (s_J15_newLength E a0 a1 a2) [zI a0, zI a1, zI a2] := by
  refine z_met hl (by decide +kernel) (by rw [zSl_len]; exact (Nat.le_of_ble_eq_true rfl)) fun p e R s m args below meth c k0 x hret hnm htab => ?_
  refine z_lv [(0, zI a0), (1, zI a1), (2, zI a2)] rfl ?_
  unfold s_J15_newLength
  refine z_iload_n (pc := 0) x 0 dJ15_newLength_0 rfl rfl ?_
  refine z_iload_n (pc := 1) x 1 dJ15_newLength_1 rfl rfl ?_
  refine z_iload_n (pc := 2) x 2 dJ15_newLength_2 rfl rfl ?_
  refine z_mmax (pc := 3) x q681 q610 q130 q611 (by omega) (zSum (k := 1) rfl (by omega)) dJ15_newLength_3 ?_
  refine z_iadd (pc := 6) x dJ15_newLength_6 ?_
  refine z_istore_n (pc := 7) (lv' := [(3, zI (a0 + (if a1 < a2 then a2 else a1))), (0, zI a0), (1, zI a1), (2, zI a2)]) x dJ15_newLength_7 rfl (Nat.le_of_ble_eq_true rfl) rfl ?_
  refine z_iconst (pc := 8) x (v := (0 : Int32)) dJ15_newLength_8 rfl ?_
  refine z_iload_n (pc := 9) x 0 dJ15_newLength_9 rfl rfl ?_
  refine z_icmp_ge (pc := 10) (tgt := 21) x dJ15_newLength_10 rfl (fun _ => ?_) (fun _ => ?_)
  · exact z_fail
  · refine z_iload_n (pc := 13) x 0 dJ15_newLength_13 rfl rfl ?_
    refine z_ldc (pc := 14) x (v := (2147483639 : Int32)) q682 dJ15_newLength_14 ?_
    refine z_icmp_gt (pc := 16) (tgt := 21) x dJ15_newLength_16 rfl (fun _ => ?_) (fun _ => ?_)
    · exact z_fail
    · refine z_iload_n (pc := 19) x 0 dJ15_newLength_19 rfl rfl ?_
      exact z_iret (pc := 20) x hret dJ15_newLength_20
/-! J2_grow_2 -/
def s_J2_grow_2_20 (E : zE) (a0 : Option Nat) (a1 : Int32) (a2 : Int32) : zM := zC (s_J15_newLength E a2 (a1 - a2) (a2 >>> ((1 : Int32) &&& 31))) zThr (zKI (fun v27 => zGetR a0 10 1 (fun v33 => zC (s_J8_copyOf E v33 v27) zThr (zKR (fun v37 => zSet E a0 10 1 (zVal (zP v37)) (zRet (some (va_rf v37))))))))
theorem w_J2_grow_2_20 (x : zCx p l R s m args meth c E D tA cJ2_grow_2 4 yJ2_grow_2.cls 11) (hl : l.stackTraces = false) (hret : meth.sig.returnType = (Option.some (Jvm.ClassFile.FieldType.array (Jvm.ClassFile.FieldType.object "java/lang/Object")))) (hnm : meth.name = yJ2_grow_2.name) (htab : ∀ z ∈ c.exceptionTable.toList, False) (a0 : Option Nat) (a1 : Int32) (a2 : Int32) : zW p l e R s m args below meth c E D tA 4 k0 (s_J2_grow_2_20 E a0 a1 a2) [(0, zP a0), (1, zI a1), (2, zI a2)] 20 [] := by
  unfold s_J2_grow_2_20
  refine z_iload_n (pc := 20) x 2 dJ2_grow_2_20 rfl rfl ?_
  refine z_iload_n (pc := 21) x 1 dJ2_grow_2_21 rfl rfl ?_
  refine z_iload_n (pc := 22) x 2 dJ2_grow_2_22 rfl rfl ?_
  refine z_isub (pc := 23) x dJ2_grow_2_23 ?_
  refine z_iload_n (pc := 24) x 2 dJ2_grow_2_24 rfl rfl ?_
  refine z_iconst (pc := 25) x (v := (1 : Int32)) dJ2_grow_2_25 rfl ?_
  refine z_ishr (pc := 26) x dJ2_grow_2_26 ?_
  refine z_call (pc := 27) (z_canS (pc := 27) (As := [zI a2, zI (a1 - a2), zI (a2 >>> ((1 : Int32) &&& 31))]) (st := []) x (m_J15_newLength hl a2 (a1 - a2) (a2 >>> ((1 : Int32) &&& 31))) q678 q679 q129 q680 n_J15_newLength ⟨by decide, by decide⟩ (Nat.le_of_ble_eq_true rfl) dJ2_grow_2_27) (zv_I fun v27 => ?_) (fun q => zx_thr x (fun z hz => (htab z hz).elim) q)
  refine z_istore_n (pc := 30) (lv' := [(3, zI v27), (0, zP a0), (1, zI a1), (2, zI a2)]) x dJ2_grow_2_30 rfl (Nat.le_of_ble_eq_true rfl) rfl ?_
  refine z_aload_n (pc := 31) x 1 dJ2_grow_2_31 rfl rfl ?_
  refine z_aload_n (pc := 32) x 1 dJ2_grow_2_32 rfl rfl ?_
  refine z_get (pc := 33) (fun _ _ h => zAsR_eq h) x in_J2 (ci := 10) rfl (k := 1) (by decide) q195 (fun _ h => h) dJ2_grow_2_33 fun v33 => ?_
  refine z_iload_n (pc := 36) x 0 dJ2_grow_2_36 rfl rfl ?_
  refine z_call (pc := 37) (z_canS (pc := 37) (As := [zP v33, zI v27]) (st := [zP a0]) x (m_J8_copyOf hl v33 v27) q686 q687 q122 q688 n_J8_copyOf ⟨by decide, by decide⟩ (Nat.le_of_ble_eq_true rfl) dJ2_grow_2_37) (zv_R fun v37 => ?_) (fun q => zx_thr x (fun z hz => (htab z hz).elim) q)
  refine z_dup_x1 (pc := 40) x dJ2_grow_2_40 rfl rfl ?_
  refine z_set (pc := 41) (v := zP v37) x in_J2 tyJ2 tyJ2_ok nmJ2 (ci := 10) rfl (k := 1) (by decide) q195 (fun _ h => h) rfl (zfitR rfl _).1 (zfitR rfl _).2 dJ2_grow_2_41 ?_
  exact z_aret (pc := 44) x hret (Or.inr ⟨_, rfl⟩) dJ2_grow_2_44
def s_J2_grow_2 (E : zE) (a0 : Option Nat) (a1 : Int32) : zM := zGetR a0 10 1 (fun v1 => zLen v1 (fun v4 => if 0 < v4 then (s_J2_grow_2_20 E a0 a1 v4) else (zGetR a0 10 1 (fun v11 => if v11 = (some (E 5)) then (zNewA 5 zAr0R (if (10 : Int32) < a1 then a1 else (10 : Int32)) (fun v52 => zSet E a0 10 1 (zVal (zP v52)) (zRet (some (va_rf v52))))) else (s_J2_grow_2_20 E a0 a1 v4)))))
theorem m_J2_grow_2 {l : Launch} {E : zE} {D : va_G} {tA : Nat → ClassId} (hl : l.stackTraces = false) (a0 : Option Nat) (a1 : Int32) : zMet l E D tA yJ2_grow_2 (ws_ yJ2_grow_2 cJ2_grow_2 4 (Option.some (Jvm.ClassFile.FieldType.array (Jvm.ClassFile.FieldType.object "java/lang/Object")))) 11 (s_J2_grow_2 E a0 a1) [zP a0, zI a1] := by
  refine z_met hl (by decide +kernel) (by rw [zSl_len]; exact (Nat.le_of_ble_eq_true rfl)) fun p e R s m args below meth c k0 x hret hnm htab => ?_
  refine z_lv [(0, zP a0), (1, zI a1)] rfl ?_
  unfold s_J2_grow_2
  refine z_aload_n (pc := 0) x 0 dJ2_grow_2_0 rfl rfl ?_
  refine z_get (pc := 1) (fun _ _ h => zAsR_eq h) x in_J2 (ci := 10) rfl (k := 1) (by decide) q195 (fun _ h => h) dJ2_grow_2_1 fun v1 => ?_
  refine z_len (pc := 4) x dJ2_grow_2_4 fun v4 => ?_
  refine z_istore_n (pc := 5) (lv' := [(2, zI v4), (0, zP a0), (1, zI a1)]) x dJ2_grow_2_5 rfl (Nat.le_of_ble_eq_true rfl) rfl ?_
  refine z_iload_n (pc := 6) x 0 dJ2_grow_2_6 rfl rfl ?_
  refine z_if_gt (pc := 7) (tgt := 20) x dJ2_grow_2_7 rfl (fun _ => ?_) (fun _ => ?_)
  · exact z_sub [1, 2, 0] rfl (w_J2_grow_2_20 x hl hret hnm htab a0 a1 v4)
  · refine z_aload_n (pc := 10) x 1 dJ2_grow_2_10 rfl rfl ?_
    refine z_get (pc := 11) (fun _ _ h => zAsR_eq h) x in_J2 (ci := 10) rfl (k := 1) (by decide) q195 (fun _ h => h) dJ2_grow_2_11 fun v11 => ?_
    refine z_staR (pc := 14) x (k := 5) (by decide) q193 dJ2_grow_2_14 ?_
    refine z_acmp_eq (pc := 17) (tgt := 45) x dJ2_grow_2_17 rfl (fun _ => ?_) (fun _ => ?_)
    · refine z_aload_n (pc := 45) x 1 dJ2_grow_2_45 rfl rfl ?_
      refine z_bipush (pc := 46) x (v := (10 : Int32)) dJ2_grow_2_46 rfl ?_
      refine z_iload_n (pc := 48) x 2 dJ2_grow_2_48 rfl rfl ?_
      refine z_mmax (pc := 49) x q743 q610 q130 q611 (by omega) (zSum (k := 1) rfl (by omega)) dJ2_grow_2_49 ?_
      refine z_newQ (pc := 52) x (t := 5) rfl q744 q275 dJ2_grow_2_52 fun v52 => ?_
      refine z_dup_x1 (pc := 55) x dJ2_grow_2_55 rfl rfl ?_
      refine z_set (pc := 56) (v := zP v52) x in_J2 tyJ2 tyJ2_ok nmJ2 (ci := 10) rfl (k := 1) (by decide) q195 (fun _ h => h) rfl (zfitR rfl _).1 (zfitR rfl _).2 dJ2_grow_2_56 ?_
      exact z_aret (pc := 59) x hret (Or.inr ⟨_, rfl⟩) dJ2_grow_2_59
    · exact z_sub [1, 2, 0] rfl (w_J2_grow_2_20 x hl hret hnm htab a0 a1 v4)
/-! J2_addAll -/
def s_J2_addAll_56 (E : zE) (a0 : Option Nat) (a2 : Option Nat) (a3 : Int32) (a4 : Option Nat) (a5 : Int32) : zM := zCpR E 5 1 a2 (0 : Int32) a4 a5 a3 (zSet E a0 10 2 (zVal (zI (a5 + a3))) (zRetN .boolean (1 : Int32)))
theorem w_J2_addAll_56 (x : zCx p l R s m args meth c E D tA cJ2_addAll 6 yJ2_addAll.cls 12) (hl : l.stackTraces = false) (hret : meth.sig.returnType = (Option.some Jvm.ClassFile.FieldType.boolean)) (hnm : meth.name = yJ2_addAll.name) (htab : ∀ z ∈ c.exceptionTable.toList, False) (a0 : Option Nat) (a2 : Option Nat) (a3 : Int32) (a4 : Option Nat) (a5 : Int32) : zW p l e R s m args below meth c E D tA 6 k0 (s_J2_addAll_56 E a0 a2 a3 a4 a5) [(0, zP a0), (2, zP a2), (3, zI a3), (4, zP a4), (5, zI a5)] 56 [] := by
  unfold s_J2_addAll_56
  refine z_aload_n (pc := 56) x 1 dJ2_addAll_56 rfl rfl ?_
  refine z_iconst (pc := 57) x (v := (0 : Int32)) dJ2_addAll_57 rfl ?_
  refine z_aload (pc := 58) x 3 dJ2_addAll_58 rfl ?_
  refine z_iload (pc := 60) x 4 dJ2_addAll_60 rfl ?_
  refine z_iload_n (pc := 62) x 2 dJ2_addAll_62 rfl rfl ?_
  refine z_cpyR (pc := 63) x (t := 5) (tg := 1) rfl rfl rfl q1507 q742 q741 q131 (by omega) (zSum (k := 0) rfl (by omega)) dJ2_addAll_63 ?_
  refine z_aload_n (pc := 66) x 0 dJ2_addAll_66 rfl rfl ?_
  refine z_iload (pc := 67) x 4 dJ2_addAll_67 rfl ?_
  refine z_iload_n (pc := 69) x 2 dJ2_addAll_69 rfl rfl ?_
  refine z_iadd (pc := 70) x dJ2_addAll_70 ?_
  refine z_set (pc := 71) (v := zI (a5 + a3)) x in_J2 tyJ2 tyJ2_ok nmJ2 (ci := 10) rfl (k := 2) (by decide) q198 (fun _ h => h) rfl rfl rfl dJ2_addAll_71 ?_
  refine z_iconst (pc := 74) x (v := (1 : Int32)) dJ2_addAll_74 rfl ?_
  exact z_zret (pc := 75) x hret dJ2_addAll_75
def s_J2_addAll (E : zE) (a0 : Option Nat) (a1 : Option Nat) : zM := zC (zRv a1 [(10, fun b => s_J2_toArray E (some b)), (13, fun b => s_J3_toArray E (some b))]) zThr (zKR (fun v1 => zGetI a0 10 0 (fun v9 => zSet E a0 10 0 (zVal (zI (v9 + (1 : Int32)))) (zLen v1 (fun v18 => if v18 = 0 then (zRetN .boolean (0 : Int32)) else (zGetR a0 10 1 (fun v28 => zLen v28 (fun v34 => zGetI a0 10 2 (fun v36 => if v18 ≤ (v34 - v36) then (s_J2_addAll_56 E a0 v1 v18 v28 v36) else (zC (zRv a0 [(10, fun b => s_J2_grow_2 E (some b) (v36 + v18))]) zThr (zKR (fun v51 => s_J2_addAll_56 E a0 v1 v18 v51 v36))))))))))))
theorem m_J2_addAll {l : Launch} {E : zE} {D : va_G} {tA : Nat → ClassId} (hl : l.stackTraces = false) (a0 : Option Nat) (a1 : Option Nat) : zMet l E D tA yJ2_addAll (ws_ yJ2_addAll cJ2_addAll 6 (Option.some Jvm.ClassFile.FieldType.boolean)) 12 (s_J2_addAll E a0 a1) [zP a0, zP a1] := by
  refine z_met hl (by decide +kernel) (by rw [zSl_len]; exact (Nat.le_of_ble_eq_true rfl)) fun p e R s m args below meth c k0 x hret hnm htab => ?_
  refine z_lv [(0, zP a0), (1, zP a1)] rfl ?_
  unfold s_J2_addAll
  refine z_aload_n (pc := 0) x 1 dJ2_addAll_0 rfl rfl ?_
  refine z_call (pc := 1) (z_can_cons (z_canIF (pc := 1) (As := []) (st := []) (x9 := ⟨"java/util/Collection", "toArray", "()[Ljava/lang/Object;"⟩) x (ci := 10) rfl (fun b => m_J2_toArray hl (some b)) q1483 q1485 q1484 (by decide) q1502 q1504 q1505 q1503 q1501 q112 q1506 nx_java_util_Collection_toArray____Ljava_lang_Object_ ⟨by decide, by decide⟩ (Nat.le_of_ble_eq_true rfl) dJ2_addAll_1) (z_can_cons (z_canIF (pc := 1) (As := []) (st := []) (x9 := ⟨"java/util/Collection", "toArray", "()[Ljava/lang/Object;"⟩) x (ci := 13) rfl (fun b => m_J3_toArray hl (some b)) q1483 q1485 q1484 (by decide) q1487 q1489 q1490 q1488 q1486 q116 q1491 nx_java_util_Collection_toArray____Ljava_lang_Object_ ⟨by decide, by decide⟩ (Nat.le_of_ble_eq_true rfl) dJ2_addAll_1) (z_can_nil))) (zv_R fun v1 => ?_) (fun q => zx_thr x (fun z hz => (htab z hz).elim) q)
  refine z_astore_n (pc := 6) (lv' := [(2, zP v1), (0, zP a0), (1, zP a1)]) x dJ2_addAll_6 rfl (Nat.le_of_ble_eq_true rfl) rfl ?_
  refine z_aload_n (pc := 7) x 1 dJ2_addAll_7 rfl rfl ?_
  refine z_dup (pc := 8) x dJ2_addAll_8 rfl ?_
  refine z_get (pc := 9) (fun _ _ h => zAsI_eq h) x in_J2 (ci := 10) rfl (k := 0) (by decide) q202 (fun y h => u_same (x.2.2.2.2.1 _ q201) y h) dJ2_addAll_9 fun v9 => ?_
  refine z_iconst (pc := 12) x (v := (1 : Int32)) dJ2_addAll_12 rfl ?_
  refine z_iadd (pc := 13) x dJ2_addAll_13 ?_
  refine z_set (pc := 14) (v := zI (v9 + (1 : Int32))) x in_J2 tyJ2 tyJ2_ok nmJ2 (ci := 10) rfl (k := 0) (by decide) q202 (fun y h => u_same (x.2.2.2.2.1 _ q201) y h) rfl rfl rfl dJ2_addAll_14 ?_
  refine z_aload_n (pc := 17) x 0 dJ2_addAll_17 rfl rfl ?_
  refine z_len (pc := 18) x dJ2_addAll_18 fun v18 => ?_
  refine z_istore_n (pc := 19) (lv' := [(3, zI v18), (2, zP v1), (0, zP a0), (1, zP a1)]) x dJ2_addAll_19 rfl (Nat.le_of_ble_eq_true rfl) rfl ?_
  refine z_iload_n (pc := 20) x 0 dJ2_addAll_20 rfl rfl ?_
  refine z_if_ne (pc := 21) (tgt := 26) x dJ2_addAll_21 rfl (fun _ => ?_) (fun _ => ?_)
  · refine z_iconst (pc := 24) x (v := (0 : Int32)) dJ2_addAll_24 rfl ?_
    exact z_zret (pc := 25) x hret dJ2_addAll_25
  · refine z_iload_n (pc := 26) x 0 dJ2_addAll_26 rfl rfl ?_
    refine z_aload_n (pc := 27) x 2 dJ2_addAll_27 rfl rfl ?_
    refine z_get (pc := 28) (fun _ _ h => zAsR_eq h) x in_J2 (ci := 10) rfl (k := 1) (by decide) q195 (fun _ h => h) dJ2_addAll_28 fun v28 => ?_
    refine z_dup (pc := 31) x dJ2_addAll_31 rfl ?_
    refine z_astore (pc := 32) (lv' := [(4, zP v28), (3, zI v18), (2, zP v1), (0, zP a0), (1, zP a1)]) x dJ2_addAll_32 (Nat.le_of_ble_eq_true rfl) rfl ?_
    refine z_len (pc := 34) x dJ2_addAll_34 fun v34 => ?_
    refine z_aload_n (pc := 35) x 3 dJ2_addAll_35 rfl rfl ?_
    refine z_get (pc := 36) (fun _ _ h => zAsI_eq h) x in_J2 (ci := 10) rfl (k := 2) (by decide) q198 (fun _ h => h) dJ2_addAll_36 fun v36 => ?_
    refine z_dup (pc := 39) x dJ2_addAll_39 rfl ?_
    refine z_istore (pc := 40) (lv' := [(5, zI v36), (4, zP v28), (3, zI v18), (2, zP v1), (0, zP a0), (1, zP a1)]) x dJ2_addAll_40 (Nat.le_of_ble_eq_true rfl) rfl ?_
    refine z_isub (pc := 42) x dJ2_addAll_42 ?_
    refine z_icmp_le (pc := 43) (tgt := 56) x dJ2_addAll_43 rfl (fun _ => ?_) (fun _ => ?_)
    · exact z_sub [4, 3, 2, 1, 0] rfl (w_J2_addAll_56 x hl hret hnm htab a0 v1 v18 v28 v36)
    · refine z_aload_n (pc := 46) x 4 dJ2_addAll_46 rfl rfl ?_
      refine z_iload (pc := 47) x 0 dJ2_addAll_47 rfl ?_
      refine z_iload_n (pc := 49) x 2 dJ2_addAll_49 rfl rfl ?_
      refine z_iadd (pc := 50) x dJ2_addAll_50 ?_
      refine z_call (pc := 51) (z_canV (pc := 51) (As := [zI (v36 + v18)]) (st := []) x (ci := 10) rfl (fun b => m_J2_grow_2 hl (some b) (v36 + v18)) q674 q676 (z_selP x (ci := 10) rfl (by decide) (zNi_inst x q182) q675 q676) q112 q677 n_J2_grow_2 ⟨by decide, by decide⟩ (Nat.le_of_ble_eq_true rfl) dJ2_addAll_51) (zv_R fun v51 => ?_) (fun q => zx_thr x (fun z hz => (htab z hz).elim) q)
      refine z_astore (pc := 54) (lv' := [(4, zP v51), (5, zI v36), (3, zI v18), (2, zP v1), (0, zP a0), (1, zP a1)]) x dJ2_addAll_54 (Nat.le_of_ble_eq_true rfl) rfl ?_
      exact z_sub [4, 3, 2, 0, 1] rfl (w_J2_addAll_56 x hl hret hnm htab a0 v1 v18 v51 v36)
/-! X2_init_2 -/
def s_X2_init_2 (E : zE) (a0 : Option Nat) (a1 : Option Nat) : zM := zSp a0 (fun _ => zNew 10 3 [.int 0, .null, .int 0] (fun v5 => zC (zSp v5 (fun b => s_J2_init E (some b))) zThr (zKV (zSet E a0 26 1 (zVal (zP v5)) (zNew 0 2 [.int 0, .int 0] (fun v16 => zC (zSp v16 (fun b => s_X3_init E (some b))) zThr (zKV (zSet E a0 26 2 (zVal (zP v16)) (zNew 32 1 [.null] (fun v27 => zGetR a1 26 0 (fun v32 => zC (zSp v27 (fun b => s_X4_init_2 E (some b) v32)) zThr (zKV (zSet E a0 26 0 (zVal (zP v27)) (zGetR a0 26 1 (fun v42 => zGetR a1 26 1 (fun v46 => zC (zRv v42 [(10, fun b => s_J2_addAll E (some b) v46)]) zThr (zKI (fun v49 => zGetR a0 26 2 (fun v56 => zGetR a1 26 2 (fun v60 => zC (zRv v56 [(0, fun b => s_X3_copy E (some b) v60)]) zThr (zKV (zRet none))))))))))))))))))))))
theorem m_X2_init_2 {l : Launch} {E : zE} {D : va_G} {tA : Nat → ClassId} (hl : l.stackTraces = false) (a0 : Option Nat) (a1 : Option Nat) : zMet l E D tA yX2_init_2 (ws_ yX2_init_2 cX2_init_2 2 (Option.none : Option Jvm.ClassFile.FieldType)) 13 (s_X2_init_2 E a0 a1) [zP a0, zP a1] := by
  refine z_met hl (by decide +kernel) (by rw [zSl_len]; exact (Nat.le_of_ble_eq_true rfl)) fun p e R s m args below meth c k0 x hret hnm htab => ?_
  refine z_lv [(0, zP a0), (1, zP a1)] rfl ?_
  unfold s_X2_init_2
  refine z_aload_n (pc := 0) x 0 dX2_init_2_0 rfl rfl ?_
  refine z_objInit (pc := 1) x q180 q173 q174 (by omega) (zSum (k := 0) rfl (by omega)) dX2_init_2_1 ?_
  refine z_aload_n (pc := 4) x 0 dX2_init_2_4 rfl rfl ?_
  refine z_new (pc := 5) x in_J2 tyJ2 tyJ2_ok q181 q182 q112 (ci := 10) rfl (by decide) (by decide +kernel) dX2_init_2_5 fun v5 => ?_
  refine z_dup (pc := 8) x dX2_init_2_8 rfl ?_
  refine z_call (pc := 9) (z_canI (pc := 9) (ret := none) (As := []) (st := [zP v5, zP a0]) x (fun b => m_J2_init hl (some b)) q183 rfl q184 q112 q185 n_J2_init ⟨by decide, by decide⟩ (Nat.le_of_ble_eq_true rfl) dX2_init_2_9) (zv_V ?_) (fun q => zx_thr x (fun z hz => (htab z hz).elim) q)
  refine z_setF (pc := 12) (v := zP v5) x in_X2 tyX2 tyX2_ok nmX2 (ci := 26) rfl (k := 1) (by decide) q252 (fun _ h => h) rfl hnm rfl (zfitR rfl _).1 (zfitR rfl _).2 dX2_init_2_12 ?_
  refine z_aload_n (pc := 15) x 0 dX2_init_2_15 rfl rfl ?_
  refine z_new (pc := 16) x in_X3 tyX3 tyX3_ok q210 q211 q113 (ci := 0) rfl (by decide) (by decide +kernel) dX2_init_2_16 fun v16 => ?_
  refine z_dup (pc := 19) x dX2_init_2_19 rfl ?_
  refine z_call (pc := 20) (z_canIN (pc := 20) (ret := none) (As := []) (st := [zP v16, zP a0]) x (fun b => m_X3_init hl (some b)) q212 rfl q213 q113 q214 n_X3_init ⟨by decide, by decide⟩ (Nat.le_of_ble_eq_true rfl) dX2_init_2_20) (zv_V ?_) (fun q => zx_thr x (fun z hz => (htab z hz).elim) q)
  refine z_setF (pc := 23) (v := zP v16) x in_X2 tyX2 tyX2_ok nmX2 (ci := 26) rfl (k := 2) (by decide) q256 (fun _ h => h) rfl hnm rfl (zfitR rfl _).1 (zfitR rfl _).2 dX2_init_2_23 ?_
  refine z_aload_n (pc := 26) x 0 dX2_init_2_26 rfl rfl ?_
  refine z_new (pc := 27) x in_X4 tyX4 tyX4_ok q223 q224 q114 (ci := 32) rfl (by decide) (by decide +kernel) dX2_init_2_27 fun v27 => ?_
  refine z_dup (pc := 30) x dX2_init_2_30 rfl ?_
  refine z_aload_n (pc := 31) x 1 dX2_init_2_31 rfl rfl ?_
  refine z_get (pc := 32) (fun _ _ h => zAsR_eq h) x in_X2 (ci := 26) rfl (k := 0) (by decide) q248 (fun _ h => h) dX2_init_2_32 fun v32 => ?_
  refine z_call (pc := 35) (z_canI (pc := 35) (ret := none) (As := [zP v32]) (st := [zP v27, zP a0]) x (fun b => m_X4_init_2 hl (some b) v32) q1472 rfl q623 q114 q624 n_X4_init_2 ⟨by decide, by decide⟩ (Nat.le_of_ble_eq_true rfl) dX2_init_2_35) (zv_V ?_) (fun q => zx_thr x (fun z hz => (htab z hz).elim) q)
  refine z_setF (pc := 38) (v := zP v27) x in_X2 tyX2 tyX2_ok nmX2 (ci := 26) rfl (k := 0) (by decide) q248 (fun _ h => h) rfl hnm rfl (zfitR rfl _).1 (zfitR rfl _).2 dX2_init_2_38 ?_
  refine z_aload_n (pc := 41) x 0 dX2_init_2_41 rfl rfl ?_
  refine z_get (pc := 42) (fun _ _ h => zAsR_eq h) x in_X2 (ci := 26) rfl (k := 1) (by decide) q252 (fun _ h => h) dX2_init_2_42 fun v42 => ?_
  refine z_aload_n (pc := 45) x 1 dX2_init_2_45 rfl rfl ?_
  refine z_get (pc := 46) (fun _ _ h => zAsR_eq h) x in_X2 (ci := 26) rfl (k := 1) (by decide) q252 (fun _ h => h) dX2_init_2_46 fun v46 => ?_
  refine z_call (pc := 49) (z_canIF (pc := 49) (As := [zP v46]) (st := []) (x9 := ⟨"java/util/List", "addAll", "(Ljava/util/Collection;)Z"⟩) x (ci := 10) rfl (fun b => m_J2_addAll hl (some b) v46) q1474 q1476 q1475 (by decide) q1477 q1479 q1480 q1478 q384 q112 q1481 nx_java_util_List_addAll__Ljava_util_Collection__Z ⟨by decide, by decide⟩ (Nat.le_of_ble_eq_true rfl) dX2_init_2_49) (zv_I fun v49 => ?_) (fun q => zx_thr x (fun z hz => (htab z hz).elim) q)
  refine z_pop (pc := 54) x dX2_init_2_54 rfl ?_
  refine z_aload_n (pc := 55) x 0 dX2_init_2_55 rfl rfl ?_
  refine z_get (pc := 56) (fun _ _ h => zAsR_eq h) x in_X2 (ci := 26) rfl (k := 2) (by decide) q256 (fun _ h => h) dX2_init_2_56 fun v56 => ?_
  refine z_aload_n (pc := 59) x 1 dX2_init_2_59 rfl rfl ?_
  refine z_get (pc := 60) (fun _ _ h => zAsR_eq h) x in_X2 (ci := 26) rfl (k := 2) (by decide) q256 (fun _ h => h) dX2_init_2_60 fun v60 => ?_
  refine z_call (pc := 63) (z_canVS (pc := 63) (As := [zP v60]) (st := []) x (ci := 0) rfl (fun b => m_X3_copy hl (some b) v60) q1508 q1509 (x.2.2.2.2.1 _ q1510) q113 q1511 n_X3_copy ⟨by decide, by decide⟩ (Nat.le_of_ble_eq_true rfl) dX2_init_2_63) (zv_V ?_) (fun q => zx_thr x (fun z hz => (htab z hz).elim) q)
  exact z_vret (pc := 66) x hret dX2_init_2_66
/-! X1_isBetween -/
def s_X1_isBetween (E : zE) (a0 : Int32) (a1 : Int32) (a2 : Int32) : zM := if a0 < a1 then (zRetN .boolean (0 : Int32)) else (if a2 < a0 then (zRetN .boolean (0 : Int32)) else (zRetN .boolean (1 : Int32)))
theorem m_X1_isBetween {l : Launch} {E : zE} {D : va_G} {tA : Nat → ClassId} (hl : l.stackTraces = false) (a0 : Int32) (a1 : Int32) (a2 : Int32) : zMet l E D tA yX1_isBetween (ws_ yX1_isBetween cX1_isBetween 3 (Option.some Jvm.ClassFile.FieldType.boolean)) 9 (s_X1_isBetween E a0 a1 a2) [zI a0, zI a1, zI a2] := by
  refine z_met hl (by decide +kernel) (by rw [zSl_len]; exact (Nat.le_of_ble_eq_true rfl)) fun p e R s m args below meth c k0 x hret hnm htab => ?_
  refine z_lv [(0, zI a0), (1, zI a1), (2, zI a2)] rfl ?_
  unfold s_X1_isBetween
  refine z_iload_n (pc := 0) x 1 dX1_isBetween_0 rfl rfl ?_
  refine z_iload_n (pc := 1) x 0 dX1_isBetween_1 rfl rfl ?_
  refine z_icmp_gt (pc := 2) (tgt := 14) x dX1_isBetween_2 rfl (fun _ => ?_) (fun _ => ?_)
  · refine z_iconst (pc := 14) x (v := (0 : Int32)) dX1_isBetween_14 rfl ?_
    exact z_zret (pc := 15) x hret dX1_isBetween_15
  · refine z_iload_n (pc := 5) x 0 dX1_isBetween_5 rfl rfl ?_
    refine z_iload_n (pc := 6) x 2 dX1_isBetween_6 rfl rfl ?_
    refine z_icmp_gt (pc := 7) (tgt := 14) x dX1_isBetween_7 rfl (fun _ => ?_) (fun _ => ?_)
    · refine z_iconst (pc := 14) x (v := (0 : Int32)) dX1_isBetween_14 rfl ?_
      exact z_zret (pc := 15) x hret dX1_isBetween_15
    · refine z_iconst (pc := 10) x (v := (1 : Int32)) dX1_isBetween_10 rfl ?_
      refine z_goto (pc := 11) (tgt := 15) x dX1_isBetween_11 rfl ?_
      exact z_zret (pc := 15) x hret dX1_isBetween_15
/-! X1_requireArgument -/
def s_X1_requireArgument (E : zE) (a0 : Int32) : zM := if a0 = 0 then (zNew 3 6 [] (fun v4 => zAth v4 zThr)) else (zRet none)
theorem m_X1_requireArgument {l : Launch} {E : zE} {D : va_G} {tA : Nat → ClassId} (hl : l.stackTraces = false) (a0 : Int32) : zMet l E D tA yX1_requireArgument (ws_ yX1_requireArgument cX1_requireArgument 1 (Option.none : Option Jvm.ClassFile.FieldType)) 9 (s_X1_requireArgument E a0) [zI a0] := by
  refine z_met hl (by decide +kernel) (by rw [zSl_len]; exact (Nat.le_of_ble_eq_true rfl)) fun p e R s m args below meth c k0 x hret hnm htab => ?_
  refine z_lv [(0, zI a0)] rfl ?_
  unfold s_X1_requireArgument
  refine z_iload_n (pc := 0) x 0 dX1_requireArgument_0 rfl rfl ?_
  refine z_if_ne (pc := 1) (tgt := 12) x dX1_requireArgument_1 rfl (fun _ => ?_) (fun _ => ?_)
  · refine z_exc (pc := 4) x ["java/lang/RuntimeException", "java/lang/Exception"] (by decide) (by decide +kernel) (by decide +kernel) q1528 q126 (zx_at0 x zxa_IllegalArgumentException q1529) (List.all_eq_true.mp (by decide +kernel)) (ci := 3) rfl (by show 2 + 3 < _; omega) (zSum (k := 0) rfl (by show _ + (13 * (2 + 1) + 42) ≤ _; omega)) dX1_requireArgument_4 dX1_requireArgument_7 dX1_requireArgument_8 fun v4 => ?_
    exact z_athrow (pc := 11) x dX1_requireArgument_11 (fun q => zx_thr x (fun z hz => (htab z hz).elim) q)
  · exact z_vret (pc := 12) x hret dX1_requireArgument_12
/-! X1_requirePredicate -/
def s_X1_requirePredicate (E : zE) (a0 : Int32) : zM := zC (s_X1_isBetween E a0 (97 : Int32) (104 : Int32)) zThr (zKI (fun v5 => zC (s_X1_requireArgument E v5) zThr (zKV (zRet (some (.int (a0 - (97 : Int32))))))))
theorem m_X1_requirePredicate {l : Launch} {E : zE} {D : va_G} {tA : Nat → ClassId} (hl : l.stackTraces = false) (a0 : Int32) : zMet l E D tA yX1_requirePredicate (ws_ yX1_requirePredicate cX1_requirePredicate 1 (Option.some Jvm.ClassFile.FieldType.int)) 10 (s_X1_requirePredicate E a0) [zI a0] := by
  refine z_met hl (by decide +kernel) (by rw [zSl_len]; exact (Nat.le_of_ble_eq_true rfl)) fun p e R s m args below meth c k0 x hret hnm htab => ?_
  refine z_lv [(0, zI a0)] rfl ?_
  unfold s_X1_requirePredicate
  refine z_iload_n (pc := 0) x 0 dX1_requirePredicate_0 rfl rfl ?_
  refine z_bipush (pc := 1) x (v := (97 : Int32)) dX1_requirePredicate_1 rfl ?_
  refine z_bipush (pc := 3) x (v := (104 : Int32)) dX1_requirePredicate_3 rfl ?_
  refine z_call (pc := 5) (z_canS (pc := 5) (As := [zI a0, zI (97 : Int32), zI (104 : Int32)]) (st := []) x (m_X1_isBetween hl a0 (97 : Int32) (104 : Int32)) q1522 q1523 q108 q1524 n_X1_isBetween ⟨by decide, by decide⟩ (Nat.le_of_ble_eq_true rfl) dX1_requirePredicate_5) (zv_I fun v5 => ?_) (fun q => zx_thr x (fun z hz => (htab z hz).elim) q)
  refine z_call (pc := 8) (z_canS (pc := 8) (As := [zI v5]) (st := []) x (m_X1_requireArgument hl v5) q1525 q1526 q108 q1527 n_X1_requireArgument ⟨by decide, by decide⟩ (Nat.le_of_ble_eq_true rfl) dX1_requirePredicate_8) (zv_V ?_) (fun q => zx_thr x (fun z hz => (htab z hz).elim) q)
  refine z_iload_n (pc := 11) x 0 dX1_requirePredicate_11 rfl rfl ?_
  refine z_bipush (pc := 12) x (v := (97 : Int32)) dX1_requirePredicate_12 rfl ?_
  refine z_isub (pc := 14) x dX1_requirePredicate_14 ?_
  exact z_iret (pc := 15) x hret dX1_requirePredicate_15
/-! X1_isPair -/
def s_X1_isPair (E : zE) (a0 : Int32) : zM := if (4 : Int32) ≤ a0 then (zRetN .boolean (0 : Int32)) else (zRetN .boolean (1 : Int32))
theorem m_X1_isPair {l : Launch} {E : zE} {D : va_G} {tA : Nat → ClassId} (hl : l.stackTraces = false) (a0 : Int32) : zMet l E D tA yX1_isPair (ws_ yX1_isPair cX1_isPair 1 (Option.some Jvm.ClassFile.FieldType.boolean)) 9 (s_X1_isPair E a0) [zI a0] := by
  refine z_met hl (by decide +kernel) (by rw [zSl_len]; exact (Nat.le_of_ble_eq_true rfl)) fun p e R s m args below meth c k0 x hret hnm htab => ?_
  refine z_lv [(0, zI a0)] rfl ?_
  unfold s_X1_isPair
  refine z_iload_n (pc := 0) x 0 dX1_isPair_0 rfl rfl ?_
  refine z_iconst (pc := 1) x (v := (4 : Int32)) dX1_isPair_1 rfl ?_
  refine z_icmp_ge (pc := 2) (tgt := 9) x dX1_isPair_2 rfl (fun _ => ?_) (fun _ => ?_)
  · refine z_iconst (pc := 9) x (v := (0 : Int32)) dX1_isPair_9 rfl ?_
    exact z_zret (pc := 10) x hret dX1_isPair_10
  · refine z_iconst (pc := 5) x (v := (1 : Int32)) dX1_isPair_5 rfl ?_
    refine z_goto (pc := 6) (tgt := 10) x dX1_isPair_6 rfl ?_
    exact z_zret (pc := 10) x hret dX1_isPair_10
/-! X1_codeOf -/
def s_X1_codeOf (E : zE) (a0 : Int32) (a1 : Int32) (a2 : Int32) : zM := zC (s_X1_isPair E a0) zThr (zKI (fun v1 => if v1 = 0 then (zRet (some (.int a1))) else (zRet (some (.int (((10 : Int32) * a1) + a2))))))
theorem m_X1_codeOf {l : Launch} {E : zE} {D : va_G} {tA : Nat → ClassId} (hl : l.stackTraces = false) (a0 : Int32) (a1 : Int32) (a2 : Int32) : zMet l E D tA yX1_codeOf (ws_ yX1_codeOf cX1_codeOf 3 (Option.some Jvm.ClassFile.FieldType.int)) 10 (s_X1_codeOf E a0 a1 a2) [zI a0, zI a1, zI a2] := by
  refine z_met hl (by decide +kernel) (by rw [zSl_len]; exact (Nat.le_of_ble_eq_true rfl)) fun p e R s m args below meth c k0 x hret hnm htab => ?_
  refine z_lv [(0, zI a0), (1, zI a1), (2, zI a2)] rfl ?_
  unfold s_X1_codeOf
  refine z_iload_n (pc := 0) x 0 dX1_codeOf_0 rfl rfl ?_
  refine z_call (pc := 1) (z_canS (pc := 1) (As := [zI a0]) (st := []) x (m_X1_isPair hl a0) q812 q807 q108 q808 n_X1_isPair ⟨by decide, by decide⟩ (Nat.le_of_ble_eq_true rfl) dX1_codeOf_1) (zv_I fun v1 => ?_) (fun q => zx_thr x (fun z hz => (htab z hz).elim) q)
  refine z_if_eq (pc := 4) (tgt := 16) x dX1_codeOf_4 rfl (fun _ => ?_) (fun _ => ?_)
  · refine z_iload_n (pc := 16) x 1 dX1_codeOf_16 rfl rfl ?_
    exact z_iret (pc := 17) x hret dX1_codeOf_17
  · refine z_bipush (pc := 7) x (v := (10 : Int32)) dX1_codeOf_7 rfl ?_
    refine z_iload_n (pc := 9) x 1 dX1_codeOf_9 rfl rfl ?_
    refine z_imul (pc := 10) x dX1_codeOf_10 ?_
    refine z_iload_n (pc := 11) x 2 dX1_codeOf_11 rfl rfl ?_
    refine z_iadd (pc := 12) x dX1_codeOf_12 ?_
    refine z_goto (pc := 13) (tgt := 17) x dX1_codeOf_13 rfl ?_
    exact z_iret (pc := 17) x hret dX1_codeOf_17
/-! X1_requireCode -/
def s_X1_requireCode_54 (E : zE) (a1 : Int32) (a2 : Int32) (a3 : Int32) (b0 : Int32) : zM := zC (s_X1_requireArgument E b0) zThr (zKV (zC (s_X1_codeOf E a3 a1 a2) zThr (zKI (fun v60 => zRet (some (.int v60))))))
theorem w_X1_requireCode_54 (x : zCx p l R s m args meth c E D tA cX1_requireCode 5 yX1_requireCode.cls 11) (hl : l.stackTraces = false) (hret : meth.sig.returnType = (Option.some Jvm.ClassFile.FieldType.int)) (hnm : meth.name = yX1_requireCode.name) (htab : ∀ z ∈ c.exceptionTable.toList, False) (a1 : Int32) (a2 : Int32) (a3 : Int32) (b0 : Int32) : zW p l e R s m args below meth c E D tA 5 k0 (s_X1_requireCode_54 E a1 a2 a3 b0) [(1, zI a1), (2, zI a2), (3, zI a3)] 54 [zI b0] := by
  unfold s_X1_requireCode_54
  refine z_call (pc := 54) (z_canS (pc := 54) (As := [zI b0]) (st := []) x (m_X1_requireArgument hl b0) q1525 q1526 q108 q1527 n_X1_requireArgument ⟨by decide, by decide⟩ (Nat.le_of_ble_eq_true rfl) dX1_requireCode_54) (zv_V ?_) (fun q => zx_thr x (fun z hz => (htab z hz).elim) q)
  refine z_iload_n (pc := 57) x 2 dX1_requireCode_57 rfl rfl ?_
  refine z_iload_n (pc := 58) x 0 dX1_requireCode_58 rfl rfl ?_
  refine z_iload_n (pc := 59) x 1 dX1_requireCode_59 rfl rfl ?_
  refine z_call (pc := 60) (z_canS (pc := 60) (As := [zI a3, zI a1, zI a2]) (st := []) x (m_X1_codeOf hl a3 a1 a2) q1533 q810 q108 q811 n_X1_codeOf ⟨by decide, by decide⟩ (Nat.le_of_ble_eq_true rfl) dX1_requireCode_60) (zv_I fun v60 => ?_) (fun q => zx_thr x (fun z hz => (htab z hz).elim) q)
  exact z_iret (pc := 63) x hret dX1_requireCode_63
def s_X1_requireCode_53 (E : zE) (a1 : Int32) (a2 : Int32) (a3 : Int32) : zM := s_X1_requireCode_54 E a1 a2 a3 (0 : Int32)
theorem w_X1_requireCode_53 (x : zCx p l R s m args meth c E D tA cX1_requireCode 5 yX1_requireCode.cls 11) (hl : l.stackTraces = false) (hret : meth.sig.returnType = (Option.some Jvm.ClassFile.FieldType.int)) (hnm : meth.name = yX1_requireCode.name) (htab : ∀ z ∈ c.exceptionTable.toList, False) (a1 : Int32) (a2 : Int32) (a3 : Int32) : zW p l e R s m args below meth c E D tA 5 k0 (s_X1_requireCode_53 E a1 a2 a3) [(1, zI a1), (2, zI a2), (3, zI a3)] 53 [] := by
  unfold s_X1_requireCode_53
  refine z_iconst (pc := 53) x (v := (0 : Int32)) dX1_requireCode_53 rfl ?_
  exact z_sub [0, 1, 2] rfl (w_X1_requireCode_54 x hl hret hnm htab a1 a2 a3 (0 : Int32))
def s_X1_requireCode_32 (E : zE) (a1 : Int32) (a2 : Int32) (a3 : Int32) (b0 : Int32) : zM := zC (s_X1_isBetween E a1 (0 : Int32) (9 : Int32)) zThr (zKI (fun v38 => if v38 = 0 then (s_X1_requireCode_53 E a1 a2 a3) else (if b0 = 0 then (s_X1_requireCode_53 E a1 a2 a3) else (s_X1_requireCode_54 E a1 a2 a3 (1 : Int32)))))
theorem w_X1_requireCode_32 (x : zCx p l R s m args meth c E D tA cX1_requireCode 5 yX1_requireCode.cls 11) (hl : l.stackTraces = false) (hret : meth.sig.returnType = (Option.some Jvm.ClassFile.FieldType.int)) (hnm : meth.name = yX1_requireCode.name) (htab : ∀ z ∈ c.exceptionTable.toList, False) (a1 : Int32) (a2 : Int32) (a3 : Int32) (b0 : Int32) : zW p l e R s m args below meth c E D tA 5 k0 (s_X1_requireCode_32 E a1 a2 a3 b0) [(1, zI a1), (2, zI a2), (3, zI a3)] 32 [zI b0] := by
  unfold s_X1_requireCode_32
  refine z_istore (pc := 32) (lv' := [(4, zI b0), (1, zI a1), (2, zI a2), (3, zI a3)]) x dX1_requireCode_32 (Nat.le_of_ble_eq_true rfl) rfl ?_
  refine z_iload_n (pc := 34) x 1 dX1_requireCode_34 rfl rfl ?_
  refine z_iconst (pc := 35) x (v := (0 : Int32)) dX1_requireCode_35 rfl ?_
  refine z_bipush (pc := 36) x (v := (9 : Int32)) dX1_requireCode_36 rfl ?_
  refine z_call (pc := 38) (z_canS (pc := 38) (As := [zI a1, zI (0 : Int32), zI (9 : Int32)]) (st := []) x (m_X1_isBetween hl a1 (0 : Int32) (9 : Int32)) q1522 q1523 q108 q1524 n_X1_isBetween ⟨by decide, by decide⟩ (Nat.le_of_ble_eq_true rfl) dX1_requireCode_38) (zv_I fun v38 => ?_) (fun q => zx_thr x (fun z hz => (htab z hz).elim) q)
  refine z_if_eq (pc := 41) (tgt := 53) x dX1_requireCode_41 rfl (fun _ => ?_) (fun _ => ?_)
  · exact z_sub [1, 2, 3] rfl (w_X1_requireCode_53 x hl hret hnm htab a1 a2 a3)
  · refine z_iload (pc := 44) x 0 dX1_requireCode_44 rfl ?_
    refine z_if_eq (pc := 46) (tgt := 53) x dX1_requireCode_46 rfl (fun _ => ?_) (fun _ => ?_)
    · exact z_sub [1, 2, 3] rfl (w_X1_requireCode_53 x hl hret hnm htab a1 a2 a3)
    · refine z_iconst (pc := 49) x (v := (1 : Int32)) dX1_requireCode_49 rfl ?_
      refine z_goto (pc := 50) (tgt := 54) x dX1_requireCode_50 rfl ?_
      exact z_sub [1, 2, 3] rfl (w_X1_requireCode_54 x hl hret hnm htab a1 a2 a3 (1 : Int32))
def s_X1_requireCode (E : zE) (a0 : Int32) (a1 : Int32) (a2 : Int32) : zM := zC (s_X1_requirePredicate E a0) zThr (zKI (fun v1 => zC (s_X1_isPair E v1) zThr (zKI (fun v6 => if v6 = 0 then (if a2 = (-1 : Int32) then (s_X1_requireCode_32 E a1 a2 v1 (1 : Int32)) else (s_X1_requireCode_32 E a1 a2 v1 (0 : Int32))) else (zC (s_X1_isBetween E a2 (0 : Int32) (9 : Int32)) zThr (zKI (fun v16 => s_X1_requireCode_32 E a1 a2 v1 v16)))))))
theorem m_X1_requireCode {l : Launch} {E : zE} {D : va_G} {tA : Nat → ClassId} (hl : l.stackTraces = false) (a0 : Int32) (a1 : Int32) (a2 : Int32) : zMet l E D tA yX1_requireCode (ws_ yX1_requireCode cX1_requireCode 5 (Option.some Jvm.ClassFile.FieldType.int)) 11 (s_X1_requireCode E a0 a1 a2) [zI a0, zI a1, zI a2] := by
  refine z_met hl (by decide +kernel) (by rw [zSl_len]; exact (Nat.le_of_ble_eq_true rfl)) fun p e R s m args below meth c k0 x hret hnm htab => ?_
  refine z_lv [(0, zI a0), (1, zI a1), (2, zI a2)] rfl ?_
  unfold s_X1_requireCode
  refine z_iload_n (pc := 0) x 0 dX1_requireCode_0 rfl rfl ?_
  refine z_call (pc := 1) (z_canS (pc := 1) (As := [zI a0]) (st := []) x (m_X1_requirePredicate hl a0) q1519 q1520 q108 q1521 n_X1_requirePredicate ⟨by decide, by decide⟩ (Nat.le_of_ble_eq_true rfl) dX1_requireCode_1) (zv_I fun v1 => ?_) (fun q => zx_thr x (fun z hz => (htab z hz).elim) q)
  refine z_istore_n (pc := 4) (lv' := [(3, zI v1), (0, zI a0), (1, zI a1), (2, zI a2)]) x dX1_requireCode_4 rfl (Nat.le_of_ble_eq_true rfl) rfl ?_
  refine z_iload_n (pc := 5) x 0 dX1_requireCode_5 rfl rfl ?_
  refine z_call (pc := 6) (z_canS (pc := 6) (As := [zI v1]) (st := []) x (m_X1_isPair hl v1) q812 q807 q108 q808 n_X1_isPair ⟨by decide, by decide⟩ (Nat.le_of_ble_eq_true rfl) dX1_requireCode_6) (zv_I fun v6 => ?_) (fun q => zx_thr x (fun z hz => (htab z hz).elim) q)
  refine z_if_eq (pc := 9) (tgt := 22) x dX1_requireCode_9 rfl (fun _ => ?_) (fun _ => ?_)
  · refine z_iload_n (pc := 22) x 3 dX1_requireCode_22 rfl rfl ?_
    refine z_iconst (pc := 23) x (v := (-1 : Int32)) dX1_requireCode_23 rfl ?_
    refine z_icmp_ne (pc := 24) (tgt := 31) x dX1_requireCode_24 rfl (fun _ => ?_) (fun _ => ?_)
    · refine z_iconst (pc := 27) x (v := (1 : Int32)) dX1_requireCode_27 rfl ?_
      refine z_goto (pc := 28) (tgt := 32) x dX1_requireCode_28 rfl ?_
      exact z_sub [2, 3, 0] rfl (w_X1_requireCode_32 x hl hret hnm htab a1 a2 v1 (1 : Int32))
    · refine z_iconst (pc := 31) x (v := (0 : Int32)) dX1_requireCode_31 rfl ?_
      exact z_sub [2, 3, 0] rfl (w_X1_requireCode_32 x hl hret hnm htab a1 a2 v1 (0 : Int32))
  · refine z_iload_n (pc := 12) x 3 dX1_requireCode_12 rfl rfl ?_
    refine z_iconst (pc := 13) x (v := (0 : Int32)) dX1_requireCode_13 rfl ?_
    refine z_bipush (pc := 14) x (v := (9 : Int32)) dX1_requireCode_14 rfl ?_
    refine z_call (pc := 16) (z_canS (pc := 16) (As := [zI a2, zI (0 : Int32), zI (9 : Int32)]) (st := []) x (m_X1_isBetween hl a2 (0 : Int32) (9 : Int32)) q1522 q1523 q108 q1524 n_X1_isBetween ⟨by decide, by decide⟩ (Nat.le_of_ble_eq_true rfl) dX1_requireCode_16) (zv_I fun v16 => ?_) (fun q => zx_thr x (fun z hz => (htab z hz).elim) q)
    refine z_goto (pc := 19) (tgt := 32) x dX1_requireCode_19 rfl ?_
    exact z_sub [2, 3, 0] rfl (w_X1_requireCode_32 x hl hret hnm htab a1 a2 v1 v16)
/-! X5_has -/
def s_X5_has (E : zE) (a0 : Option Nat) (a1 : Int32) : zM := zGetR a0 33 0 (fun v1 => zDiv a1 (32 : Int32) (fun v7 => zGaI 0 v1 v7 (fun v8 => zRem a1 (32 : Int32) (fun v12 => if ((v8 >>> (v12 &&& 31)) &&& (1 : Int32)) = (1 : Int32) then (zRetN .boolean (1 : Int32)) else (zRetN .boolean (0 : Int32))))))
theorem m_X5_has {l : Launch} {E : zE} {D : va_G} {tA : Nat → ClassId} (hl : l.stackTraces = false) (a0 : Option Nat) (a1 : Int32) : zMet l E D tA yX5_has (ws_ yX5_has cX5_has 2 (Option.some Jvm.ClassFile.FieldType.boolean)) 9 (s_X5_has E a0 a1) [zP a0, zI a1] := by
  refine z_met hl (by decide +kernel) (by rw [zSl_len]; exact (Nat.le_of_ble_eq_true rfl)) fun p e R s m args below meth c k0 x hret hnm htab => ?_
  refine z_lv [(0, zP a0), (1, zI a1)] rfl ?_
  unfold s_X5_has
  refine z_aload_n (pc := 0) x 0 dX5_has_0 rfl rfl ?_
  refine z_get (pc := 1) (fun _ _ h => zAsR_eq h) x in_X5 (ci := 33) rfl (k := 0) (by decide) q236 (fun _ h => h) dX5_has_1 fun v1 => ?_
  refine z_iload_n (pc := 4) x 1 dX5_has_4 rfl rfl ?_
  refine z_bipush (pc := 5) x (v := (32 : Int32)) dX5_has_5 rfl ?_
  refine z_idiv (pc := 7) x dX5_has_7 fun v7 => ?_
  refine z_iald (pc := 8) x (t := 0) rfl dX5_has_8 fun v8 => ?_
  refine z_iload_n (pc := 9) x 1 dX5_has_9 rfl rfl ?_
  refine z_bipush (pc := 10) x (v := (32 : Int32)) dX5_has_10 rfl ?_
  refine z_irem (pc := 12) x dX5_has_12 fun v12 => ?_
  refine z_ishr (pc := 13) x dX5_has_13 ?_
  refine z_iconst (pc := 14) x (v := (1 : Int32)) dX5_has_14 rfl ?_
  refine z_iand (pc := 15) x dX5_has_15 ?_
  refine z_iconst (pc := 16) x (v := (1 : Int32)) dX5_has_16 rfl ?_
  refine z_icmp_ne (pc := 17) (tgt := 24) x dX5_has_17 rfl (fun _ => ?_) (fun _ => ?_)
  · refine z_iconst (pc := 20) x (v := (1 : Int32)) dX5_has_20 rfl ?_
    refine z_goto (pc := 21) (tgt := 25) x dX5_has_21 rfl ?_
    exact z_zret (pc := 25) x hret dX5_has_25
  · refine z_iconst (pc := 24) x (v := (0 : Int32)) dX5_has_24 rfl ?_
    exact z_zret (pc := 25) x hret dX5_has_25
/-! X4_has -/
def s_X4_has (E : zE) (a0 : Option Nat) (a1 : Int32) (a2 : Int32) : zM := zGetR a0 32 0 (fun v1 => zGaR 6 v1 a1 (fun v5 => zC (zRv v5 [(33, fun b => s_X5_has E (some b) a2)]) zThr (zKI (fun v7 => zRetN .boolean v7))))
theorem m_X4_has {l : Launch} {E : zE} {D : va_G} {tA : Nat → ClassId} (hl : l.stackTraces = false) (a0 : Option Nat) (a1 : Int32) (a2 : Int32) : zMet l E D tA yX4_has (ws_ yX4_has cX4_has 3 (Option.some Jvm.ClassFile.FieldType.boolean)) 10 (s_X4_has E a0 a1 a2) [zP a0, zI a1, zI a2] := by
  refine z_met hl (by decide +kernel) (by rw [zSl_len]; exact (Nat.le_of_ble_eq_true rfl)) fun p e R s m args below meth c k0 x hret hnm htab => ?_
  refine z_lv [(0, zP a0), (1, zI a1), (2, zI a2)] rfl ?_
  unfold s_X4_has
  refine z_aload_n (pc := 0) x 0 dX4_has_0 rfl rfl ?_
  refine z_get (pc := 1) (fun _ _ h => zAsR_eq h) x in_X4 (ci := 32) rfl (k := 0) (by decide) q241 (fun _ h => h) dX4_has_1 fun v1 => ?_
  refine z_iload_n (pc := 4) x 1 dX4_has_4 rfl rfl ?_
  refine z_aald (pc := 5) x (t := 6) rfl rfl dX4_has_5 fun v5 => ?_
  refine z_iload_n (pc := 6) x 2 dX4_has_6 rfl rfl ?_
  refine z_call (pc := 7) (z_canV (pc := 7) (As := [zI a2]) (st := []) x (ci := 33) rfl (fun b => m_X5_has hl (some b) a2) q817 q818 (x.2.2.2.2.1 _ q819) q115 q820 n_X5_has ⟨by decide, by decide⟩ (Nat.le_of_ble_eq_true rfl) dX4_has_7) (zv_I fun v7 => ?_) (fun q => zx_thr x (fun z hz => (htab z hz).elim) q)
  exact z_zret (pc := 10) x hret dX4_has_10
/-! X1_requireSupport -/
def s_X1_requireSupport (E : zE) (a0 : Int32) : zM := if a0 = 0 then (zNew 4 6 [] (fun v4 => zAth v4 zThr)) else (zRet none)
theorem m_X1_requireSupport {l : Launch} {E : zE} {D : va_G} {tA : Nat → ClassId} (hl : l.stackTraces = false) (a0 : Int32) : zMet l E D tA yX1_requireSupport (ws_ yX1_requireSupport cX1_requireSupport 1 (Option.none : Option Jvm.ClassFile.FieldType)) 9 (s_X1_requireSupport E a0) [zI a0] := by
  refine z_met hl (by decide +kernel) (by rw [zSl_len]; exact (Nat.le_of_ble_eq_true rfl)) fun p e R s m args below meth c k0 x hret hnm htab => ?_
  refine z_lv [(0, zI a0)] rfl ?_
  unfold s_X1_requireSupport
  refine z_iload_n (pc := 0) x 0 dX1_requireSupport_0 rfl rfl ?_
  refine z_if_ne (pc := 1) (tgt := 12) x dX1_requireSupport_1 rfl (fun _ => ?_) (fun _ => ?_)
  · refine z_exc (pc := 4) x ["java/lang/RuntimeException", "java/lang/Exception"] (by decide) (by decide +kernel) (by decide +kernel) q1537 q135 (zx_at0 x zxa_UnsupportedOperationException q1546) (List.all_eq_true.mp (by decide +kernel)) (ci := 4) rfl (by show 2 + 3 < _; omega) (zSum (k := 0) rfl (by show _ + (13 * (2 + 1) + 42) ≤ _; omega)) dX1_requireSupport_4 dX1_requireSupport_7 dX1_requireSupport_8 fun v4 => ?_
    exact z_athrow (pc := 11) x dX1_requireSupport_11 (fun q => zx_thr x (fun z hz => (htab z hz).elim) q)
  · exact z_vret (pc := 12) x hret dX1_requireSupport_12
/-! J14_bitCount -/
def s_J14_bitCount (E : zE) (a0 : Int32) : zM := zRet (some (.int ((((((((a0 - (((a0).toUInt32 >>> (((1 : Int32)).toUInt32 &&& Int32.toUInt32 31)).toInt32 &&& (1431655765 : Int32))) &&& (858993459 : Int32)) + ((((a0 - (((a0).toUInt32 >>> (((1 : Int32)).toUInt32 &&& Int32.toUInt32 31)).toInt32 &&& (1431655765 : Int32)))).toUInt32 >>> (((2 : Int32)).toUInt32 &&& Int32.toUInt32 31)).toInt32 &&& (858993459 : Int32))) + (((((a0 - (((a0).toUInt32 >>> (((1 : Int32)).toUInt32 &&& Int32.toUInt32 31)).toInt32 &&& (1431655765 : Int32))) &&& (858993459 : Int32)) + ((((a0 - (((a0).toUInt32 >>> (((1 : Int32)).toUInt32 &&& Int32.toUInt32 31)).toInt32 &&& (1431655765 : Int32)))).toUInt32 >>> (((2 : Int32)).toUInt32 &&& Int32.toUInt32 31)).toInt32 &&& (858993459 : Int32)))).toUInt32 >>> (((4 : Int32)).toUInt32 &&& Int32.toUInt32 31)).toInt32) &&& (252645135 : Int32)) + (((((((a0 - (((a0).toUInt32 >>> (((1 : Int32)).toUInt32 &&& Int32.toUInt32 31)).toInt32 &&& (1431655765 : Int32))) &&& (858993459 : Int32)) + ((((a0 - (((a0).toUInt32 >>> (((1 : Int32)).toUInt32 &&& Int32.toUInt32 31)).toInt32 &&& (1431655765 : Int32)))).toUInt32 >>> (((2 : Int32)).toUInt32 &&& Int32.toUInt32 31)).toInt32 &&& (858993459 : Int32))) + (((((a0 - (((a0).toUInt32 >>> (((1 : Int32)).toUInt32 &&& Int32.toUInt32 31)).toInt32 &&& (1431655765 : Int32))) &&& (858993459 : Int32)) + ((((a0 - (((a0).toUInt32 >>> (((1 : Int32)).toUInt32 &&& Int32.toUInt32 31)).toInt32 &&& (1431655765 : Int32)))).toUInt32 >>> (((2 : Int32)).toUInt32 &&& Int32.toUInt32 31)).toInt32 &&& (858993459 : Int32)))).toUInt32 >>> (((4 : Int32)).toUInt32 &&& Int32.toUInt32 31)).toInt32) &&& (252645135 : Int32))).toUInt32 >>> (((8 : Int32)).toUInt32 &&& Int32.toUInt32 31)).toInt32) + ((((((((a0 - (((a0).toUInt32 >>> (((1 : Int32)).toUInt32 &&& Int32.toUInt32 31)).toInt32 &&& (1431655765 : Int32))) &&& (858993459 : Int32)) + ((((a0 - (((a0).toUInt32 >>> (((1 : Int32)).toUInt32 &&& Int32.toUInt32 31)).toInt32 &&& (1431655765 : Int32)))).toUInt32 >>> (((2 : Int32)).toUInt32 &&& Int32.toUInt32 31)).toInt32 &&& (858993459 : Int32))) + (((((a0 - (((a0).toUInt32 >>> (((1 : Int32)).toUInt32 &&& Int32.toUInt32 31)).toInt32 &&& (1431655765 : Int32))) &&& (858993459 : Int32)) + ((((a0 - (((a0).toUInt32 >>> (((1 : Int32)).toUInt32 &&& Int32.toUInt32 31)).toInt32 &&& (1431655765 : Int32)))).toUInt32 >>> (((2 : Int32)).toUInt32 &&& Int32.toUInt32 31)).toInt32 &&& (858993459 : Int32)))).toUInt32 >>> (((4 : Int32)).toUInt32 &&& Int32.toUInt32 31)).toInt32) &&& (252645135 : Int32)) + (((((((a0 - (((a0).toUInt32 >>> (((1 : Int32)).toUInt32 &&& Int32.toUInt32 31)).toInt32 &&& (1431655765 : Int32))) &&& (858993459 : Int32)) + ((((a0 - (((a0).toUInt32 >>> (((1 : Int32)).toUInt32 &&& Int32.toUInt32 31)).toInt32 &&& (1431655765 : Int32)))).toUInt32 >>> (((2 : Int32)).toUInt32 &&& Int32.toUInt32 31)).toInt32 &&& (858993459 : Int32))) + (((((a0 - (((a0).toUInt32 >>> (((1 : Int32)).toUInt32 &&& Int32.toUInt32 31)).toInt32 &&& (1431655765 : Int32))) &&& (858993459 : Int32)) + ((((a0 - (((a0).toUInt32 >>> (((1 : Int32)).toUInt32 &&& Int32.toUInt32 31)).toInt32 &&& (1431655765 : Int32)))).toUInt32 >>> (((2 : Int32)).toUInt32 &&& Int32.toUInt32 31)).toInt32 &&& (858993459 : Int32)))).toUInt32 >>> (((4 : Int32)).toUInt32 &&& Int32.toUInt32 31)).toInt32) &&& (252645135 : Int32))).toUInt32 >>> (((8 : Int32)).toUInt32 &&& Int32.toUInt32 31)).toInt32)).toUInt32 >>> (((16 : Int32)).toUInt32 &&& Int32.toUInt32 31)).toInt32) &&& (63 : Int32))))
theorem m_J14_bitCount {l : Launch} {E : zE} {D : va_G} {tA : Nat → ClassId} (hl : l.stackTraces = false) (a0 : Int32) : zMet l E D tA yJ14_bitCount (ws_ yJ14_bitCount cJ14_bitCount 1 (Option.some Jvm.ClassFile.FieldType.int)) 9 (s_J14_bitCount E a0) [zI a0] := by
  refine z_met hl (by decide +kernel) (by rw [zSl_len]; exact (Nat.le_of_ble_eq_true rfl)) fun p e R s m args below meth c k0 x hret hnm htab => ?_
  refine z_lv [(0, zI a0)] rfl ?_
  unfold s_J14_bitCount
  refine z_iload_n (pc := 0) x 0 dJ14_bitCount_0 rfl rfl ?_
  refine z_iload_n (pc := 1) x 0 dJ14_bitCount_1 rfl rfl ?_
  refine z_iconst (pc := 2) x (v := (1 : Int32)) dJ14_bitCount_2 rfl ?_
  refine z_iushr (pc := 3) x dJ14_bitCount_3 ?_
  refine z_ldcw (pc := 4) x (v := (1431655765 : Int32)) q361 dJ14_bitCount_4 ?_
  refine z_iand (pc := 7) x dJ14_bitCount_7 ?_
  refine z_isub (pc := 8) x dJ14_bitCount_8 ?_
  refine z_istore_n (pc := 9) (lv' := [(0, zI (a0 - (((a0).toUInt32 >>> (((1 : Int32)).toUInt32 &&& Int32.toUInt32 31)).toInt32 &&& (1431655765 : Int32))))]) x dJ14_bitCount_9 rfl (Nat.le_of_ble_eq_true rfl) rfl ?_
  refine z_iload_n (pc := 10) x 0 dJ14_bitCount_10 rfl rfl ?_
  refine z_ldcw (pc := 11) x (v := (858993459 : Int32)) q362 dJ14_bitCount_11 ?_
  refine z_iand (pc := 14) x dJ14_bitCount_14 ?_
  refine z_iload_n (pc := 15) x 0 dJ14_bitCount_15 rfl rfl ?_
  refine z_iconst (pc := 16) x (v := (2 : Int32)) dJ14_bitCount_16 rfl ?_
  refine z_iushr (pc := 17) x dJ14_bitCount_17 ?_
  refine z_ldcw (pc := 18) x (v := (858993459 : Int32)) q362 dJ14_bitCount_18 ?_
  refine z_iand (pc := 21) x dJ14_bitCount_21 ?_
  refine z_iadd (pc := 22) x dJ14_bitCount_22 ?_
  refine z_istore_n (pc := 23) (lv' := [(0, zI (((a0 - (((a0).toUInt32 >>> (((1 : Int32)).toUInt32 &&& Int32.toUInt32 31)).toInt32 &&& (1431655765 : Int32))) &&& (858993459 : Int32)) + ((((a0 - (((a0).toUInt32 >>> (((1 : Int32)).toUInt32 &&& Int32.toUInt32 31)).toInt32 &&& (1431655765 : Int32)))).toUInt32 >>> (((2 : Int32)).toUInt32 &&& Int32.toUInt32 31)).toInt32 &&& (858993459 : Int32))))]) x dJ14_bitCount_23 rfl (Nat.le_of_ble_eq_true rfl) rfl ?_
  refine z_iload_n (pc := 24) x 0 dJ14_bitCount_24 rfl rfl ?_
  refine z_iload_n (pc := 25) x 0 dJ14_bitCount_25 rfl rfl ?_
  refine z_iconst (pc := 26) x (v := (4 : Int32)) dJ14_bitCount_26 rfl ?_
  refine z_iushr (pc := 27) x dJ14_bitCount_27 ?_
  refine z_iadd (pc := 28) x dJ14_bitCount_28 ?_
  refine z_ldcw (pc := 29) x (v := (252645135 : Int32)) q363 dJ14_bitCount_29 ?_
  refine z_iand (pc := 32) x dJ14_bitCount_32 ?_
  refine z_istore_n (pc := 33) (lv' := [(0, zI (((((a0 - (((a0).toUInt32 >>> (((1 : Int32)).toUInt32 &&& Int32.toUInt32 31)).toInt32 &&& (1431655765 : Int32))) &&& (858993459 : Int32)) + ((((a0 - (((a0).toUInt32 >>> (((1 : Int32)).toUInt32 &&& Int32.toUInt32 31)).toInt32 &&& (1431655765 : Int32)))).toUInt32 >>> (((2 : Int32)).toUInt32 &&& Int32.toUInt32 31)).toInt32 &&& (858993459 : Int32))) + (((((a0 - (((a0).toUInt32 >>> (((1 : Int32)).toUInt32 &&& Int32.toUInt32 31)).toInt32 &&& (1431655765 : Int32))) &&& (858993459 : Int32)) + ((((a0 - (((a0).toUInt32 >>> (((1 : Int32)).toUInt32 &&& Int32.toUInt32 31)).toInt32 &&& (1431655765 : Int32)))).toUInt32 >>> (((2 : Int32)).toUInt32 &&& Int32.toUInt32 31)).toInt32 &&& (858993459 : Int32)))).toUInt32 >>> (((4 : Int32)).toUInt32 &&& Int32.toUInt32 31)).toInt32) &&& (252645135 : Int32)))]) x dJ14_bitCount_33 rfl (Nat.le_of_ble_eq_true rfl) rfl ?_
  refine z_iload_n (pc := 34) x 0 dJ14_bitCount_34 rfl rfl ?_
  refine z_iload_n (pc := 35) x 0 dJ14_bitCount_35 rfl rfl ?_
  refine z_bipush (pc := 36) x (v := (8 : Int32)) dJ14_bitCount_36 rfl ?_
  refine z_iushr (pc := 38) x dJ14_bitCount_38 ?_
  refine z_iadd (pc := 39) x dJ14_bitCount_39 ?_
  refine z_istore_n (pc := 40) (lv' := [(0, zI ((((((a0 - (((a0).toUInt32 >>> (((1 : Int32)).toUInt32 &&& Int32.toUInt32 31)).toInt32 &&& (1431655765 : Int32))) &&& (858993459 : Int32)) + ((((a0 - (((a0).toUInt32 >>> (((1 : Int32)).toUInt32 &&& Int32.toUInt32 31)).toInt32 &&& (1431655765 : Int32)))).toUInt32 >>> (((2 : Int32)).toUInt32 &&& Int32.toUInt32 31)).toInt32 &&& (858993459 : Int32))) + (((((a0 - (((a0).toUInt32 >>> (((1 : Int32)).toUInt32 &&& Int32.toUInt32 31)).toInt32 &&& (1431655765 : Int32))) &&& (858993459 : Int32)) + ((((a0 - (((a0).toUInt32 >>> (((1 : Int32)).toUInt32 &&& Int32.toUInt32 31)).toInt32 &&& (1431655765 : Int32)))).toUInt32 >>> (((2 : Int32)).toUInt32 &&& Int32.toUInt32 31)).toInt32 &&& (858993459 : Int32)))).toUInt32 >>> (((4 : Int32)).toUInt32 &&& Int32.toUInt32 31)).toInt32) &&& (252645135 : Int32)) + (((((((a0 - (((a0).toUInt32 >>> (((1 : Int32)).toUInt32 &&& Int32.toUInt32 31)).toInt32 &&& (1431655765 : Int32))) &&& (858993459 : Int32)) + ((((a0 - (((a0).toUInt32 >>> (((1 : Int32)).toUInt32 &&& Int32.toUInt32 31)).toInt32 &&& (1431655765 : Int32)))).toUInt32 >>> (((2 : Int32)).toUInt32 &&& Int32.toUInt32 31)).toInt32 &&& (858993459 : Int32))) + (((((a0 - (((a0).toUInt32 >>> (((1 : Int32)).toUInt32 &&& Int32.toUInt32 31)).toInt32 &&& (1431655765 : Int32))) &&& (858993459 : Int32)) + ((((a0 - (((a0).toUInt32 >>> (((1 : Int32)).toUInt32 &&& Int32.toUInt32 31)).toInt32 &&& (1431655765 : Int32)))).toUInt32 >>> (((2 : Int32)).toUInt32 &&& Int32.toUInt32 31)).toInt32 &&& (858993459 : Int32)))).toUInt32 >>> (((4 : Int32)).toUInt32 &&& Int32.toUInt32 31)).toInt32) &&& (252645135 : Int32))).toUInt32 >>> (((8 : Int32)).toUInt32 &&& Int32.toUInt32 31)).toInt32))]) x dJ14_bitCount_40 rfl (Nat.le_of_ble_eq_true rfl) rfl ?_
  refine z_iload_n (pc := 41) x 0 dJ14_bitCount_41 rfl rfl ?_
  refine z_iload_n (pc := 42) x 0 dJ14_bitCount_42 rfl rfl ?_
  refine z_bipush (pc := 43) x (v := (16 : Int32)) dJ14_bitCount_43 rfl ?_
  refine z_iushr (pc := 45) x dJ14_bitCount_45 ?_
  refine z_iadd (pc := 46) x dJ14_bitCount_46 ?_
  refine z_istore_n (pc := 47) (lv' := [(0, zI (((((((a0 - (((a0).toUInt32 >>> (((1 : Int32)).toUInt32 &&& Int32.toUInt32 31)).toInt32 &&& (1431655765 : Int32))) &&& (858993459 : Int32)) + ((((a0 - (((a0).toUInt32 >>> (((1 : Int32)).toUInt32 &&& Int32.toUInt32 31)).toInt32 &&& (1431655765 : Int32)))).toUInt32 >>> (((2 : Int32)).toUInt32 &&& Int32.toUInt32 31)).toInt32 &&& (858993459 : Int32))) + (((((a0 - (((a0).toUInt32 >>> (((1 : Int32)).toUInt32 &&& Int32.toUInt32 31)).toInt32 &&& (1431655765 : Int32))) &&& (858993459 : Int32)) + ((((a0 - (((a0).toUInt32 >>> (((1 : Int32)).toUInt32 &&& Int32.toUInt32 31)).toInt32 &&& (1431655765 : Int32)))).toUInt32 >>> (((2 : Int32)).toUInt32 &&& Int32.toUInt32 31)).toInt32 &&& (858993459 : Int32)))).toUInt32 >>> (((4 : Int32)).toUInt32 &&& Int32.toUInt32 31)).toInt32) &&& (252645135 : Int32)) + (((((((a0 - (((a0).toUInt32 >>> (((1 : Int32)).toUInt32 &&& Int32.toUInt32 31)).toInt32 &&& (1431655765 : Int32))) &&& (858993459 : Int32)) + ((((a0 - (((a0).toUInt32 >>> (((1 : Int32)).toUInt32 &&& Int32.toUInt32 31)).toInt32 &&& (1431655765 : Int32)))).toUInt32 >>> (((2 : Int32)).toUInt32 &&& Int32.toUInt32 31)).toInt32 &&& (858993459 : Int32))) + (((((a0 - (((a0).toUInt32 >>> (((1 : Int32)).toUInt32 &&& Int32.toUInt32 31)).toInt32 &&& (1431655765 : Int32))) &&& (858993459 : Int32)) + ((((a0 - (((a0).toUInt32 >>> (((1 : Int32)).toUInt32 &&& Int32.toUInt32 31)).toInt32 &&& (1431655765 : Int32)))).toUInt32 >>> (((2 : Int32)).toUInt32 &&& Int32.toUInt32 31)).toInt32 &&& (858993459 : Int32)))).toUInt32 >>> (((4 : Int32)).toUInt32 &&& Int32.toUInt32 31)).toInt32) &&& (252645135 : Int32))).toUInt32 >>> (((8 : Int32)).toUInt32 &&& Int32.toUInt32 31)).toInt32) + ((((((((a0 - (((a0).toUInt32 >>> (((1 : Int32)).toUInt32 &&& Int32.toUInt32 31)).toInt32 &&& (1431655765 : Int32))) &&& (858993459 : Int32)) + ((((a0 - (((a0).toUInt32 >>> (((1 : Int32)).toUInt32 &&& Int32.toUInt32 31)).toInt32 &&& (1431655765 : Int32)))).toUInt32 >>> (((2 : Int32)).toUInt32 &&& Int32.toUInt32 31)).toInt32 &&& (858993459 : Int32))) + (((((a0 - (((a0).toUInt32 >>> (((1 : Int32)).toUInt32 &&& Int32.toUInt32 31)).toInt32 &&& (1431655765 : Int32))) &&& (858993459 : Int32)) + ((((a0 - (((a0).toUInt32 >>> (((1 : Int32)).toUInt32 &&& Int32.toUInt32 31)).toInt32 &&& (1431655765 : Int32)))).toUInt32 >>> (((2 : Int32)).toUInt32 &&& Int32.toUInt32 31)).toInt32 &&& (858993459 : Int32)))).toUInt32 >>> (((4 : Int32)).toUInt32 &&& Int32.toUInt32 31)).toInt32) &&& (252645135 : Int32)) + (((((((a0 - (((a0).toUInt32 >>> (((1 : Int32)).toUInt32 &&& Int32.toUInt32 31)).toInt32 &&& (1431655765 : Int32))) &&& (858993459 : Int32)) + ((((a0 - (((a0).toUInt32 >>> (((1 : Int32)).toUInt32 &&& Int32.toUInt32 31)).toInt32 &&& (1431655765 : Int32)))).toUInt32 >>> (((2 : Int32)).toUInt32 &&& Int32.toUInt32 31)).toInt32 &&& (858993459 : Int32))) + (((((a0 - (((a0).toUInt32 >>> (((1 : Int32)).toUInt32 &&& Int32.toUInt32 31)).toInt32 &&& (1431655765 : Int32))) &&& (858993459 : Int32)) + ((((a0 - (((a0).toUInt32 >>> (((1 : Int32)).toUInt32 &&& Int32.toUInt32 31)).toInt32 &&& (1431655765 : Int32)))).toUInt32 >>> (((2 : Int32)).toUInt32 &&& Int32.toUInt32 31)).toInt32 &&& (858993459 : Int32)))).toUInt32 >>> (((4 : Int32)).toUInt32 &&& Int32.toUInt32 31)).toInt32) &&& (252645135 : Int32))).toUInt32 >>> (((8 : Int32)).toUInt32 &&& Int32.toUInt32 31)).toInt32)).toUInt32 >>> (((16 : Int32)).toUInt32 &&& Int32.toUInt32 31)).toInt32))]) x dJ14_bitCount_47 rfl (Nat.le_of_ble_eq_true rfl) rfl ?_
  refine z_iload_n (pc := 48) x 0 dJ14_bitCount_48 rfl rfl ?_
  refine z_bipush (pc := 49) x (v := (63 : Int32)) dJ14_bitCount_49 rfl ?_
  refine z_iand (pc := 51) x dJ14_bitCount_51 ?_
  exact z_iret (pc := 52) x hret dJ14_bitCount_52
/-! X5_count -/
def s_X5_count_13 (E : zE) : Nat → Int32 → Option Nat → Int32 → Int32 → zM
  | 0, _, _, _, _ => zFail
  | n + 1, a1, a2, a3, a4 => if a3 ≤ a4 then (zRet (some (.int a1))) else (zGaI 0 a2 a4 (fun v22 => zC (s_J14_bitCount E v22) zThr (zKI (fun v28 => (s_X5_count_13 E n) (a1 + v28) a2 a3 (a4 + (1 : Int32))))))
theorem w_X5_count_13 (x : zCx p l R s m args meth c E D tA cX5_count 6 yX5_count.cls 10) (hl : l.stackTraces = false) (hret : meth.sig.returnType = (Option.some Jvm.ClassFile.FieldType.int)) (hnm : meth.name = yX5_count.name) (htab : ∀ z ∈ c.exceptionTable.toList, False) : ∀ (n : Nat) (a1 : Int32) (a2 : Option Nat) (a3 : Int32) (a4 : Int32), zW p l e R s m args below meth c E D tA 6 k0 (s_X5_count_13 E n a1 a2 a3 a4) [(1, zI a1), (2, zP a2), (3, zI a3), (4, zI a4)] 13 [] := by
  intro n
  induction n with
  | zero => intro a1 a2 a3 a4; exact z_fail
  | succ n h13 =>
    intro a1 a2 a3 a4
    rw [s_X5_count_13]
    refine z_iload (pc := 13) x 3 dX5_count_13 rfl ?_
    refine z_iload_n (pc := 15) x 2 dX5_count_15 rfl rfl ?_
    refine z_icmp_ge (pc := 16) (tgt := 39) x dX5_count_16 rfl (fun _ => ?_) (fun _ => ?_)
    · refine z_iload_n (pc := 39) x 0 dX5_count_39 rfl rfl ?_
      exact z_iret (pc := 40) x hret dX5_count_40
    · refine z_aload_n (pc := 19) x 1 dX5_count_19 rfl rfl ?_
      refine z_iload (pc := 20) x 3 dX5_count_20 rfl ?_
      refine z_iald (pc := 22) x (t := 0) rfl dX5_count_22 fun v22 => ?_
      refine z_istore (pc := 23) (lv' := [(5, zI v22), (1, zI a1), (2, zP a2), (3, zI a3), (4, zI a4)]) x dX5_count_23 (Nat.le_of_ble_eq_true rfl) rfl ?_
      refine z_iload_n (pc := 25) x 1 dX5_count_25 rfl rfl ?_
      refine z_iload (pc := 26) x 0 dX5_count_26 rfl ?_
      refine z_call (pc := 28) (z_canS (pc := 28) (As := [zI v22]) (st := [zI a1]) x (m_J14_bitCount hl v22) q358 q359 q128 q360 n_J14_bitCount ⟨by decide, by decide⟩ (Nat.le_of_ble_eq_true rfl) dX5_count_28) (zv_I fun v28 => ?_) (fun q => zx_thr x (fun z hz => (htab z hz).elim) q)
      refine z_iadd (pc := 31) x dX5_count_31 ?_
      refine z_istore_n (pc := 32) (lv' := [(1, zI (a1 + v28)), (5, zI v22), (2, zP a2), (3, zI a3), (4, zI a4)]) x dX5_count_32 rfl (Nat.le_of_ble_eq_true rfl) rfl ?_
      refine z_iinc (pc := 33) (lv' := [(4, zI (a4 + (1 : Int32))), (1, zI (a1 + v28)), (5, zI v22), (2, zP a2), (3, zI a3)]) x (v2 := (a4 + (1 : Int32))) 4 dX5_count_33 rfl rfl (Nat.le_of_ble_eq_true rfl) rfl ?_
      refine z_goto (pc := 36) (tgt := 13) x dX5_count_36 rfl ?_
      exact z_sub [1, 3, 4, 0] rfl (h13 (a1 + v28) a2 a3 (a4 + (1 : Int32)))
def s_X5_count (E : zE) (a0 : Option Nat) : zM := zGetR a0 33 0 (fun v3 => zLen v3 (fun v8 => s_X5_count_13 E zN (0 : Int32) v3 v8 (0 : Int32)))
theorem m_X5_count {l : Launch} {E : zE} {D : va_G} {tA : Nat → ClassId} (hl : l.stackTraces = false) (a0 : Option Nat) : zMet l E D tA yX5_count (ws_ yX5_count cX5_count 6 (Option.some Jvm.ClassFile.FieldType.int)) 10 (s_X5_count E a0) [zP a0] := by
  refine z_met hl (by decide +kernel) (by rw [zSl_len]; exact (Nat.le_of_ble_eq_true rfl)) fun p e R s m args below meth c k0 x hret hnm htab => ?_
  refine z_lv [(0, zP a0)] rfl ?_
  unfold s_X5_count
  refine z_iconst (pc := 0) x (v := (0 : Int32)) dX5_count_0 rfl ?_
  refine z_istore_n (pc := 1) (lv' := [(1, zI (0 : Int32)), (0, zP a0)]) x dX5_count_1 rfl (Nat.le_of_ble_eq_true rfl) rfl ?_
  refine z_aload_n (pc := 2) x 1 dX5_count_2 rfl rfl ?_
  refine z_get (pc := 3) (fun _ _ h => zAsR_eq h) x in_X5 (ci := 33) rfl (k := 0) (by decide) q236 (fun _ h => h) dX5_count_3 fun v3 => ?_
  refine z_astore_n (pc := 6) (lv' := [(2, zP v3), (1, zI (0 : Int32)), (0, zP a0)]) x dX5_count_6 rfl (Nat.le_of_ble_eq_true rfl) rfl ?_
  refine z_aload_n (pc := 7) x 0 dX5_count_7 rfl rfl ?_
  refine z_len (pc := 8) x dX5_count_8 fun v8 => ?_
  refine z_istore_n (pc := 9) (lv' := [(3, zI v8), (2, zP v3), (1, zI (0 : Int32)), (0, zP a0)]) x dX5_count_9 rfl (Nat.le_of_ble_eq_true rfl) rfl ?_
  refine z_iconst (pc := 10) x (v := (0 : Int32)) dX5_count_10 rfl ?_
  refine z_istore (pc := 11) (lv' := [(4, zI (0 : Int32)), (3, zI v8), (2, zP v3), (1, zI (0 : Int32)), (0, zP a0)]) x dX5_count_11 (Nat.le_of_ble_eq_true rfl) rfl ?_
  exact z_sub [3, 2, 1, 0] rfl (w_X5_count_13 x hl hret hnm htab zN (0 : Int32) v3 v8 (0 : Int32))
/-! X4_count -/
def s_X4_count_13 (E : zE) : Nat → Int32 → Option Nat → Int32 → Int32 → zM
  | 0, _, _, _, _ => zFail
  | n + 1, a1, a2, a3, a4 => if a3 ≤ a4 then (zRet (some (.int a1))) else (zGaR 6 a2 a4 (fun v22 => zC (zRv v22 [(33, fun b => s_X5_count E (some b))]) zThr (zKI (fun v28 => (s_X4_count_13 E n) (a1 + v28) a2 a3 (a4 + (1 : Int32))))))
theorem w_X4_count_13 (x : zCx p l R s m args meth c E D tA cX4_count 6 yX4_count.cls 11) (hl : l.stackTraces = false) (hret : meth.sig.returnType = (Option.some Jvm.ClassFile.FieldType.int)) (hnm : meth.name = yX4_count.name) (htab : ∀ z ∈ c.exceptionTable.toList, False) : ∀ (n : Nat) (a1 : Int32) (a2 : Option Nat) (a3 : Int32) (a4 : Int32), zW p l e R s m args below meth c E D tA 6 k0 (s_X4_count_13 E n a1 a2 a3 a4) [(1, zI a1), (2, zP a2), (3, zI a3), (4, zI a4)] 13 [] := by
  intro n
  induction n with
  | zero => intro a1 a2 a3 a4; exact z_fail
  | succ n h13 =>
    intro a1 a2 a3 a4
    rw [s_X4_count_13]
    refine z_iload (pc := 13) x 3 dX4_count_13 rfl ?_
    refine z_iload_n (pc := 15) x 2 dX4_count_15 rfl rfl ?_
    refine z_icmp_ge (pc := 16) (tgt := 39) x dX4_count_16 rfl (fun _ => ?_) (fun _ => ?_)
    · refine z_iload_n (pc := 39) x 0 dX4_count_39 rfl rfl ?_
      exact z_iret (pc := 40) x hret dX4_count_40
    · refine z_aload_n (pc := 19) x 1 dX4_count_19 rfl rfl ?_
      refine z_iload (pc := 20) x 3 dX4_count_20 rfl ?_
      refine z_aald (pc := 22) x (t := 6) rfl rfl dX4_count_22 fun v22 => ?_
      refine z_astore (pc := 23) (lv' := [(5, zP v22), (1, zI a1), (2, zP a2), (3, zI a3), (4, zI a4)]) x dX4_count_23 (Nat.le_of_ble_eq_true rfl) rfl ?_
      refine z_iload_n (pc := 25) x 1 dX4_count_25 rfl rfl ?_
      refine z_aload (pc := 26) x 0 dX4_count_26 rfl ?_
      refine z_call (pc := 28) (z_canV (pc := 28) (As := []) (st := [zI a1]) x (ci := 33) rfl (fun b => m_X5_count hl (some b)) q354 q355 (x.2.2.2.2.1 _ q356) q115 q357 n_X5_count ⟨by decide, by decide⟩ (Nat.le_of_ble_eq_true rfl) dX4_count_28) (zv_I fun v28 => ?_) (fun q => zx_thr x (fun z hz => (htab z hz).elim) q)
      refine z_iadd (pc := 31) x dX4_count_31 ?_
      refine z_istore_n (pc := 32) (lv' := [(1, zI (a1 + v28)), (5, zP v22), (2, zP a2), (3, zI a3), (4, zI a4)]) x dX4_count_32 rfl (Nat.le_of_ble_eq_true rfl) rfl ?_
      refine z_iinc (pc := 33) (lv' := [(4, zI (a4 + (1 : Int32))), (1, zI (a1 + v28)), (5, zP v22), (2, zP a2), (3, zI a3)]) x (v2 := (a4 + (1 : Int32))) 4 dX4_count_33 rfl rfl (Nat.le_of_ble_eq_true rfl) rfl ?_
      refine z_goto (pc := 36) (tgt := 13) x dX4_count_36 rfl ?_
      exact z_sub [1, 3, 4, 0] rfl (h13 (a1 + v28) a2 a3 (a4 + (1 : Int32)))
def s_X4_count (E : zE) (a0 : Option Nat) : zM := zGetR a0 32 0 (fun v3 => zLen v3 (fun v8 => s_X4_count_13 E zN (0 : Int32) v3 v8 (0 : Int32)))
theorem m_X4_count {l : Launch} {E : zE} {D : va_G} {tA : Nat → ClassId} (hl : l.stackTraces = false) (a0 : Option Nat) : zMet l E D tA yX4_count (ws_ yX4_count cX4_count 6 (Option.some Jvm.ClassFile.FieldType.int)) 11 (s_X4_count E a0) [zP a0] := by
  refine z_met hl (by decide +kernel) (by rw [zSl_len]; exact (Nat.le_of_ble_eq_true rfl)) fun p e R s m args below meth c k0 x hret hnm htab => ?_
  refine z_lv [(0, zP a0)] rfl ?_
  unfold s_X4_count
  refine z_iconst (pc := 0) x (v := (0 : Int32)) dX4_count_0 rfl ?_
  refine z_istore_n (pc := 1) (lv' := [(1, zI (0 : Int32)), (0, zP a0)]) x dX4_count_1 rfl (Nat.le_of_ble_eq_true rfl) rfl ?_
  refine z_aload_n (pc := 2) x 1 dX4_count_2 rfl rfl ?_
  refine z_get (pc := 3) (fun _ _ h => zAsR_eq h) x in_X4 (ci := 32) rfl (k := 0) (by decide) q241 (fun _ h => h) dX4_count_3 fun v3 => ?_
  refine z_astore_n (pc := 6) (lv' := [(2, zP v3), (1, zI (0 : Int32)), (0, zP a0)]) x dX4_count_6 rfl (Nat.le_of_ble_eq_true rfl) rfl ?_
  refine z_aload_n (pc := 7) x 0 dX4_count_7 rfl rfl ?_
  refine z_len (pc := 8) x dX4_count_8 fun v8 => ?_
  refine z_istore_n (pc := 9) (lv' := [(3, zI v8), (2, zP v3), (1, zI (0 : Int32)), (0, zP a0)]) x dX4_count_9 rfl (Nat.le_of_ble_eq_true rfl) rfl ?_
  refine z_iconst (pc := 10) x (v := (0 : Int32)) dX4_count_10 rfl ?_
  refine z_istore (pc := 11) (lv' := [(4, zI (0 : Int32)), (3, zI v8), (2, zP v3), (1, zI (0 : Int32)), (0, zP a0)]) x dX4_count_11 (Nat.le_of_ble_eq_true rfl) rfl ?_
  exact z_sub [3, 2, 1, 0] rfl (w_X4_count_13 x hl hret hnm htab zN (0 : Int32) v3 v8 (0 : Int32))
/-! X1_requireState -/
def s_X1_requireState (E : zE) (a0 : Int32) : zM := if a0 = 0 then (zNew 5 6 [] (fun v4 => zAth v4 zThr)) else (zRet none)
theorem m_X1_requireState {l : Launch} {E : zE} {D : va_G} {tA : Nat → ClassId} (hl : l.stackTraces = false) (a0 : Int32) : zMet l E D tA yX1_requireState (ws_ yX1_requireState cX1_requireState 1 (Option.none : Option Jvm.ClassFile.FieldType)) 9 (s_X1_requireState E a0) [zI a0] := by
  refine z_met hl (by decide +kernel) (by rw [zSl_len]; exact (Nat.le_of_ble_eq_true rfl)) fun p e R s m args below meth c k0 x hret hnm htab => ?_
  refine z_lv [(0, zI a0)] rfl ?_
  unfold s_X1_requireState
  refine z_iload_n (pc := 0) x 0 dX1_requireState_0 rfl rfl ?_
  refine z_if_ne (pc := 1) (tgt := 12) x dX1_requireState_1 rfl (fun _ => ?_) (fun _ => ?_)
  · refine z_exc (pc := 4) x ["java/lang/RuntimeException", "java/lang/Exception"] (by decide) (by decide +kernel) (by decide +kernel) q1555 q136 (zx_at0 x zxa_IllegalStateException q1564) (List.all_eq_true.mp (by decide +kernel)) (ci := 5) rfl (by show 2 + 3 < _; omega) (zSum (k := 0) rfl (by show _ + (13 * (2 + 1) + 42) ≤ _; omega)) dX1_requireState_4 dX1_requireState_7 dX1_requireState_8 fun v4 => ?_
    exact z_athrow (pc := 11) x dX1_requireState_11 (fun q => zx_thr x (fun z hz => (htab z hz).elim) q)
  · exact z_vret (pc := 12) x hret dX1_requireState_12
/-! X5_add -/
def s_X5_add_13 (E : zE) (a0 : Option Nat) (a1 : Int32) (b0 : Int32) : zM := zGetR a0 33 0 (fun v15 => zDiv a1 (32 : Int32) (fun v21 => zGaI 0 v15 v21 (fun v23 => zRem a1 (32 : Int32) (fun v28 => zSaI E 0 v15 v21 (v23 ||| ((1 : Int32) <<< (v28 &&& 31))) (zRetN .boolean b0)))))
theorem w_X5_add_13 (x : zCx p l R s m args meth c E D tA cX5_add 3 yX5_add.cls 10) (hl : l.stackTraces = false) (hret : meth.sig.returnType = (Option.some Jvm.ClassFile.FieldType.boolean)) (hnm : meth.name = yX5_add.name) (htab : ∀ z ∈ c.exceptionTable.toList, False) (a0 : Option Nat) (a1 : Int32) (b0 : Int32) : zW p l e R s m args below meth c E D tA 3 k0 (s_X5_add_13 E a0 a1 b0) [(0, zP a0), (1, zI a1)] 13 [zI b0] := by
  unfold s_X5_add_13
  refine z_istore_n (pc := 13) (lv' := [(2, zI b0), (0, zP a0), (1, zI a1)]) x dX5_add_13 rfl (Nat.le_of_ble_eq_true rfl) rfl ?_
  refine z_aload_n (pc := 14) x 1 dX5_add_14 rfl rfl ?_
  refine z_get (pc := 15) (fun _ _ h => zAsR_eq h) x in_X5 (ci := 33) rfl (k := 0) (by decide) q236 (fun _ h => h) dX5_add_15 fun v15 => ?_
  refine z_iload_n (pc := 18) x 2 dX5_add_18 rfl rfl ?_
  refine z_bipush (pc := 19) x (v := (32 : Int32)) dX5_add_19 rfl ?_
  refine z_idiv (pc := 21) x dX5_add_21 fun v21 => ?_
  refine z_dup2 (pc := 22) x dX5_add_22 rfl rfl ?_
  refine z_iald (pc := 23) x (t := 0) rfl dX5_add_23 fun v23 => ?_
  refine z_iconst (pc := 24) x (v := (1 : Int32)) dX5_add_24 rfl ?_
  refine z_iload_n (pc := 25) x 2 dX5_add_25 rfl rfl ?_
  refine z_bipush (pc := 26) x (v := (32 : Int32)) dX5_add_26 rfl ?_
  refine z_irem (pc := 28) x dX5_add_28 fun v28 => ?_
  refine z_ishl (pc := 29) x dX5_add_29 ?_
  refine z_ior (pc := 30) x dX5_add_30 ?_
  refine z_iast (pc := 31) x (t := 0) rfl dX5_add_31 ?_
  refine z_iload_n (pc := 32) x 0 dX5_add_32 rfl rfl ?_
  exact z_zret (pc := 33) x hret dX5_add_33
def s_X5_add (E : zE) (a0 : Option Nat) (a1 : Int32) : zM := zC (zRv a0 [(33, fun b => s_X5_has E (some b) a1)]) zThr (zKI (fun v2 => if v2 = 0 then (s_X5_add_13 E a0 a1 (1 : Int32)) else (s_X5_add_13 E a0 a1 (0 : Int32))))
theorem m_X5_add {l : Launch} {E : zE} {D : va_G} {tA : Nat → ClassId} (hl : l.stackTraces = false) (a0 : Option Nat) (a1 : Int32) : zMet l E D tA yX5_add (ws_ yX5_add cX5_add 3 (Option.some Jvm.ClassFile.FieldType.boolean)) 10 (s_X5_add E a0 a1) [zP a0, zI a1] := by
  refine z_met hl (by decide +kernel) (by rw [zSl_len]; exact (Nat.le_of_ble_eq_true rfl)) fun p e R s m args below meth c k0 x hret hnm htab => ?_
  refine z_lv [(0, zP a0), (1, zI a1)] rfl ?_
  unfold s_X5_add
  refine z_aload_n (pc := 0) x 0 dX5_add_0 rfl rfl ?_
  refine z_iload_n (pc := 1) x 1 dX5_add_1 rfl rfl ?_
  refine z_call (pc := 2) (z_canV (pc := 2) (As := [zI a1]) (st := []) x (ci := 33) rfl (fun b => m_X5_has hl (some b) a1) q841 q818 (x.2.2.2.2.1 _ q819) q115 q820 n_X5_has ⟨by decide, by decide⟩ (Nat.le_of_ble_eq_true rfl) dX5_add_2) (zv_I fun v2 => ?_) (fun q => zx_thr x (fun z hz => (htab z hz).elim) q)
  refine z_if_ne (pc := 5) (tgt := 12) x dX5_add_5 rfl (fun _ => ?_) (fun _ => ?_)
  · refine z_iconst (pc := 8) x (v := (1 : Int32)) dX5_add_8 rfl ?_
    refine z_goto (pc := 9) (tgt := 13) x dX5_add_9 rfl ?_
    exact z_sub [0, 1] rfl (w_X5_add_13 x hl hret hnm htab a0 a1 (1 : Int32))
  · refine z_iconst (pc := 12) x (v := (0 : Int32)) dX5_add_12 rfl ?_
    exact z_sub [0, 1] rfl (w_X5_add_13 x hl hret hnm htab a0 a1 (0 : Int32))
/-! X4_add -/
def s_X4_add (E : zE) (a0 : Option Nat) (a1 : Int32) (a2 : Int32) : zM := zGetR a0 32 0 (fun v1 => zGaR 6 v1 a1 (fun v5 => zC (zRv v5 [(33, fun b => s_X5_add E (some b) a2)]) zThr (zKI (fun v7 => zRetN .boolean v7))))
theorem m_X4_add {l : Launch} {E : zE} {D : va_G} {tA : Nat → ClassId} (hl : l.stackTraces = false) (a0 : Option Nat) (a1 : Int32) (a2 : Int32) : zMet l E D tA yX4_add (ws_ yX4_add cX4_add 3 (Option.some Jvm.ClassFile.FieldType.boolean)) 11 (s_X4_add E a0 a1 a2) [zP a0, zI a1, zI a2] := by
  refine z_met hl (by decide +kernel) (by rw [zSl_len]; exact (Nat.le_of_ble_eq_true rfl)) fun p e R s m args below meth c k0 x hret hnm htab => ?_
  refine z_lv [(0, zP a0), (1, zI a1), (2, zI a2)] rfl ?_
  unfold s_X4_add
  refine z_aload_n (pc := 0) x 0 dX4_add_0 rfl rfl ?_
  refine z_get (pc := 1) (fun _ _ h => zAsR_eq h) x in_X4 (ci := 32) rfl (k := 0) (by decide) q241 (fun _ h => h) dX4_add_1 fun v1 => ?_
  refine z_iload_n (pc := 4) x 1 dX4_add_4 rfl rfl ?_
  refine z_aald (pc := 5) x (t := 6) rfl rfl dX4_add_5 fun v5 => ?_
  refine z_iload_n (pc := 6) x 2 dX4_add_6 rfl rfl ?_
  refine z_call (pc := 7) (z_canV (pc := 7) (As := [zI a2]) (st := []) x (ci := 33) rfl (fun b => m_X5_add hl (some b) a2) q837 q838 (x.2.2.2.2.1 _ q839) q115 q840 n_X5_add ⟨by decide, by decide⟩ (Nat.le_of_ble_eq_true rfl) dX4_add_7) (zv_I fun v7 => ?_) (fun q => zx_thr x (fun z hz => (htab z hz).elim) q)
  exact z_zret (pc := 10) x hret dX4_add_10
/-! X2_addFact -/
def s_X2_addFact_49 (E : zE) (a0 : Option Nat) (a1 : Int32) (a4 : Int32) (b0 : Int32) : zM := zC (s_X1_requireState E b0) zThr (zKV (zGetR a0 26 0 (fun v53 => zC (zRv v53 [(32, fun b => s_X4_add E (some b) (a1 - (97 : Int32)) a4)]) zThr (zKI (fun v62 => zGetR a0 26 2 (fun v68 => zC (zRv v68 [(0, fun b => s_X3_come E (some b))]) zThr (zKV (zSet E a0 26 3 (zVal (zP none)) (zGetR a0 26 0 (fun v80 => zC (zRv v80 [(32, fun b => s_X4_count E (some b))]) zThr (zKI (fun v83 => zRet (some (.int v83))))))))))))))
theorem w_X2_addFact_49 (x : zCx p l R s m args meth c E D tA cX2_addFact 6 yX2_addFact.cls 12) (hl : l.stackTraces = false) (hret : meth.sig.returnType = (Option.some Jvm.ClassFile.FieldType.int)) (hnm : meth.name = yX2_addFact.name) (htab : ∀ z ∈ c.exceptionTable.toList, False) (a0 : Option Nat) (a1 : Int32) (a4 : Int32) (b0 : Int32) : zW p l e R s m args below meth c E D tA 6 k0 (s_X2_addFact_49 E a0 a1 a4 b0) [(0, zP a0), (1, zI a1), (4, zI a4)] 49 [zI b0] := by
  unfold s_X2_addFact_49
  refine z_call (pc := 49) (z_canSN (pc := 49) (As := [zI b0]) (st := []) x (m_X1_requireState hl b0) q1552 q1553 q108 q1554 n_X1_requireState ⟨by decide, by decide⟩ (Nat.le_of_ble_eq_true rfl) dX2_addFact_49) (zv_V ?_) (fun q => zx_thr x (fun z hz => (htab z hz).elim) q)
  refine z_aload_n (pc := 52) x 0 dX2_addFact_52 rfl rfl ?_
  refine z_get (pc := 53) (fun _ _ h => zAsR_eq h) x in_X2 (ci := 26) rfl (k := 0) (by decide) q248 (fun _ h => h) dX2_addFact_53 fun v53 => ?_
  refine z_iload_n (pc := 56) x 1 dX2_addFact_56 rfl rfl ?_
  refine z_bipush (pc := 57) x (v := (97 : Int32)) dX2_addFact_57 rfl ?_
  refine z_isub (pc := 59) x dX2_addFact_59 ?_
  refine z_iload (pc := 60) x 2 dX2_addFact_60 rfl ?_
  refine z_call (pc := 62) (z_canV (pc := 62) (As := [zI (a1 - (97 : Int32)), zI a4]) (st := []) x (ci := 32) rfl (fun b => m_X4_add hl (some b) (a1 - (97 : Int32)) a4) q1570 q834 (x.2.2.2.2.1 _ q835) q114 q836 n_X4_add ⟨by decide, by decide⟩ (Nat.le_of_ble_eq_true rfl) dX2_addFact_62) (zv_I fun v62 => ?_) (fun q => zx_thr x (fun z hz => (htab z hz).elim) q)
  refine z_istore (pc := 65) (lv' := [(5, zI v62), (0, zP a0), (1, zI a1), (4, zI a4)]) x dX2_addFact_65 (Nat.le_of_ble_eq_true rfl) rfl ?_
  refine z_aload_n (pc := 67) x 1 dX2_addFact_67 rfl rfl ?_
  refine z_get (pc := 68) (fun _ _ h => zAsR_eq h) x in_X2 (ci := 26) rfl (k := 2) (by decide) q256 (fun _ h => h) dX2_addFact_68 fun v68 => ?_
  refine z_call (pc := 71) (z_canVS (pc := 71) (As := []) (st := []) x (ci := 0) rfl (fun b => m_X3_come hl (some b)) q1571 q1572 (x.2.2.2.2.1 _ q1573) q113 q1574 n_X3_come ⟨by decide, by decide⟩ (Nat.le_of_ble_eq_true rfl) dX2_addFact_71) (zv_V ?_) (fun q => zx_thr x (fun z hz => (htab z hz).elim) q)
  refine z_aload_n (pc := 74) x 1 dX2_addFact_74 rfl rfl ?_
  refine z_null (pc := 75) x dX2_addFact_75 ?_
  refine z_set (pc := 76) (v := zP none) x in_X2 tyX2 tyX2_ok nmX2 (ci := 26) rfl (k := 3) (by decide) q258 (fun _ h => h) rfl (zfitR rfl _).1 (zfitR rfl _).2 dX2_addFact_76 ?_
  refine z_aload_n (pc := 79) x 1 dX2_addFact_79 rfl rfl ?_
  refine z_get (pc := 80) (fun _ _ h => zAsR_eq h) x in_X2 (ci := 26) rfl (k := 0) (by decide) q248 (fun _ h => h) dX2_addFact_80 fun v80 => ?_
  refine z_call (pc := 83) (z_canV (pc := 83) (As := []) (st := []) x (ci := 32) rfl (fun b => m_X4_count hl (some b)) q982 q351 (x.2.2.2.2.1 _ q352) q114 q353 n_X4_count ⟨by decide, by decide⟩ (Nat.le_of_ble_eq_true rfl) dX2_addFact_83) (zv_I fun v83 => ?_) (fun q => zx_thr x (fun z hz => (htab z hz).elim) q)
  exact z_iret (pc := 86) x hret dX2_addFact_86
def s_X2_addFact_29 (E : zE) (a0 : Option Nat) (a1 : Int32) (a4 : Int32) (b0 : Int32) : zM := zC (s_X1_requireSupport E b0) zThr (zKV (zGetR a0 26 0 (fun v33 => zC (zRv v33 [(32, fun b => s_X4_count E (some b))]) zThr (zKI (fun v36 => if (20 : Int32) ≤ v36 then (s_X2_addFact_49 E a0 a1 a4 (0 : Int32)) else (s_X2_addFact_49 E a0 a1 a4 (1 : Int32)))))))
theorem w_X2_addFact_29 (x : zCx p l R s m args meth c E D tA cX2_addFact 6 yX2_addFact.cls 12) (hl : l.stackTraces = false) (hret : meth.sig.returnType = (Option.some Jvm.ClassFile.FieldType.int)) (hnm : meth.name = yX2_addFact.name) (htab : ∀ z ∈ c.exceptionTable.toList, False) (a0 : Option Nat) (a1 : Int32) (a4 : Int32) (b0 : Int32) : zW p l e R s m args below meth c E D tA 6 k0 (s_X2_addFact_29 E a0 a1 a4 b0) [(0, zP a0), (1, zI a1), (4, zI a4)] 29 [zI b0] := by
  unfold s_X2_addFact_29
  refine z_call (pc := 29) (z_canSN (pc := 29) (As := [zI b0]) (st := []) x (m_X1_requireSupport hl b0) q1534 q1535 q108 q1536 n_X1_requireSupport ⟨by decide, by decide⟩ (Nat.le_of_ble_eq_true rfl) dX2_addFact_29) (zv_V ?_) (fun q => zx_thr x (fun z hz => (htab z hz).elim) q)
  refine z_aload_n (pc := 32) x 0 dX2_addFact_32 rfl rfl ?_
  refine z_get (pc := 33) (fun _ _ h => zAsR_eq h) x in_X2 (ci := 26) rfl (k := 0) (by decide) q248 (fun _ h => h) dX2_addFact_33 fun v33 => ?_
  refine z_call (pc := 36) (z_canV (pc := 36) (As := []) (st := []) x (ci := 32) rfl (fun b => m_X4_count hl (some b)) q982 q351 (x.2.2.2.2.1 _ q352) q114 q353 n_X4_count ⟨by decide, by decide⟩ (Nat.le_of_ble_eq_true rfl) dX2_addFact_36) (zv_I fun v36 => ?_) (fun q => zx_thr x (fun z hz => (htab z hz).elim) q)
  refine z_bipush (pc := 39) x (v := (20 : Int32)) dX2_addFact_39 rfl ?_
  refine z_icmp_ge (pc := 41) (tgt := 48) x dX2_addFact_41 rfl (fun _ => ?_) (fun _ => ?_)
  · refine z_iconst (pc := 48) x (v := (0 : Int32)) dX2_addFact_48 rfl ?_
    exact z_sub [0, 1, 2] rfl (w_X2_addFact_49 x hl hret hnm htab a0 a1 a4 (0 : Int32))
  · refine z_iconst (pc := 44) x (v := (1 : Int32)) dX2_addFact_44 rfl ?_
    refine z_goto (pc := 45) (tgt := 49) x dX2_addFact_45 rfl ?_
    exact z_sub [0, 1, 2] rfl (w_X2_addFact_49 x hl hret hnm htab a0 a1 a4 (1 : Int32))
def s_X2_addFact (E : zE) (a0 : Option Nat) (a1 : Int32) (a2 : Int32) (a3 : Int32) : zM := zC (s_X1_requireCode E a1 a2 a3) zThr (zKI (fun v3 => zGetR a0 26 0 (fun v9 => zC (zRv v9 [(32, fun b => s_X4_has E (some b) (a1 - (97 : Int32)) v3)]) zThr (zKI (fun v18 => if v18 = 0 then (s_X2_addFact_29 E a0 a1 v3 (1 : Int32)) else (s_X2_addFact_29 E a0 a1 v3 (0 : Int32)))))))
theorem m_X2_addFact {l : Launch} {E : zE} {D : va_G} {tA : Nat → ClassId} (hl : l.stackTraces = false) (a0 : Option Nat) (a1 : Int32) (a2 : Int32) (a3 : Int32) : zMet l E D tA yX2_addFact (ws_ yX2_addFact cX2_addFact 6 (Option.some Jvm.ClassFile.FieldType.int)) 12 (s_X2_addFact E a0 a1 a2 a3) [zP a0, zI a1, zI a2, zI a3] := by
  refine z_met hl (by decide +kernel) (by rw [zSl_len]; exact (Nat.le_of_ble_eq_true rfl)) fun p e R s m args below meth c k0 x hret hnm htab => ?_
  refine z_lv [(0, zP a0), (1, zI a1), (2, zI a2), (3, zI a3)] rfl ?_
  unfold s_X2_addFact
  refine z_iload_n (pc := 0) x 1 dX2_addFact_0 rfl rfl ?_
  refine z_iload_n (pc := 1) x 2 dX2_addFact_1 rfl rfl ?_
  refine z_iload_n (pc := 2) x 3 dX2_addFact_2 rfl rfl ?_
  refine z_call (pc := 3) (z_canSN (pc := 3) (As := [zI a1, zI a2, zI a3]) (st := []) x (m_X1_requireCode hl a1 a2 a3) q1516 q1517 q108 q1518 n_X1_requireCode ⟨by decide, by decide⟩ (Nat.le_of_ble_eq_true rfl) dX2_addFact_3) (zv_I fun v3 => ?_) (fun q => zx_thr x (fun z hz => (htab z hz).elim) q)
  refine z_istore (pc := 6) (lv' := [(4, zI v3), (0, zP a0), (1, zI a1), (2, zI a2), (3, zI a3)]) x dX2_addFact_6 (Nat.le_of_ble_eq_true rfl) rfl ?_
  refine z_aload_n (pc := 8) x 1 dX2_addFact_8 rfl rfl ?_
  refine z_get (pc := 9) (fun _ _ h => zAsR_eq h) x in_X2 (ci := 26) rfl (k := 0) (by decide) q248 (fun _ h => h) dX2_addFact_9 fun v9 => ?_
  refine z_iload_n (pc := 12) x 2 dX2_addFact_12 rfl rfl ?_
  refine z_bipush (pc := 13) x (v := (97 : Int32)) dX2_addFact_13 rfl ?_
  refine z_isub (pc := 15) x dX2_addFact_15 ?_
  refine z_iload (pc := 16) x 0 dX2_addFact_16 rfl ?_
  refine z_call (pc := 18) (z_canV (pc := 18) (As := [zI (a1 - (97 : Int32)), zI v3]) (st := []) x (ci := 32) rfl (fun b => m_X4_has hl (some b) (a1 - (97 : Int32)) v3) q1212 q814 (x.2.2.2.2.1 _ q815) q114 q816 n_X4_has ⟨by decide, by decide⟩ (Nat.le_of_ble_eq_true rfl) dX2_addFact_18) (zv_I fun v18 => ?_) (fun q => zx_thr x (fun z hz => (htab z hz).elim) q)
  refine z_if_ne (pc := 21) (tgt := 28) x dX2_addFact_21 rfl (fun _ => ?_) (fun _ => ?_)
  · refine z_iconst (pc := 24) x (v := (1 : Int32)) dX2_addFact_24 rfl ?_
    refine z_goto (pc := 25) (tgt := 29) x dX2_addFact_25 rfl ?_
    exact z_sub [1, 2, 0] rfl (w_X2_addFact_29 x hl hret hnm htab a0 a1 v3 (1 : Int32))
  · refine z_iconst (pc := 28) x (v := (0 : Int32)) dX2_addFact_28 rfl ?_
    exact z_sub [1, 2, 0] rfl (w_X2_addFact_29 x hl hret hnm htab a0 a1 v3 (0 : Int32))
/-! J3_sub -/
def s_J3_sub (E : zE) (a0 : Int32) (a1 : Int32) (a2 : Int32) : zM := if 0 ≤ (a0 - a1) then (zRet (some (.int (a0 - a1)))) else (zRet (some (.int ((a0 - a1) + a2))))
theorem m_J3_sub {l : Launch} {E : zE} {D : va_G} {tA : Nat → ClassId} (hl : l.stackTraces = false) (a0 : Int32) (a1 : Int32) (a2 : Int32) : zMet l E D tA yJ3_sub (ws_ yJ3_sub cJ3_sub 3 (Option.some Jvm.ClassFile.FieldType.int)) 9 (s_J3_sub E a0 a1 a2) [zI a0, zI a1, zI a2] := by
  refine z_met hl (by decide +kernel) (by rw [zSl_len]; exact (Nat.le_of_ble_eq_true rfl)) fun p e R s m args below meth c k0 x hret hnm htab => ?_
  refine z_lv [(0, zI a0), (1, zI a1), (2, zI a2)] rfl ?_
  unfold s_J3_sub
  refine z_iload_n (pc := 0) x 0 dJ3_sub_0 rfl rfl ?_
  refine z_iload_n (pc := 1) x 1 dJ3_sub_1 rfl rfl ?_
  refine z_isub (pc := 2) x dJ3_sub_2 ?_
  refine z_dup (pc := 3) x dJ3_sub_3 rfl ?_
  refine z_istore_n (pc := 4) (lv' := [(0, zI (a0 - a1)), (1, zI a1), (2, zI a2)]) x dJ3_sub_4 rfl (Nat.le_of_ble_eq_true rfl) rfl ?_
  refine z_if_ge (pc := 5) (tgt := 12) x dJ3_sub_5 rfl (fun _ => ?_) (fun _ => ?_)
  · refine z_iload_n (pc := 12) x 0 dJ3_sub_12 rfl rfl ?_
    exact z_iret (pc := 13) x hret dJ3_sub_13
  · refine z_iload_n (pc := 8) x 0 dJ3_sub_8 rfl rfl ?_
    refine z_iload_n (pc := 9) x 2 dJ3_sub_9 rfl rfl ?_
    refine z_iadd (pc := 10) x dJ3_sub_10 ?_
    refine z_istore_n (pc := 11) (lv' := [(0, zI ((a0 - a1) + a2)), (1, zI a1), (2, zI a2)]) x dJ3_sub_11 rfl (Nat.le_of_ble_eq_true rfl) rfl ?_
    refine z_iload_n (pc := 12) x 0 dJ3_sub_12 rfl rfl ?_
    exact z_iret (pc := 13) x hret dJ3_sub_13
/-! J3_size -/
def s_J3_size (E : zE) (a0 : Option Nat) : zM := zGetI a0 13 2 (fun v1 => zGetI a0 13 1 (fun v5 => zGetR a0 13 0 (fun v9 => zLen v9 (fun v12 => zC (s_J3_sub E v1 v5 v12) zThr (zKI (fun v13 => zRet (some (.int v13))))))))
theorem m_J3_size {l : Launch} {E : zE} {D : va_G} {tA : Nat → ClassId} (hl : l.stackTraces = false) (a0 : Option Nat) : zMet l E D tA yJ3_size (ws_ yJ3_size cJ3_size 1 (Option.some Jvm.ClassFile.FieldType.int)) 10 (s_J3_size E a0) [zP a0] := by
  refine z_met hl (by decide +kernel) (by rw [zSl_len]; exact (Nat.le_of_ble_eq_true rfl)) fun p e R s m args below meth c k0 x hret hnm htab => ?_
  refine z_lv [(0, zP a0)] rfl ?_
  unfold s_J3_size
  refine z_aload_n (pc := 0) x 0 dJ3_size_0 rfl rfl ?_
  refine z_get (pc := 1) (fun _ _ h => zAsI_eq h) x in_J3 (ci := 13) rfl (k := 2) (by decide) q278 (fun _ h => h) dJ3_size_1 fun v1 => ?_
  refine z_aload_n (pc := 4) x 0 dJ3_size_4 rfl rfl ?_
  refine z_get (pc := 5) (fun _ _ h => zAsI_eq h) x in_J3 (ci := 13) rfl (k := 1) (by decide) q277 (fun _ h => h) dJ3_size_5 fun v5 => ?_
  refine z_aload_n (pc := 8) x 0 dJ3_size_8 rfl rfl ?_
  refine z_get (pc := 9) (fun _ _ h => zAsR_eq h) x in_J3 (ci := 13) rfl (k := 0) (by decide) q276 (fun _ h => h) dJ3_size_9 fun v9 => ?_
  refine z_len (pc := 12) x dJ3_size_12 fun v12 => ?_
  refine z_call (pc := 13) (z_canS (pc := 13) (As := [zI v1, zI v5, zI v12]) (st := []) x (m_J3_sub hl v1 v5 v12) q1589 q1590 q116 q1591 n_J3_sub ⟨by decide, by decide⟩ (Nat.le_of_ble_eq_true rfl) dJ3_size_13) (zv_I fun v13 => ?_) (fun q => zx_thr x (fun z hz => (htab z hz).elim) q)
  exact z_iret (pc := 16) x hret dJ3_size_16
/-! J3_elementAt -/
def s_J3_elementAt (E : zE) (a0 : Option Nat) (a1 : Int32) : zM := zGaR 5 a0 a1 (fun v2 => zRet (some (va_rf v2)))
theorem m_J3_elementAt {l : Launch} {E : zE} {D : va_G} {tA : Nat → ClassId} (hl : l.stackTraces = false) (a0 : Option Nat) (a1 : Int32) : zMet l E D tA yJ3_elementAt (ws_ yJ3_elementAt cJ3_elementAt 2 (Option.some (Jvm.ClassFile.FieldType.object "java/lang/Object"))) 9 (s_J3_elementAt E a0 a1) [zP a0, zI a1] := by
  refine z_met hl (by decide +kernel) (by rw [zSl_len]; exact (Nat.le_of_ble_eq_true rfl)) fun p e R s m args below meth c k0 x hret hnm htab => ?_
  refine z_lv [(0, zP a0), (1, zI a1)] rfl ?_
  unfold s_J3_elementAt
  refine z_aload_n (pc := 0) x 0 dJ3_elementAt_0 rfl rfl ?_
  refine z_iload_n (pc := 1) x 1 dJ3_elementAt_1 rfl rfl ?_
  refine z_aald (pc := 2) x (t := 5) rfl rfl dJ3_elementAt_2 fun v2 => ?_
  exact z_aret (pc := 3) x hret (Or.inl ⟨_, rfl⟩) dJ3_elementAt_3
/-! J3_inc -/
def s_J3_inc (E : zE) (a0 : Int32) (a1 : Int32) : zM := if (a0 + (1 : Int32)) < a1 then (zRet (some (.int (a0 + (1 : Int32))))) else (zRet (some (.int (0 : Int32))))
theorem m_J3_inc {l : Launch} {E : zE} {D : va_G} {tA : Nat → ClassId} (hl : l.stackTraces = false) (a0 : Int32) (a1 : Int32) : zMet l E D tA yJ3_inc (ws_ yJ3_inc cJ3_inc 2 (Option.some Jvm.ClassFile.FieldType.int)) 9 (s_J3_inc E a0 a1) [zI a0, zI a1] := by
  refine z_met hl (by decide +kernel) (by rw [zSl_len]; exact (Nat.le_of_ble_eq_true rfl)) fun p e R s m args below meth c k0 x hret hnm htab => ?_
  refine z_lv [(0, zI a0), (1, zI a1)] rfl ?_
  unfold s_J3_inc
  refine z_iinc (pc := 0) (lv' := [(0, zI (a0 + (1 : Int32))), (1, zI a1)]) x (v2 := (a0 + (1 : Int32))) 0 dJ3_inc_0 rfl rfl (Nat.le_of_ble_eq_true rfl) rfl ?_
  refine z_iload_n (pc := 3) x 0 dJ3_inc_3 rfl rfl ?_
  refine z_iload_n (pc := 4) x 1 dJ3_inc_4 rfl rfl ?_
  refine z_icmp_lt (pc := 5) (tgt := 10) x dJ3_inc_5 rfl (fun _ => ?_) (fun _ => ?_)
  · refine z_iload_n (pc := 10) x 0 dJ3_inc_10 rfl rfl ?_
    exact z_iret (pc := 11) x hret dJ3_inc_11
  · refine z_iconst (pc := 8) x (v := (0 : Int32)) dJ3_inc_8 rfl ?_
    refine z_istore_n (pc := 9) (lv' := [(0, zI (0 : Int32)), (1, zI a1)]) x dJ3_inc_9 rfl (Nat.le_of_ble_eq_true rfl) rfl ?_
    refine z_iload_n (pc := 10) x 0 dJ3_inc_10 rfl rfl ?_
    exact z_iret (pc := 11) x hret dJ3_inc_11
/-! J3_pollFirst -/
def s_J3_pollFirst (E : zE) (a0 : Option Nat) : zM := zGetR a0 13 0 (fun v1 => zGetI a0 13 1 (fun v7 => zC (s_J3_elementAt E v1 v7) zThr (zKR (fun v12 => if v12 = none then (zRet (some (va_rf v12))) else (zSaR E 5 1 v1 v7 none (zLen v1 (fun v27 => zC (s_J3_inc E v7 v27) zThr (zKI (fun v28 => zSet E a0 13 1 (zVal (zI v28)) (zRet (some (va_rf v12))))))))))))
theorem m_J3_pollFirst {l : Launch} {E : zE} {D : va_G} {tA : Nat → ClassId} (hl : l.stackTraces = false) (a0 : Option Nat) : zMet l E D tA yJ3_pollFirst (ws_ yJ3_pollFirst cJ3_pollFirst 4 (Option.some (Jvm.ClassFile.FieldType.object "java/lang/Object"))) 10 (s_J3_pollFirst E a0) [zP a0] := by
  refine z_met hl (by decide +kernel) (by rw [zSl_len]; exact (Nat.le_of_ble_eq_true rfl)) fun p e R s m args below meth c k0 x hret hnm htab => ?_
  refine z_lv [(0, zP a0)] rfl ?_
  unfold s_J3_pollFirst
  refine z_aload_n (pc := 0) x 0 dJ3_pollFirst_0 rfl rfl ?_
  refine z_get (pc := 1) (fun _ _ h => zAsR_eq h) x in_J3 (ci := 13) rfl (k := 0) (by decide) q276 (fun _ h => h) dJ3_pollFirst_1 fun v1 => ?_
  refine z_dup (pc := 4) x dJ3_pollFirst_4 rfl ?_
  refine z_astore_n (pc := 5) (lv' := [(1, zP v1), (0, zP a0)]) x dJ3_pollFirst_5 rfl (Nat.le_of_ble_eq_true rfl) rfl ?_
  refine z_aload_n (pc := 6) x 1 dJ3_pollFirst_6 rfl rfl ?_
  refine z_get (pc := 7) (fun _ _ h => zAsI_eq h) x in_J3 (ci := 13) rfl (k := 1) (by decide) q277 (fun _ h => h) dJ3_pollFirst_7 fun v7 => ?_
  refine z_dup (pc := 10) x dJ3_pollFirst_10 rfl ?_
  refine z_istore_n (pc := 11) (lv' := [(2, zI v7), (1, zP v1), (0, zP a0)]) x dJ3_pollFirst_11 rfl (Nat.le_of_ble_eq_true rfl) rfl ?_
  refine z_call (pc := 12) (z_canS (pc := 12) (As := [zP v1, zI v7]) (st := []) x (m_J3_elementAt hl v1 v7) q1605 q1606 q116 q1607 n_J3_elementAt ⟨by decide, by decide⟩ (Nat.le_of_ble_eq_true rfl) dJ3_pollFirst_12) (zv_R fun v12 => ?_) (fun q => zx_thr x (fun z hz => (htab z hz).elim) q)
  refine z_astore_n (pc := 15) (lv' := [(3, zP v12), (2, zI v7), (1, zP v1), (0, zP a0)]) x dJ3_pollFirst_15 rfl (Nat.le_of_ble_eq_true rfl) rfl ?_
  refine z_aload_n (pc := 16) x 0 dJ3_pollFirst_16 rfl rfl ?_
  refine z_ifnull (pc := 17) (tgt := 34) x dJ3_pollFirst_17 rfl (fun _ => ?_) (fun _ => ?_)
  · refine z_aload_n (pc := 34) x 0 dJ3_pollFirst_34 rfl rfl ?_
    exact z_aret (pc := 35) x hret (Or.inl ⟨_, rfl⟩) dJ3_pollFirst_35
  · refine z_aload_n (pc := 20) x 2 dJ3_pollFirst_20 rfl rfl ?_
    refine z_iload_n (pc := 21) x 1 dJ3_pollFirst_21 rfl rfl ?_
    refine z_null (pc := 22) x dJ3_pollFirst_22 ?_
    refine z_aast (pc := 23) x (t := 5) (tg := 1) rfl rfl dJ3_pollFirst_23 ?_
    refine z_aload_n (pc := 24) x 3 dJ3_pollFirst_24 rfl rfl ?_
    refine z_iload_n (pc := 25) x 1 dJ3_pollFirst_25 rfl rfl ?_
    refine z_aload_n (pc := 26) x 2 dJ3_pollFirst_26 rfl rfl ?_
    refine z_len (pc := 27) x dJ3_pollFirst_27 fun v27 => ?_
    refine z_call (pc := 28) (z_canS (pc := 28) (As := [zI v7, zI v27]) (st := [zP a0]) x (m_J3_inc hl v7 v27) q1608 q1609 q116 q1610 n_J3_inc ⟨by decide, by decide⟩ (Nat.le_of_ble_eq_true rfl) dJ3_pollFirst_28) (zv_I fun v28 => ?_) (fun q => zx_thr x (fun z hz => (htab z hz).elim) q)
    refine z_set (pc := 31) (v := zI v28) x in_J3 tyJ3 tyJ3_ok nmJ3 (ci := 13) rfl (k := 1) (by decide) q277 (fun _ h => h) rfl rfl rfl dJ3_pollFirst_31 ?_
    refine z_aload_n (pc := 34) x 0 dJ3_pollFirst_34 rfl rfl ?_
    exact z_aret (pc := 35) x hret (Or.inl ⟨_, rfl⟩) dJ3_pollFirst_35
/-! J3_removeFirst -/
def s_J3_removeFirst (E : zE) (a0 : Option Nat) : zM := zC (zRv a0 [(13, fun b => s_J3_pollFirst E (some b))]) zThr (zKR (fun v1 => if v1 = none then (zNew 6 6 [] (fun v9 => zAth v9 zThr)) else (zRet (some (va_rf v1)))))
theorem m_J3_removeFirst {l : Launch} {E : zE} {D : va_G} {tA : Nat → ClassId} (hl : l.stackTraces = false) (a0 : Option Nat) : zMet l E D tA yJ3_removeFirst (ws_ yJ3_removeFirst cJ3_removeFirst 2 (Option.some (Jvm.ClassFile.FieldType.object "java/lang/Object"))) 11 (s_J3_removeFirst E a0) [zP a0] := by
  refine z_met hl (by decide +kernel) (by rw [zSl_len]; exact (Nat.le_of_ble_eq_true rfl)) fun p e R s m args below meth c k0 x hret hnm htab => ?_
  refine z_lv [(0, zP a0)] rfl ?_
  unfold s_J3_removeFirst
  refine z_aload_n (pc := 0) x 0 dJ3_removeFirst_0 rfl rfl ?_
  refine z_call (pc := 1) (z_canV (pc := 1) (As := []) (st := []) x (ci := 13) rfl (fun b => m_J3_pollFirst hl (some b)) q1601 q1602 (x.2.2.2.2.1 _ q1603) q116 q1604 n_J3_pollFirst ⟨by decide, by decide⟩ (Nat.le_of_ble_eq_true rfl) dJ3_removeFirst_1) (zv_R fun v1 => ?_) (fun q => zx_thr x (fun z hz => (htab z hz).elim) q)
  refine z_astore_n (pc := 4) (lv' := [(1, zP v1), (0, zP a0)]) x dJ3_removeFirst_4 rfl (Nat.le_of_ble_eq_true rfl) rfl ?_
  refine z_aload_n (pc := 5) x 0 dJ3_removeFirst_5 rfl rfl ?_
  refine z_ifnonnull (pc := 6) (tgt := 17) x dJ3_removeFirst_6 rfl (fun _ => ?_) (fun _ => ?_)
  · refine z_exc (pc := 9) x ["java/lang/RuntimeException", "java/lang/Exception"] (by decide) (by decide +kernel) (by decide +kernel) q1611 q137 (zx_at0 x zxa_NoSuchElementException q1612) (List.all_eq_true.mp (by decide +kernel)) (ci := 6) rfl (by show 2 + 3 < _; omega) (zSum (k := 0) rfl (by show _ + (13 * (2 + 1) + 42) ≤ _; omega)) dJ3_removeFirst_9 dJ3_removeFirst_12 dJ3_removeFirst_13 fun v9 => ?_
    exact z_athrow (pc := 16) x dJ3_removeFirst_16 (fun q => zx_thr x (fun z hz => (htab z hz).elim) q)
  · refine z_aload_n (pc := 17) x 0 dJ3_removeFirst_17 rfl rfl ?_
    exact z_aret (pc := 18) x hret (Or.inl ⟨_, rfl⟩) dJ3_removeFirst_18
/-! J3_newCapacity -/
def s_J3_newCapacity (E : zE) (a0 : Option Nat) (a1 : Int32) (a2 : Int32) : zM := zGetR a0 13 0 (fun v1 => zLen v1 (fun v4 => if ((v4 + a1) - (2147483639 : Int32)) ≤ 0 then (if a1 ≤ a2 then (if 0 ≤ ((v4 + a2) - (2147483639 : Int32)) then (zRet (some (.int (2147483639 : Int32)))) else (zRet (some (.int (v4 + a2))))) else (zRet (some (.int (v4 + a1))))) else (if 0 ≤ (v4 + a1) then (zRet (some (.int (2147483647 : Int32)))) else zFail)))
theorem m_J3_newCapacity {l : Launch} {E : zE} {D : va_G} {tA : Nat → ClassId} (hl : l.stackTraces = false) (a0 : Option Nat) (a1 : Int32) (a2 : Int32) : zMet l E D tA yJ3_newCapacity (ws_ yJ3_newCapacity cJ3_newCapacity 5 (Option.some Jvm.ClassFile.FieldType.int)) 9 (s_J3_newCapacity E a0 a1 a2) [zP a0, zI a1, zI a2] := by
  refine z_met hl (by decide +kernel) (by rw [zSl_len]; exact (Nat.le_of_ble_eq_true rfl)) fun p e R s m args below meth c k0 x hret hnm htab => ?_
  refine z_lv [(0, zP a0), (1, zI a1), (2, zI a2)] rfl ?_
  unfold s_J3_newCapacity
  refine z_aload_n (pc := 0) x 0 dJ3_newCapacity_0 rfl rfl ?_
  refine z_get (pc := 1) (fun _ _ h => zAsR_eq h) x in_J3 (ci := 13) rfl (k := 0) (by decide) q276 (fun _ h => h) dJ3_newCapacity_1 fun v1 => ?_
  refine z_len (pc := 4) x dJ3_newCapacity_4 fun v4 => ?_
  refine z_istore_n (pc := 5) (lv' := [(3, zI v4), (0, zP a0), (1, zI a1), (2, zI a2)]) x dJ3_newCapacity_5 rfl (Nat.le_of_ble_eq_true rfl) rfl ?_
  refine z_iload_n (pc := 6) x 0 dJ3_newCapacity_6 rfl rfl ?_
  refine z_iload_n (pc := 7) x 2 dJ3_newCapacity_7 rfl rfl ?_
  refine z_iadd (pc := 8) x dJ3_newCapacity_8 ?_
  refine z_dup (pc := 9) x dJ3_newCapacity_9 rfl ?_
  refine z_istore (pc := 10) (lv' := [(4, zI (v4 + a1)), (3, zI v4), (0, zP a0), (1, zI a1), (2, zI a2)]) x dJ3_newCapacity_10 (Nat.le_of_ble_eq_true rfl) rfl ?_
  refine z_ldc (pc := 12) x (v := (2147483639 : Int32)) q1626 dJ3_newCapacity_12 ?_
  refine z_isub (pc := 14) x dJ3_newCapacity_14 ?_
  refine z_if_le (pc := 15) (tgt := 36) x dJ3_newCapacity_15 rfl (fun _ => ?_) (fun _ => ?_)
  · refine z_iload_n (pc := 36) x 3 dJ3_newCapacity_36 rfl rfl ?_
    refine z_iload_n (pc := 37) x 4 dJ3_newCapacity_37 rfl rfl ?_
    refine z_icmp_le (pc := 38) (tgt := 44) x dJ3_newCapacity_38 rfl (fun _ => ?_) (fun _ => ?_)
    · refine z_iload_n (pc := 44) x 1 dJ3_newCapacity_44 rfl rfl ?_
      refine z_iload_n (pc := 45) x 4 dJ3_newCapacity_45 rfl rfl ?_
      refine z_iadd (pc := 46) x dJ3_newCapacity_46 ?_
      refine z_ldc (pc := 47) x (v := (2147483639 : Int32)) q1626 dJ3_newCapacity_47 ?_
      refine z_isub (pc := 49) x dJ3_newCapacity_49 ?_
      refine z_if_ge (pc := 50) (tgt := 59) x dJ3_newCapacity_50 rfl (fun _ => ?_) (fun _ => ?_)
      · refine z_ldc (pc := 59) x (v := (2147483639 : Int32)) q1626 dJ3_newCapacity_59 ?_
        exact z_iret (pc := 61) x hret dJ3_newCapacity_61
      · refine z_iload_n (pc := 53) x 1 dJ3_newCapacity_53 rfl rfl ?_
        refine z_iload_n (pc := 54) x 4 dJ3_newCapacity_54 rfl rfl ?_
        refine z_iadd (pc := 55) x dJ3_newCapacity_55 ?_
        refine z_goto (pc := 56) (tgt := 61) x dJ3_newCapacity_56 rfl ?_
        exact z_iret (pc := 61) x hret dJ3_newCapacity_61
    · refine z_iload (pc := 41) x 0 dJ3_newCapacity_41 rfl ?_
      exact z_iret (pc := 43) x hret dJ3_newCapacity_43
  · refine z_iload (pc := 18) x 0 dJ3_newCapacity_18 rfl ?_
    refine z_if_ge (pc := 20) (tgt := 33) x dJ3_newCapacity_20 rfl (fun _ => ?_) (fun _ => ?_)
    · refine z_ldc (pc := 33) x (v := (2147483647 : Int32)) q1637 dJ3_newCapacity_33 ?_
      exact z_iret (pc := 35) x hret dJ3_newCapacity_35
    · exact z_fail
/-! J3_grow -/
def s_J3_grow_145 (E : zE) : Nat → Option Nat → Int32 → Int32 → zM
  | 0, _, _, _ => zFail
  | n + 1, a5, a7, a8 => if a8 ≤ a7 then (zRet none) else (zSaR E 5 1 a5 a7 none ((s_J3_grow_145 E n) a5 (a7 + (1 : Int32)) a8))
theorem w_J3_grow_145 (x : zCx p l R s m args meth c E D tA cJ3_grow 9 yJ3_grow.cls 11) (hl : l.stackTraces = false) (hret : meth.sig.returnType = (Option.none : Option Jvm.ClassFile.FieldType)) (hnm : meth.name = yJ3_grow.name) (htab : ∀ z ∈ c.exceptionTable.toList, False) : ∀ (n : Nat) (a5 : Option Nat) (a7 : Int32) (a8 : Int32), zW p l e R s m args below meth c E D tA 9 k0 (s_J3_grow_145 E n a5 a7 a8) [(5, zP a5), (7, zI a7), (8, zI a8)] 145 [] := by
  intro n
  induction n with
  | zero => intro a5 a7 a8; exact z_fail
  | succ n h145 =>
    intro a5 a7 a8
    rw [s_J3_grow_145]
    refine z_iload (pc := 145) x 1 dJ3_grow_145 rfl ?_
    refine z_iload (pc := 147) x 2 dJ3_grow_147 rfl ?_
    refine z_icmp_ge (pc := 149) (tgt := 164) x dJ3_grow_149 rfl (fun _ => ?_) (fun _ => ?_)
    · exact z_vret (pc := 164) x hret dJ3_grow_164
    · refine z_aload (pc := 152) x 0 dJ3_grow_152 rfl ?_
      refine z_iload (pc := 154) x 1 dJ3_grow_154 rfl ?_
      refine z_null (pc := 156) x dJ3_grow_156 ?_
      refine z_aast (pc := 157) x (t := 5) (tg := 1) rfl rfl dJ3_grow_157 ?_
      refine z_iinc (pc := 158) (lv' := [(7, zI (a7 + (1 : Int32))), (5, zP a5), (8, zI a8)]) x (v2 := (a7 + (1 : Int32))) 1 dJ3_grow_158 rfl rfl (Nat.le_of_ble_eq_true rfl) rfl ?_
      refine z_goto (pc := 161) (tgt := 145) x dJ3_grow_161 rfl ?_
      exact z_sub [1, 0, 2] rfl (h145 a5 (a7 + (1 : Int32)) a8)
def s_J3_grow_96 (E : zE) (a0 : Option Nat) (a2 : Int32) (a3 : Int32) (a5 : Option Nat) : zM := zGetI a0 13 1 (fun v104 => zGetI a0 13 1 (fun v110 => zGetI a0 13 1 (fun v118 => zCpR E 5 1 a5 v104 a5 (v110 + (a3 - a2)) (a2 - v118) (zGetI a0 13 1 (fun v126 => zGetI a0 13 1 (fun v133 => zSet E a0 13 1 (zVal (zI (v133 + (a3 - a2)))) (s_J3_grow_145 E zN a5 v126 (v133 + (a3 - a2)))))))))
theorem w_J3_grow_96 (x : zCx p l R s m args meth c E D tA cJ3_grow 9 yJ3_grow.cls 11) (hl : l.stackTraces = false) (hret : meth.sig.returnType = (Option.none : Option Jvm.ClassFile.FieldType)) (hnm : meth.name = yJ3_grow.name) (htab : ∀ z ∈ c.exceptionTable.toList, False) (a0 : Option Nat) (a2 : Int32) (a3 : Int32) (a5 : Option Nat) : zW p l e R s m args below meth c E D tA 9 k0 (s_J3_grow_96 E a0 a2 a3 a5) [(0, zP a0), (2, zI a2), (3, zI a3), (5, zP a5)] 96 [] := by
  unfold s_J3_grow_96
  refine z_iload_n (pc := 96) x 2 dJ3_grow_96 rfl rfl ?_
  refine z_iload_n (pc := 97) x 1 dJ3_grow_97 rfl rfl ?_
  refine z_isub (pc := 98) x dJ3_grow_98 ?_
  refine z_istore (pc := 99) (lv' := [(6, zI (a3 - a2)), (0, zP a0), (2, zI a2), (3, zI a3), (5, zP a5)]) x dJ3_grow_99 (Nat.le_of_ble_eq_true rfl) rfl ?_
  refine z_aload (pc := 101) x 4 dJ3_grow_101 rfl ?_
  refine z_aload_n (pc := 103) x 1 dJ3_grow_103 rfl rfl ?_
  refine z_get (pc := 104) (fun _ _ h => zAsI_eq h) x in_J3 (ci := 13) rfl (k := 1) (by decide) q277 (fun _ h => h) dJ3_grow_104 fun v104 => ?_
  refine z_aload (pc := 107) x 4 dJ3_grow_107 rfl ?_
  refine z_aload_n (pc := 109) x 1 dJ3_grow_109 rfl rfl ?_
  refine z_get (pc := 110) (fun _ _ h => zAsI_eq h) x in_J3 (ci := 13) rfl (k := 1) (by decide) q277 (fun _ h => h) dJ3_grow_110 fun v110 => ?_
  refine z_iload (pc := 113) x 0 dJ3_grow_113 rfl ?_
  refine z_iadd (pc := 115) x dJ3_grow_115 ?_
  refine z_iload_n (pc := 116) x 2 dJ3_grow_116 rfl rfl ?_
  refine z_aload_n (pc := 117) x 1 dJ3_grow_117 rfl rfl ?_
  refine z_get (pc := 118) (fun _ _ h => zAsI_eq h) x in_J3 (ci := 13) rfl (k := 1) (by decide) q277 (fun _ h => h) dJ3_grow_118 fun v118 => ?_
  refine z_isub (pc := 121) x dJ3_grow_121 ?_
  refine z_cpyR (pc := 122) x (t := 5) (tg := 1) rfl rfl rfl q1500 q742 q741 q131 (by omega) (zSum (k := 0) rfl (by omega)) dJ3_grow_122 ?_
  refine z_aload_n (pc := 125) x 1 dJ3_grow_125 rfl rfl ?_
  refine z_get (pc := 126) (fun _ _ h => zAsI_eq h) x in_J3 (ci := 13) rfl (k := 1) (by decide) q277 (fun _ h => h) dJ3_grow_126 fun v126 => ?_
  refine z_istore (pc := 129) (lv' := [(7, zI v126), (6, zI (a3 - a2)), (0, zP a0), (2, zI a2), (3, zI a3), (5, zP a5)]) x dJ3_grow_129 (Nat.le_of_ble_eq_true rfl) rfl ?_
  refine z_aload_n (pc := 131) x 2 dJ3_grow_131 rfl rfl ?_
  refine z_dup (pc := 132) x dJ3_grow_132 rfl ?_
  refine z_get (pc := 133) (fun _ _ h => zAsI_eq h) x in_J3 (ci := 13) rfl (k := 1) (by decide) q277 (fun _ h => h) dJ3_grow_133 fun v133 => ?_
  refine z_iload (pc := 136) x 1 dJ3_grow_136 rfl ?_
  refine z_iadd (pc := 138) x dJ3_grow_138 ?_
  refine z_dup_x1 (pc := 139) x dJ3_grow_139 rfl rfl ?_
  refine z_set (pc := 140) (v := zI (v133 + (a3 - a2))) x in_J3 tyJ3 tyJ3_ok nmJ3 (ci := 13) rfl (k := 1) (by decide) q277 (fun _ h => h) rfl rfl rfl dJ3_grow_140 ?_
  refine z_istore (pc := 143) (lv' := [(8, zI (v133 + (a3 - a2))), (7, zI v126), (6, zI (a3 - a2)), (0, zP a0), (2, zI a2), (3, zI a3), (5, zP a5)]) x dJ3_grow_143 (Nat.le_of_ble_eq_true rfl) rfl ?_
  exact z_sub [6, 1, 0] rfl (w_J3_grow_145 x hl hret hnm htab zN a5 v126 (v133 + (a3 - a2)))
def s_J3_grow_49 (E : zE) (a0 : Option Nat) (a2 : Int32) (a3 : Int32) : zM := zGetR a0 13 0 (fun v51 => zC (s_J8_copyOf E v51 a3) zThr (zKR (fun v55 => zSet E a0 13 0 (zVal (zP v55)) (zGetI a0 13 2 (fun v65 => zGetI a0 13 1 (fun v69 => if v65 < v69 then (s_J3_grow_96 E a0 a2 a3 v55) else (zGetI a0 13 2 (fun v76 => zGetI a0 13 1 (fun v80 => if v76 = v80 then (zGetI a0 13 1 (fun v89 => zGaR 5 v55 v89 (fun v92 => if v92 = none then (zRet none) else (s_J3_grow_96 E a0 a2 a3 v55)))) else (zRet none))))))))))
theorem w_J3_grow_49 (x : zCx p l R s m args meth c E D tA cJ3_grow 9 yJ3_grow.cls 11) (hl : l.stackTraces = false) (hret : meth.sig.returnType = (Option.none : Option Jvm.ClassFile.FieldType)) (hnm : meth.name = yJ3_grow.name) (htab : ∀ z ∈ c.exceptionTable.toList, False) (a0 : Option Nat) (a2 : Int32) (a3 : Int32) : zW p l e R s m args below meth c E D tA 9 k0 (s_J3_grow_49 E a0 a2 a3) [(0, zP a0), (2, zI a2), (3, zI a3)] 49 [] := by
  unfold s_J3_grow_49
  refine z_aload_n (pc := 49) x 0 dJ3_grow_49 rfl rfl ?_
  refine z_aload_n (pc := 50) x 0 dJ3_grow_50 rfl rfl ?_
  refine z_get (pc := 51) (fun _ _ h => zAsR_eq h) x in_J3 (ci := 13) rfl (k := 0) (by decide) q276 (fun _ h => h) dJ3_grow_51 fun v51 => ?_
  refine z_iload_n (pc := 54) x 2 dJ3_grow_54 rfl rfl ?_
  refine z_call (pc := 55) (z_canS (pc := 55) (As := [zP v51, zI a3]) (st := [zP a0]) x (m_J8_copyOf hl v51 a3) q1638 q687 q122 q688 n_J8_copyOf ⟨by decide, by decide⟩ (Nat.le_of_ble_eq_true rfl) dJ3_grow_55) (zv_R fun v55 => ?_) (fun q => zx_thr x (fun z hz => (htab z hz).elim) q)
  refine z_dup_x1 (pc := 58) x dJ3_grow_58 rfl rfl ?_
  refine z_set (pc := 59) (v := zP v55) x in_J3 tyJ3 tyJ3_ok nmJ3 (ci := 13) rfl (k := 0) (by decide) q276 (fun _ h => h) rfl (zfitR rfl _).1 (zfitR rfl _).2 dJ3_grow_59 ?_
  refine z_astore (pc := 62) (lv' := [(5, zP v55), (0, zP a0), (2, zI a2), (3, zI a3)]) x dJ3_grow_62 (Nat.le_of_ble_eq_true rfl) rfl ?_
  refine z_aload_n (pc := 64) x 1 dJ3_grow_64 rfl rfl ?_
  refine z_get (pc := 65) (fun _ _ h => zAsI_eq h) x in_J3 (ci := 13) rfl (k := 2) (by decide) q278 (fun _ h => h) dJ3_grow_65 fun v65 => ?_
  refine z_aload_n (pc := 68) x 1 dJ3_grow_68 rfl rfl ?_
  refine z_get (pc := 69) (fun _ _ h => zAsI_eq h) x in_J3 (ci := 13) rfl (k := 1) (by decide) q277 (fun _ h => h) dJ3_grow_69 fun v69 => ?_
  refine z_icmp_lt (pc := 72) (tgt := 96) x dJ3_grow_72 rfl (fun _ => ?_) (fun _ => ?_)
  · exact z_sub [1, 2, 3, 0] rfl (w_J3_grow_96 x hl hret hnm htab a0 a2 a3 v55)
  · refine z_aload_n (pc := 75) x 1 dJ3_grow_75 rfl rfl ?_
    refine z_get (pc := 76) (fun _ _ h => zAsI_eq h) x in_J3 (ci := 13) rfl (k := 2) (by decide) q278 (fun _ h => h) dJ3_grow_76 fun v76 => ?_
    refine z_aload_n (pc := 79) x 1 dJ3_grow_79 rfl rfl ?_
    refine z_get (pc := 80) (fun _ _ h => zAsI_eq h) x in_J3 (ci := 13) rfl (k := 1) (by decide) q277 (fun _ h => h) dJ3_grow_80 fun v80 => ?_
    refine z_icmp_ne (pc := 83) (tgt := 164) x dJ3_grow_83 rfl (fun _ => ?_) (fun _ => ?_)
    · refine z_aload (pc := 86) x 0 dJ3_grow_86 rfl ?_
      refine z_aload_n (pc := 88) x 1 dJ3_grow_88 rfl rfl ?_
      refine z_get (pc := 89) (fun _ _ h => zAsI_eq h) x in_J3 (ci := 13) rfl (k := 1) (by decide) q277 (fun _ h => h) dJ3_grow_89 fun v89 => ?_
      refine z_aald (pc := 92) x (t := 5) rfl rfl dJ3_grow_92 fun v92 => ?_
      refine z_ifnull (pc := 93) (tgt := 164) x dJ3_grow_93 rfl (fun _ => ?_) (fun _ => ?_)
      · exact z_vret (pc := 164) x hret dJ3_grow_164
      · exact z_sub [1, 2, 3, 0] rfl (w_J3_grow_96 x hl hret hnm htab a0 a2 a3 v55)
    · exact z_vret (pc := 164) x hret dJ3_grow_164
def s_J3_grow_41 (E : zE) (a0 : Option Nat) (a1 : Int32) (a2 : Int32) (a4 : Int32) : zM := zC (zRv a0 [(13, fun b => s_J3_newCapacity E (some b) a1 a4)]) zThr (zKI (fun v45 => s_J3_grow_49 E a0 a2 v45))
theorem w_J3_grow_41 (x : zCx p l R s m args meth c E D tA cJ3_grow 9 yJ3_grow.cls 11) (hl : l.stackTraces = false) (hret : meth.sig.returnType = (Option.none : Option Jvm.ClassFile.FieldType)) (hnm : meth.name = yJ3_grow.name) (htab : ∀ z ∈ c.exceptionTable.toList, False) (a0 : Option Nat) (a1 : Int32) (a2 : Int32) (a4 : Int32) : zW p l e R s m args below meth c E D tA 9 k0 (s_J3_grow_41 E a0 a1 a2 a4) [(0, zP a0), (1, zI a1), (2, zI a2), (4, zI a4)] 41 [] := by
  unfold s_J3_grow_41
  refine z_aload_n (pc := 41) x 0 dJ3_grow_41 rfl rfl ?_
  refine z_iload_n (pc := 42) x 1 dJ3_grow_42 rfl rfl ?_
  refine z_iload (pc := 43) x 3 dJ3_grow_43 rfl ?_
  refine z_call (pc := 45) (z_canV (pc := 45) (As := [zI a1, zI a4]) (st := []) x (ci := 13) rfl (fun b => m_J3_newCapacity hl (some b) a1 a4) q1627 q1629 (z_selP x (ci := 13) rfl (by decide) (zNi_inst x q269) q1628 q1629) q116 q1630 n_J3_newCapacity ⟨by decide, by decide⟩ (Nat.le_of_ble_eq_true rfl) dJ3_grow_45) (zv_I fun v45 => ?_) (fun q => zx_thr x (fun z hz => (htab z hz).elim) q)
  refine z_istore_n (pc := 48) (lv' := [(3, zI v45), (0, zP a0), (1, zI a1), (2, zI a2), (4, zI a4)]) x dJ3_grow_48 rfl (Nat.le_of_ble_eq_true rfl) rfl ?_
  exact z_sub [1, 3, 0] rfl (w_J3_grow_49 x hl hret hnm htab a0 a2 v45)
def s_J3_grow_21 (E : zE) (a0 : Option Nat) (a1 : Int32) (a2 : Int32) (b0 : Int32) : zM := if b0 < a1 then (s_J3_grow_41 E a0 a1 a2 b0) else (if ((a2 + b0) - (2147483639 : Int32)) ≤ 0 then (s_J3_grow_49 E a0 a2 (a2 + b0)) else (s_J3_grow_41 E a0 a1 a2 b0))
theorem w_J3_grow_21 (x : zCx p l R s m args meth c E D tA cJ3_grow 9 yJ3_grow.cls 11) (hl : l.stackTraces = false) (hret : meth.sig.returnType = (Option.none : Option Jvm.ClassFile.FieldType)) (hnm : meth.name = yJ3_grow.name) (htab : ∀ z ∈ c.exceptionTable.toList, False) (a0 : Option Nat) (a1 : Int32) (a2 : Int32) (b0 : Int32) : zW p l e R s m args below meth c E D tA 9 k0 (s_J3_grow_21 E a0 a1 a2 b0) [(0, zP a0), (1, zI a1), (2, zI a2)] 21 [zI b0] := by
  unfold s_J3_grow_21
  refine z_istore (pc := 21) (lv' := [(4, zI b0), (0, zP a0), (1, zI a1), (2, zI a2)]) x dJ3_grow_21 (Nat.le_of_ble_eq_true rfl) rfl ?_
  refine z_iload (pc := 23) x 0 dJ3_grow_23 rfl ?_
  refine z_iload_n (pc := 25) x 2 dJ3_grow_25 rfl rfl ?_
  refine z_icmp_lt (pc := 26) (tgt := 41) x dJ3_grow_26 rfl (fun _ => ?_) (fun _ => ?_)
  · exact z_sub [1, 2, 3, 0] rfl (w_J3_grow_41 x hl hret hnm htab a0 a1 a2 b0)
  · refine z_iload_n (pc := 29) x 3 dJ3_grow_29 rfl rfl ?_
    refine z_iload (pc := 30) x 0 dJ3_grow_30 rfl ?_
    refine z_iadd (pc := 32) x dJ3_grow_32 ?_
    refine z_dup (pc := 33) x dJ3_grow_33 rfl ?_
    refine z_istore_n (pc := 34) (lv' := [(3, zI (a2 + b0)), (4, zI b0), (0, zP a0), (1, zI a1), (2, zI a2)]) x dJ3_grow_34 rfl (Nat.le_of_ble_eq_true rfl) rfl ?_
    refine z_ldc (pc := 35) x (v := (2147483639 : Int32)) q1626 dJ3_grow_35 ?_
    refine z_isub (pc := 37) x dJ3_grow_37 ?_
    refine z_if_le (pc := 38) (tgt := 49) x dJ3_grow_38 rfl (fun _ => ?_) (fun _ => ?_)
    · exact z_sub [2, 4, 0] rfl (w_J3_grow_49 x hl hret hnm htab a0 a2 (a2 + b0))
    · exact z_sub [2, 3, 4, 1] rfl (w_J3_grow_41 x hl hret hnm htab a0 a1 a2 b0)
def s_J3_grow (E : zE) (a0 : Option Nat) (a1 : Int32) : zM := zGetR a0 13 0 (fun v1 => zLen v1 (fun v4 => if (64 : Int32) ≤ v4 then (s_J3_grow_21 E a0 a1 v4 (v4 >>> ((1 : Int32) &&& 31))) else (s_J3_grow_21 E a0 a1 v4 (v4 + (2 : Int32)))))
theorem m_J3_grow {l : Launch} {E : zE} {D : va_G} {tA : Nat → ClassId} (hl : l.stackTraces = false) (a0 : Option Nat) (a1 : Int32) : zMet l E D tA yJ3_grow (ws_ yJ3_grow cJ3_grow 9 (Option.none : Option Jvm.ClassFile.FieldType)) 11 (s_J3_grow E a0 a1) [zP a0, zI a1] := by
  refine z_met hl (by decide +kernel) (by rw [zSl_len]; exact (Nat.le_of_ble_eq_true rfl)) fun p e R s m args below meth c k0 x hret hnm htab => ?_
  refine z_lv [(0, zP a0), (1, zI a1)] rfl ?_
  unfold s_J3_grow
  refine z_aload_n (pc := 0) x 0 dJ3_grow_0 rfl rfl ?_
  refine z_get (pc := 1) (fun _ _ h => zAsR_eq h) x in_J3 (ci := 13) rfl (k := 0) (by decide) q276 (fun _ h => h) dJ3_grow_1 fun v1 => ?_
  refine z_len (pc := 4) x dJ3_grow_4 fun v4 => ?_
  refine z_istore_n (pc := 5) (lv' := [(2, zI v4), (0, zP a0), (1, zI a1)]) x dJ3_grow_5 rfl (Nat.le_of_ble_eq_true rfl) rfl ?_
  refine z_iload_n (pc := 6) x 0 dJ3_grow_6 rfl rfl ?_
  refine z_bipush (pc := 7) x (v := (64 : Int32)) dJ3_grow_7 rfl ?_
  refine z_icmp_ge (pc := 9) (tgt := 18) x dJ3_grow_9 rfl (fun _ => ?_) (fun _ => ?_)
  · refine z_iload_n (pc := 18) x 0 dJ3_grow_18 rfl rfl ?_
    refine z_iconst (pc := 19) x (v := (1 : Int32)) dJ3_grow_19 rfl ?_
    refine z_ishr (pc := 20) x dJ3_grow_20 ?_
    exact z_sub [1, 2, 0] rfl (w_J3_grow_21 x hl hret hnm htab a0 a1 v4 (v4 >>> ((1 : Int32) &&& 31)))
  · refine z_iload_n (pc := 12) x 0 dJ3_grow_12 rfl rfl ?_
    refine z_iconst (pc := 13) x (v := (2 : Int32)) dJ3_grow_13 rfl ?_
    refine z_iadd (pc := 14) x dJ3_grow_14 ?_
    refine z_goto (pc := 15) (tgt := 21) x dJ3_grow_15 rfl ?_
    exact z_sub [1, 2, 0] rfl (w_J3_grow_21 x hl hret hnm htab a0 a1 v4 (v4 + (2 : Int32)))
/-! J3_addLast -/
def s_J3_addLast (E : zE) (a0 : Option Nat) (a1 : Option Nat) : zM := if a1 = none then zFail else (zGetR a0 13 0 (fun v13 => zGetI a0 13 2 (fun v19 => zSaR E 5 1 v13 v19 a1 (zGetI a0 13 1 (fun v25 => zGetI a0 13 2 (fun v30 => zLen v13 (fun v34 => zC (s_J3_inc E v30 v34) zThr (zKI (fun v35 => zSet E a0 13 2 (zVal (zI v35)) (if v25 = v35 then (zC (zRv a0 [(13, fun b => s_J3_grow E (some b) (1 : Int32))]) zThr (zKV (zRet none))) else (zRet none)))))))))))
theorem m_J3_addLast {l : Launch} {E : zE} {D : va_G} {tA : Nat → ClassId} (hl : l.stackTraces = false) (a0 : Option Nat) (a1 : Option Nat) : zMet l E D tA yJ3_addLast (ws_ yJ3_addLast cJ3_addLast 3 (Option.none : Option Jvm.ClassFile.FieldType)) 12 (s_J3_addLast E a0 a1) [zP a0, zP a1] := by
  refine z_met hl (by decide +kernel) (by rw [zSl_len]; exact (Nat.le_of_ble_eq_true rfl)) fun p e R s m args below meth c k0 x hret hnm htab => ?_
  refine z_lv [(0, zP a0), (1, zP a1)] rfl ?_
  unfold s_J3_addLast
  refine z_aload_n (pc := 0) x 1 dJ3_addLast_0 rfl rfl ?_
  refine z_ifnonnull (pc := 1) (tgt := 12) x dJ3_addLast_1 rfl (fun _ => ?_) (fun _ => ?_)
  · exact z_fail
  · refine z_aload_n (pc := 12) x 0 dJ3_addLast_12 rfl rfl ?_
    refine z_get (pc := 13) (fun _ _ h => zAsR_eq h) x in_J3 (ci := 13) rfl (k := 0) (by decide) q276 (fun _ h => h) dJ3_addLast_13 fun v13 => ?_
    refine z_astore_n (pc := 16) (lv' := [(2, zP v13), (0, zP a0), (1, zP a1)]) x dJ3_addLast_16 rfl (Nat.le_of_ble_eq_true rfl) rfl ?_
    refine z_aload_n (pc := 17) x 0 dJ3_addLast_17 rfl rfl ?_
    refine z_aload_n (pc := 18) x 1 dJ3_addLast_18 rfl rfl ?_
    refine z_get (pc := 19) (fun _ _ h => zAsI_eq h) x in_J3 (ci := 13) rfl (k := 2) (by decide) q278 (fun _ h => h) dJ3_addLast_19 fun v19 => ?_
    refine z_aload_n (pc := 22) x 2 dJ3_addLast_22 rfl rfl ?_
    refine z_aast (pc := 23) x (t := 5) (tg := 1) rfl rfl dJ3_addLast_23 ?_
    refine z_aload_n (pc := 24) x 1 dJ3_addLast_24 rfl rfl ?_
    refine z_get (pc := 25) (fun _ _ h => zAsI_eq h) x in_J3 (ci := 13) rfl (k := 1) (by decide) q277 (fun _ h => h) dJ3_addLast_25 fun v25 => ?_
    refine z_aload_n (pc := 28) x 1 dJ3_addLast_28 rfl rfl ?_
    refine z_aload_n (pc := 29) x 1 dJ3_addLast_29 rfl rfl ?_
    refine z_get (pc := 30) (fun _ _ h => zAsI_eq h) x in_J3 (ci := 13) rfl (k := 2) (by decide) q278 (fun _ h => h) dJ3_addLast_30 fun v30 => ?_
    refine z_aload_n (pc := 33) x 0 dJ3_addLast_33 rfl rfl ?_
    refine z_len (pc := 34) x dJ3_addLast_34 fun v34 => ?_
    refine z_call (pc := 35) (z_canS (pc := 35) (As := [zI v30, zI v34]) (st := [zP a0, zI v25]) x (m_J3_inc hl v30 v34) q1608 q1609 q116 q1610 n_J3_inc ⟨by decide, by decide⟩ (Nat.le_of_ble_eq_true rfl) dJ3_addLast_35) (zv_I fun v35 => ?_) (fun q => zx_thr x (fun z hz => (htab z hz).elim) q)
    refine z_dup_x1 (pc := 38) x dJ3_addLast_38 rfl rfl ?_
    refine z_set (pc := 39) (v := zI v35) x in_J3 tyJ3 tyJ3_ok nmJ3 (ci := 13) rfl (k := 2) (by decide) q278 (fun _ h => h) rfl rfl rfl dJ3_addLast_39 ?_
    refine z_icmp_ne (pc := 42) (tgt := 50) x dJ3_addLast_42 rfl (fun _ => ?_) (fun _ => ?_)
    · refine z_aload_n (pc := 45) x 1 dJ3_addLast_45 rfl rfl ?_
      refine z_iconst (pc := 46) x (v := (1 : Int32)) dJ3_addLast_46 rfl ?_
      refine z_call (pc := 47) (z_canV (pc := 47) (As := [zI (1 : Int32)]) (st := []) x (ci := 13) rfl (fun b => m_J3_grow hl (some b) (1 : Int32)) q1622 q1624 (z_selP x (ci := 13) rfl (by decide) (zNi_inst x q269) q1623 q1624) q116 q1625 n_J3_grow ⟨by decide, by decide⟩ (Nat.le_of_ble_eq_true rfl) dJ3_addLast_47) (zv_V ?_) (fun q => zx_thr x (fun z hz => (htab z hz).elim) q)
      exact z_vret (pc := 50) x hret dJ3_addLast_50
    · exact z_vret (pc := 50) x hret dJ3_addLast_50
/-! X1_replaceLogic -/
def s_X1_replaceLogic_24 (E : zE) (a0 : Option Nat) (a1 : Option Nat) : zM := zGetR a0 16 3 (fun v25 => zGetR a0 16 0 (fun v29 => zC (zRv v25 [(13, fun b => s_J3_addLast E (some b) v29)]) zThr (zKV (zSet E a0 16 0 (zVal (zP a1)) (zRet none)))))
theorem w_X1_replaceLogic_24 (x : zCx p l R s m args meth c E D tA cX1_replaceLogic 2 yX1_replaceLogic.cls 13) (hl : l.stackTraces = false) (hret : meth.sig.returnType = (Option.none : Option Jvm.ClassFile.FieldType)) (hnm : meth.name = yX1_replaceLogic.name) (htab : ∀ z ∈ c.exceptionTable.toList, False) (a0 : Option Nat) (a1 : Option Nat) : zW p l e R s m args below meth c E D tA 2 k0 (s_X1_replaceLogic_24 E a0 a1) [(0, zP a0), (1, zP a1)] 24 [] := by
  unfold s_X1_replaceLogic_24
  refine z_aload_n (pc := 24) x 0 dX1_replaceLogic_24 rfl rfl ?_
  refine z_get (pc := 25) (fun _ _ h => zAsR_eq h) x in_X1 (ci := 16) rfl (k := 3) (by decide) q323 (fun _ h => h) dX1_replaceLogic_25 fun v25 => ?_
  refine z_aload_n (pc := 28) x 0 dX1_replaceLogic_28 rfl rfl ?_
  refine z_get (pc := 29) (fun _ _ h => zAsR_eq h) x in_X1 (ci := 16) rfl (k := 0) (by decide) q320 (fun _ h => h) dX1_replaceLogic_29 fun v29 => ?_
  refine z_call (pc := 32) (z_canIF (pc := 32) (As := [zP v29]) (st := []) (x9 := ⟨"java/util/Deque", "addLast", "(Ljava/lang/Object;)V"⟩) x (ci := 13) rfl (fun b => m_J3_addLast hl (some b) v29) q1614 q1616 q1615 (by decide) q1617 q1619 q1620 q1618 q1583 q116 q1621 nx_java_util_Deque_addLast__Ljava_lang_Object__V ⟨by decide, by decide⟩ (Nat.le_of_ble_eq_true rfl) dX1_replaceLogic_32) (zv_V ?_) (fun q => zx_thr x (fun z hz => (htab z hz).elim) q)
  refine z_aload_n (pc := 37) x 0 dX1_replaceLogic_37 rfl rfl ?_
  refine z_aload_n (pc := 38) x 1 dX1_replaceLogic_38 rfl rfl ?_
  refine z_set (pc := 39) (v := zP a1) x in_X1 tyX1 tyX1_ok nmX1 (ci := 16) rfl (k := 0) (by decide) q320 (fun _ h => h) rfl (zfitR rfl _).1 (zfitR rfl _).2 dX1_replaceLogic_39 ?_
  exact z_vret (pc := 42) x hret dX1_replaceLogic_42
def s_X1_replaceLogic (E : zE) (a0 : Option Nat) (a1 : Option Nat) : zM := zGetR a0 16 3 (fun v1 => zC (zRv v1 [(13, fun b => s_J3_size E (some b))]) zThr (zKI (fun v4 => if v4 = (8 : Int32) then (zGetR a0 16 3 (fun v15 => zC (zRv v15 [(13, fun b => s_J3_removeFirst E (some b))]) zThr (zKR (fun v18 => s_X1_replaceLogic_24 E a0 a1)))) else (s_X1_replaceLogic_24 E a0 a1))))
theorem m_X1_replaceLogic {l : Launch} {E : zE} {D : va_G} {tA : Nat → ClassId} (hl : l.stackTraces = false) (a0 : Option Nat) (a1 : Option Nat) : zMet l E D tA yX1_replaceLogic (ws_ yX1_replaceLogic cX1_replaceLogic 2 (Option.none : Option Jvm.ClassFile.FieldType)) 13 (s_X1_replaceLogic E a0 a1) [zP a0, zP a1] := by
  refine z_met hl (by decide +kernel) (by rw [zSl_len]; exact (Nat.le_of_ble_eq_true rfl)) fun p e R s m args below meth c k0 x hret hnm htab => ?_
  refine z_lv [(0, zP a0), (1, zP a1)] rfl ?_
  unfold s_X1_replaceLogic
  refine z_aload_n (pc := 0) x 0 dX1_replaceLogic_0 rfl rfl ?_
  refine z_get (pc := 1) (fun _ _ h => zAsR_eq h) x in_X1 (ci := 16) rfl (k := 3) (by decide) q323 (fun _ h => h) dX1_replaceLogic_1 fun v1 => ?_
  refine z_call (pc := 4) (z_canIF (pc := 4) (As := []) (st := []) (x9 := ⟨"java/util/Deque", "size", "()I"⟩) x (ci := 13) rfl (fun b => m_J3_size hl (some b)) q1580 q1582 q1581 (by decide) q1584 q1586 q1587 q1585 q1583 q116 q1588 nx_java_util_Deque_size___I ⟨by decide, by decide⟩ (Nat.le_of_ble_eq_true rfl) dX1_replaceLogic_4) (zv_I fun v4 => ?_) (fun q => zx_thr x (fun z hz => (htab z hz).elim) q)
  refine z_bipush (pc := 9) x (v := (8 : Int32)) dX1_replaceLogic_9 rfl ?_
  refine z_icmp_ne (pc := 11) (tgt := 24) x dX1_replaceLogic_11 rfl (fun _ => ?_) (fun _ => ?_)
  · refine z_aload_n (pc := 14) x 0 dX1_replaceLogic_14 rfl rfl ?_
    refine z_get (pc := 15) (fun _ _ h => zAsR_eq h) x in_X1 (ci := 16) rfl (k := 3) (by decide) q323 (fun _ h => h) dX1_replaceLogic_15 fun v15 => ?_
    refine z_call (pc := 18) (z_canIF (pc := 18) (As := []) (st := []) (x9 := ⟨"java/util/Deque", "removeFirst", "()Ljava/lang/Object;"⟩) x (ci := 13) rfl (fun b => m_J3_removeFirst hl (some b)) q1593 q1595 q1594 (by decide) q1596 q1598 q1599 q1597 q1583 q116 q1600 nx_java_util_Deque_removeFirst___Ljava_lang_Object_ ⟨by decide, by decide⟩ (Nat.le_of_ble_eq_true rfl) dX1_replaceLogic_18) (zv_R fun v18 => ?_) (fun q => zx_thr x (fun z hz => (htab z hz).elim) q)
    refine z_pop (pc := 23) x dX1_replaceLogic_23 rfl ?_
    exact z_sub [0, 1] rfl (w_X1_replaceLogic_24 x hl hret hnm htab a0 a1)
  · exact z_sub [0, 1] rfl (w_X1_replaceLogic_24 x hl hret hnm htab a0 a1)
/-! X1_addFact -/
def s_X1_addFact (E : zE) (a0 : Option Nat) (a1 : Int32) (a2 : Int32) (a3 : Int32) : zM := zNew 26 4 [.null, .null, .null, .null] (fun v0 => zGetR a0 16 0 (fun v5 => zC (zSp v0 (fun b => s_X2_init_2 E (some b) v5)) zThr (zKV (zC (zRv v0 [(26, fun b => s_X2_addFact E (some b) a1 a2 a3)]) zThr (zKI (fun v18 => zC (zRv a0 [(16, fun b => s_X1_replaceLogic E (some b) v0)]) zThr (zKV (zRet (some (.int v18))))))))))
theorem m_X1_addFact {l : Launch} {E : zE} {D : va_G} {tA : Nat → ClassId} (hl : l.stackTraces = false) (a0 : Option Nat) (a1 : Int32) (a2 : Int32) (a3 : Int32) : zMet l E D tA yX1_addFact (ws_ yX1_addFact cX1_addFact 6 (Option.some Jvm.ClassFile.FieldType.int)) 14 (s_X1_addFact E a0 a1 a2 a3) [zP a0, zI a1, zI a2, zI a3] := by
  refine z_met hl (by decide +kernel) (by rw [zSl_len]; exact (Nat.le_of_ble_eq_true rfl)) fun p e R s m args below meth c k0 x hret hnm htab => ?_
  refine z_lv [(0, zP a0), (1, zI a1), (2, zI a2), (3, zI a3)] rfl ?_
  unfold s_X1_addFact
  refine z_new (pc := 0) x in_X2 tyX2 tyX2_ok q175 q176 q109 (ci := 26) rfl (by decide) (by decide +kernel) dX1_addFact_0 fun v0 => ?_
  refine z_dup (pc := 3) x dX1_addFact_3 rfl ?_
  refine z_aload_n (pc := 4) x 0 dX1_addFact_4 rfl rfl ?_
  refine z_get (pc := 5) (fun _ _ h => zAsR_eq h) x in_X1 (ci := 16) rfl (k := 0) (by decide) q320 (fun _ h => h) dX1_addFact_5 fun v5 => ?_
  refine z_call (pc := 8) (z_canI (pc := 8) (ret := none) (As := [zP v5]) (st := [zP v0]) x (fun b => m_X2_init_2 hl (some b) v5) q1469 rfl q1470 q109 q1471 n_X2_init_2 ⟨by decide, by decide⟩ (Nat.le_of_ble_eq_true rfl) dX1_addFact_8) (zv_V ?_) (fun q => zx_thr x (fun z hz => (htab z hz).elim) q)
  refine z_astore (pc := 11) (lv' := [(4, zP v0), (0, zP a0), (1, zI a1), (2, zI a2), (3, zI a3)]) x dX1_addFact_11 (Nat.le_of_ble_eq_true rfl) rfl ?_
  refine z_aload (pc := 13) x 0 dX1_addFact_13 rfl ?_
  refine z_iload_n (pc := 15) x 2 dX1_addFact_15 rfl rfl ?_
  refine z_iload_n (pc := 16) x 3 dX1_addFact_16 rfl rfl ?_
  refine z_iload_n (pc := 17) x 4 dX1_addFact_17 rfl rfl ?_
  refine z_call (pc := 18) (z_canV (pc := 18) (As := [zI a1, zI a2, zI a3]) (st := []) x (ci := 26) rfl (fun b => m_X2_addFact hl (some b) a1 a2 a3) q1512 q1513 (x.2.2.2.2.1 _ q1514) q109 q1515 n_X2_addFact ⟨by decide, by decide⟩ (Nat.le_of_ble_eq_true rfl) dX1_addFact_18) (zv_I fun v18 => ?_) (fun q => zx_thr x (fun z hz => (htab z hz).elim) q)
  refine z_istore (pc := 21) (lv' := [(5, zI v18), (4, zP v0), (0, zP a0), (1, zI a1), (2, zI a2), (3, zI a3)]) x dX1_addFact_21 (Nat.le_of_ble_eq_true rfl) rfl ?_
  refine z_aload_n (pc := 23) x 2 dX1_addFact_23 rfl rfl ?_
  refine z_aload (pc := 24) x 1 dX1_addFact_24 rfl ?_
  refine z_call (pc := 26) (z_canV (pc := 26) (As := [zP v0]) (st := []) x (ci := 16) rfl (fun b => m_X1_replaceLogic hl (some b) v0) q1575 q1577 (z_selP x (ci := 16) rfl (by decide) (zNi_inst x q168) q1576 q1577) q108 q1578 n_X1_replaceLogic ⟨by decide, by decide⟩ (Nat.le_of_ble_eq_true rfl) dX1_addFact_26) (zv_V ?_) (fun q => zx_thr x (fun z hz => (htab z hz).elim) q)
  refine z_iload (pc := 29) x 0 dX1_addFact_29 rfl ?_
  exact z_iret (pc := 31) x hret dX1_addFact_31
/-! X0_addFact -/
def s_X0_addFact_15 (E : zE) (b0 : Option Nat) : zM := zRet (some (.int (1 : Int32)))
theorem w_X0_addFact_15 (x : zCx p l R s m args meth c E D tA cX0_addFact 6 yX0_addFact.cls 15) (hl : l.stackTraces = false) (hret : meth.sig.returnType = (Option.some Jvm.ClassFile.FieldType.int)) (hnm : meth.name = yX0_addFact.name) (htab : c.exceptionTable.toList = tableOf [(0, 12, 15, 13), (0, 12, 19, 15), (0, 12, 23, 17)]) (b0 : Option Nat) : zW p l e R s m args below meth c E D tA 6 k0 (s_X0_addFact_15 E b0) [] 15 [zP b0] := by
  unfold s_X0_addFact_15
  refine z_astore (pc := 15) (lv' := [(5, zP b0)]) x dX0_addFact_15 (Nat.le_of_ble_eq_true rfl) rfl ?_
  refine z_iconst (pc := 17) x (v := (1 : Int32)) dX0_addFact_17 rfl ?_
  exact z_iret (pc := 18) x hret dX0_addFact_18
def s_X0_addFact_19 (E : zE) (b0 : Option Nat) : zM := zRet (some (.int (2 : Int32)))
theorem w_X0_addFact_19 (x : zCx p l R s m args meth c E D tA cX0_addFact 6 yX0_addFact.cls 15) (hl : l.stackTraces = false) (hret : meth.sig.returnType = (Option.some Jvm.ClassFile.FieldType.int)) (hnm : meth.name = yX0_addFact.name) (htab : c.exceptionTable.toList = tableOf [(0, 12, 15, 13), (0, 12, 19, 15), (0, 12, 23, 17)]) (b0 : Option Nat) : zW p l e R s m args below meth c E D tA 6 k0 (s_X0_addFact_19 E b0) [] 19 [zP b0] := by
  unfold s_X0_addFact_19
  refine z_astore (pc := 19) (lv' := [(5, zP b0)]) x dX0_addFact_19 (Nat.le_of_ble_eq_true rfl) rfl ?_
  refine z_iconst (pc := 21) x (v := (2 : Int32)) dX0_addFact_21 rfl ?_
  exact z_iret (pc := 22) x hret dX0_addFact_22
def s_X0_addFact_23 (E : zE) (b0 : Option Nat) : zM := zRet (some (.int (3 : Int32)))
theorem w_X0_addFact_23 (x : zCx p l R s m args meth c E D tA cX0_addFact 6 yX0_addFact.cls 15) (hl : l.stackTraces = false) (hret : meth.sig.returnType = (Option.some Jvm.ClassFile.FieldType.int)) (hnm : meth.name = yX0_addFact.name) (htab : c.exceptionTable.toList = tableOf [(0, 12, 15, 13), (0, 12, 19, 15), (0, 12, 23, 17)]) (b0 : Option Nat) : zW p l e R s m args below meth c E D tA 6 k0 (s_X0_addFact_23 E b0) [] 23 [zP b0] := by
  unfold s_X0_addFact_23
  refine z_astore (pc := 23) (lv' := [(5, zP b0)]) x dX0_addFact_23 (Nat.le_of_ble_eq_true rfl) rfl ?_
  refine z_iconst (pc := 25) x (v := (3 : Int32)) dX0_addFact_25 rfl ?_
  exact z_iret (pc := 26) x hret dX0_addFact_26
def s_X0_addFact (E : zE) (a0 : Option Nat) (a1 : Int32) (a2 : Int32) (a3 : Int32) (a4 : Option Nat) : zM := zC (zRv a0 [(16, fun b => s_X1_addFact E (some b) a1 a2 a3)]) (fun q => zCat1 q [(0, s_X0_addFact_15 E (some q)), (2, s_X0_addFact_19 E (some q)), (5, s_X0_addFact_23 E (some q))]) (zKI (fun v7 => zSaL E 3 a4 (0 : Int32) ((v7).toInt64) (zRet (some (.int (0 : Int32))))))
theorem m_X0_addFact {l : Launch} {E : zE} {D : va_G} {tA : Nat → ClassId} (hl : l.stackTraces = false) (a0 : Option Nat) (a1 : Int32) (a2 : Int32) (a3 : Int32) (a4 : Option Nat) : zMet l E D tA yX0_addFact (wsW_ yX0_addFact cX0_addFact 6 (Option.some Jvm.ClassFile.FieldType.int) [(0, 12, 15, 13), (0, 12, 19, 15), (0, 12, 23, 17)]) 15 (s_X0_addFact E a0 a1 a2 a3 a4) [zP a0, zI a1, zI a2, zI a3, zP a4] := by
  refine z_metW hl (by decide +kernel) (by rw [zSl_len]; exact (Nat.le_of_ble_eq_true rfl)) fun p e R s m args below meth c k0 x hret hnm htab => ?_
  refine z_lv [(0, zP a0), (1, zI a1), (2, zI a2), (3, zI a3), (4, zP a4)] rfl ?_
  unfold s_X0_addFact
  refine z_aload (pc := 0) x 4 dX0_addFact_0 rfl ?_
  refine z_iconst (pc := 2) x (v := (0 : Int32)) dX0_addFact_2 rfl ?_
  refine z_aload_n (pc := 3) x 0 dX0_addFact_3 rfl rfl ?_
  refine z_iload_n (pc := 4) x 1 dX0_addFact_4 rfl rfl ?_
  refine z_iload_n (pc := 5) x 2 dX0_addFact_5 rfl rfl ?_
  refine z_iload_n (pc := 6) x 3 dX0_addFact_6 rfl rfl ?_
  refine z_call (pc := 7) (z_canV (pc := 7) (As := [zI a1, zI a2, zI a3]) (st := [zI (0 : Int32), zP a4]) x (ci := 16) rfl (fun b => m_X1_addFact hl (some b) a1 a2 a3) q1465 q1466 (x.2.2.2.2.1 _ q1467) q108 q1468 n_X1_addFact ⟨by decide, by decide⟩ (Nat.le_of_ble_eq_true rfl) dX0_addFact_7) (zv_I fun v7 => ?_) (fun q => zx_cat x [(0, s_X0_addFact_15 E (some q), ⟨0, 12, 15, 13⟩), (2, s_X0_addFact_19 E (some q), ⟨0, 12, 19, 15⟩), (5, s_X0_addFact_23 E (some q), ⟨0, 12, 23, 17⟩)] htab (List.forall_mem_cons.mpr ⟨⟨rfl, (show (13 : Nat) ≠ 0 by decide), q1462, z_sub [] rfl (w_X0_addFact_15 x hl hret hnm htab (some q))⟩, (List.forall_mem_cons.mpr ⟨⟨rfl, (show (15 : Nat) ≠ 0 by decide), q1463, z_sub [] rfl (w_X0_addFact_19 x hl hret hnm htab (some q))⟩, (List.forall_mem_cons.mpr ⟨⟨rfl, (show (17 : Nat) ≠ 0 by decide), q1464, z_sub [] rfl (w_X0_addFact_23 x hl hret hnm htab (some q))⟩, (fun _ hj => nomatch hj)⟩)⟩)⟩))
  refine z_i2l (pc := 10) x dX0_addFact_10 ?_
  refine z_last (pc := 11) x (t := 3) rfl dX0_addFact_11 ?_
  refine z_goto (pc := 12) (tgt := 27) x dX0_addFact_12 rfl ?_
  refine z_iconst (pc := 27) x (v := (0 : Int32)) dX0_addFact_27 rfl ?_
  exact z_iret (pc := 28) x hret dX0_addFact_28
/-! J22_init -/
def s_J22_init (E : zE) (a0 : Option Nat) (a1 : Option Nat) : zM := zSet E a0 11 3 (zVal (zP a1)) (zSp a0 (fun _ => zSet E a0 11 1 (zVal (zI (-1 : Int32))) (zGetR a0 11 3 (fun v16 => zGetI v16 10 0 (fun v19 => zSet E a0 11 2 (zVal (zI v19)) (zRet none))))))
theorem m_J22_init {l : Launch} {E : zE} {D : va_G} {tA : Nat → ClassId} (hl : l.stackTraces = false) (a0 : Option Nat) (a1 : Option Nat) : zMet l E D tA yJ22_init (ws_ yJ22_init cJ22_init 2 (Option.none : Option Jvm.ClassFile.FieldType)) 9 (s_J22_init E a0 a1) [zP a0, zP a1] := by
  refine z_met hl (by decide +kernel) (by rw [zSl_len]; exact (Nat.le_of_ble_eq_true rfl)) fun p e R s m args below meth c k0 x hret hnm htab => ?_
  refine z_lv [(0, zP a0), (1, zP a1)] rfl ?_
  unfold s_J22_init
  refine z_aload_n (pc := 0) x 0 dJ22_init_0 rfl rfl ?_
  refine z_aload_n (pc := 1) x 1 dJ22_init_1 rfl rfl ?_
  refine z_setF (pc := 2) (v := zP a1) x in_J22 tyJ22 tyJ22_ok nmJ22 (ci := 11) rfl (k := 3) (by decide) q399 (fun _ h => h) rfl hnm rfl (zfitR rfl _).1 (zfitR rfl _).2 dJ22_init_2 ?_
  refine z_aload_n (pc := 5) x 0 dJ22_init_5 rfl rfl ?_
  refine z_objInit (pc := 6) x q395 q173 q174 (by omega) (zSum (k := 0) rfl (by omega)) dJ22_init_6 ?_
  refine z_aload_n (pc := 9) x 0 dJ22_init_9 rfl rfl ?_
  refine z_iconst (pc := 10) x (v := (-1 : Int32)) dJ22_init_10 rfl ?_
  refine z_set (pc := 11) (v := zI (-1 : Int32)) x in_J22 tyJ22 tyJ22_ok nmJ22 (ci := 11) rfl (k := 1) (by decide) q397 (fun _ h => h) rfl rfl rfl dJ22_init_11 ?_
  refine z_aload_n (pc := 14) x 0 dJ22_init_14 rfl rfl ?_
  refine z_aload_n (pc := 15) x 0 dJ22_init_15 rfl rfl ?_
  refine z_get (pc := 16) (fun _ _ h => zAsR_eq h) x in_J22 (ci := 11) rfl (k := 3) (by decide) q399 (fun _ h => h) dJ22_init_16 fun v16 => ?_
  refine z_get (pc := 19) (fun _ _ h => zAsI_eq h) x in_J2 (ci := 10) rfl (k := 0) (by decide) q200 (fun y h => u_same (x.2.2.2.2.1 _ q201) y h) dJ22_init_19 fun v19 => ?_
  refine z_set (pc := 22) (v := zI v19) x in_J22 tyJ22 tyJ22_ok nmJ22 (ci := 11) rfl (k := 2) (by decide) q398 (fun _ h => h) rfl rfl rfl dJ22_init_22 ?_
  exact z_vret (pc := 25) x hret dJ22_init_25
/-! J2_iterator -/
def s_J2_iterator (E : zE) (a0 : Option Nat) : zM := zNew 11 4 [.int 0, .int 0, .int 0, .null] (fun v0 => zC (zSp v0 (fun b => s_J22_init E (some b) a0)) zThr (zKV (zRet (some (va_rf v0)))))
theorem m_J2_iterator {l : Launch} {E : zE} {D : va_G} {tA : Nat → ClassId} (hl : l.stackTraces = false) (a0 : Option Nat) : zMet l E D tA yJ2_iterator (ws_ yJ2_iterator cJ2_iterator 1 (Option.some (Jvm.ClassFile.FieldType.object "java/util/Iterator"))) 10 (s_J2_iterator E a0) [zP a0] := by
  refine z_met hl (by decide +kernel) (by rw [zSl_len]; exact (Nat.le_of_ble_eq_true rfl)) fun p e R s m args below meth c k0 x hret hnm htab => ?_
  refine z_lv [(0, zP a0)] rfl ?_
  unfold s_J2_iterator
  refine z_new (pc := 0) x in_J22 tyJ22 tyJ22_ok q390 q391 q139 (ci := 11) rfl (by decide) (by decide +kernel) dJ2_iterator_0 fun v0 => ?_
  refine z_dup (pc := 3) x dJ2_iterator_3 rfl ?_
  refine z_aload_n (pc := 4) x 0 dJ2_iterator_4 rfl rfl ?_
  refine z_call (pc := 5) (z_canI (pc := 5) (ret := none) (As := [zP a0]) (st := [zP v0]) x (fun b => m_J22_init hl (some b) a0) q392 rfl q393 q139 q394 n_J22_init ⟨by decide, by decide⟩ (Nat.le_of_ble_eq_true rfl) dJ2_iterator_5) (zv_V ?_) (fun q => zx_thr x (fun z hz => (htab z hz).elim) q)
  exact z_aret (pc := 8) x hret (Or.inl ⟨_, rfl⟩) dJ2_iterator_8
/-! J22_hasNext -/
def s_J22_hasNext (E : zE) (a0 : Option Nat) : zM := zGetI a0 11 0 (fun v1 => zGetR a0 11 3 (fun v5 => zGetI v5 10 2 (fun v8 => if v1 = v8 then (zRetN .boolean (0 : Int32)) else (zRetN .boolean (1 : Int32)))))
theorem m_J22_hasNext {l : Launch} {E : zE} {D : va_G} {tA : Nat → ClassId} (hl : l.stackTraces = false) (a0 : Option Nat) : zMet l E D tA yJ22_hasNext (ws_ yJ22_hasNext cJ22_hasNext 1 (Option.some Jvm.ClassFile.FieldType.boolean)) 9 (s_J22_hasNext E a0) [zP a0] := by
  refine z_met hl (by decide +kernel) (by rw [zSl_len]; exact (Nat.le_of_ble_eq_true rfl)) fun p e R s m args below meth c k0 x hret hnm htab => ?_
  refine z_lv [(0, zP a0)] rfl ?_
  unfold s_J22_hasNext
  refine z_aload_n (pc := 0) x 0 dJ22_hasNext_0 rfl rfl ?_
  refine z_get (pc := 1) (fun _ _ h => zAsI_eq h) x in_J22 (ci := 11) rfl (k := 0) (by decide) q396 (fun _ h => h) dJ22_hasNext_1 fun v1 => ?_
  refine z_aload_n (pc := 4) x 0 dJ22_hasNext_4 rfl rfl ?_
  refine z_get (pc := 5) (fun _ _ h => zAsR_eq h) x in_J22 (ci := 11) rfl (k := 3) (by decide) q399 (fun _ h => h) dJ22_hasNext_5 fun v5 => ?_
  refine z_getN (pc := 8) (fun _ _ h => zAsI_eq h) x in_J2 (ci := 10) rfl (k := 2) (by decide) q197 (fun _ h => h) dJ22_hasNext_8 fun v8 => ?_
  refine z_icmp_eq (pc := 11) (tgt := 18) x dJ22_hasNext_11 rfl (fun _ => ?_) (fun _ => ?_)
  · refine z_iconst (pc := 18) x (v := (0 : Int32)) dJ22_hasNext_18 rfl ?_
    exact z_zret (pc := 19) x hret dJ22_hasNext_19
  · refine z_iconst (pc := 14) x (v := (1 : Int32)) dJ22_hasNext_14 rfl ?_
    refine z_goto (pc := 15) (tgt := 19) x dJ22_hasNext_15 rfl ?_
    exact z_zret (pc := 19) x hret dJ22_hasNext_19
/-! J22_checkForComodification -/
def s_J22_checkForComodification (E : zE) (a0 : Option Nat) : zM := zGetR a0 11 3 (fun v1 => zGetI v1 10 0 (fun v4 => zGetI a0 11 2 (fun v8 => if v4 = v8 then (zRet none) else zFail)))
theorem m_J22_checkForComodification {l : Launch} {E : zE} {D : va_G} {tA : Nat → ClassId} (hl : l.stackTraces = false) (a0 : Option Nat) : zMet l E D tA yJ22_checkForComodification (ws_ yJ22_checkForComodification cJ22_checkForComodification 1 (Option.none : Option Jvm.ClassFile.FieldType)) 9 (s_J22_checkForComodification E a0) [zP a0] := by
  refine z_met hl (by decide +kernel) (by rw [zSl_len]; exact (Nat.le_of_ble_eq_true rfl)) fun p e R s m args below meth c k0 x hret hnm htab => ?_
  refine z_lv [(0, zP a0)] rfl ?_
  unfold s_J22_checkForComodification
  refine z_aload_n (pc := 0) x 0 dJ22_checkForComodification_0 rfl rfl ?_
  refine z_get (pc := 1) (fun _ _ h => zAsR_eq h) x in_J22 (ci := 11) rfl (k := 3) (by decide) q399 (fun _ h => h) dJ22_checkForComodification_1 fun v1 => ?_
  refine z_get (pc := 4) (fun _ _ h => zAsI_eq h) x in_J2 (ci := 10) rfl (k := 0) (by decide) q200 (fun y h => u_same (x.2.2.2.2.1 _ q201) y h) dJ22_checkForComodification_4 fun v4 => ?_
  refine z_aload_n (pc := 7) x 0 dJ22_checkForComodification_7 rfl rfl ?_
  refine z_get (pc := 8) (fun _ _ h => zAsI_eq h) x in_J22 (ci := 11) rfl (k := 2) (by decide) q398 (fun _ h => h) dJ22_checkForComodification_8 fun v8 => ?_
  refine z_icmp_eq (pc := 11) (tgt := 22) x dJ22_checkForComodification_11 rfl (fun _ => ?_) (fun _ => ?_)
  · exact z_vret (pc := 22) x hret dJ22_checkForComodification_22
  · exact z_fail
/-! J22_next -/
def s_J22_next (E : zE) (a0 : Option Nat) : zM := zC (zRv a0 [(11, fun b => s_J22_checkForComodification E (some b))]) zThr (zKV (zGetI a0 11 0 (fun v5 => zGetR a0 11 3 (fun v11 => zGetI v11 10 2 (fun v14 => if v5 < v14 then (zGetR a0 11 3 (fun v29 => zGetR v29 10 1 (fun v32 => zLen v32 (fun v38 => if v5 < v38 then (zSet E a0 11 0 (zVal (zI (v5 + (1 : Int32)))) (zSet E a0 11 1 (zVal (zI v5)) (zGaR 5 v32 v5 (fun v64 => zRet (some (va_rf v64)))))) else zFail)))) else (zNew 6 6 [] (fun v20 => zAth v20 zThr)))))))
theorem m_J22_next {l : Launch} {E : zE} {D : va_G} {tA : Nat → ClassId} (hl : l.stackTraces = false) (a0 : Option Nat) : zMet l E D tA yJ22_next (ws_ yJ22_next cJ22_next 3 (Option.some (Jvm.ClassFile.FieldType.object "java/lang/Object"))) 10 (s_J22_next E a0) [zP a0] := by
  refine z_met hl (by decide +kernel) (by rw [zSl_len]; exact (Nat.le_of_ble_eq_true rfl)) fun p e R s m args below meth c k0 x hret hnm htab => ?_
  refine z_lv [(0, zP a0)] rfl ?_
  unfold s_J22_next
  refine z_aload_n (pc := 0) x 0 dJ22_next_0 rfl rfl ?_
  refine z_call (pc := 1) (z_canV (pc := 1) (As := []) (st := []) x (ci := 11) rfl (fun b => m_J22_checkForComodification hl (some b)) q429 q430 (x.2.2.2.2.1 _ q431) q139 q432 n_J22_checkForComodification ⟨by decide, by decide⟩ (Nat.le_of_ble_eq_true rfl) dJ22_next_1) (zv_V ?_) (fun q => zx_thr x (fun z hz => (htab z hz).elim) q)
  refine z_aload_n (pc := 4) x 0 dJ22_next_4 rfl rfl ?_
  refine z_get (pc := 5) (fun _ _ h => zAsI_eq h) x in_J22 (ci := 11) rfl (k := 0) (by decide) q396 (fun _ h => h) dJ22_next_5 fun v5 => ?_
  refine z_istore_n (pc := 8) (lv' := [(1, zI v5), (0, zP a0)]) x dJ22_next_8 rfl (Nat.le_of_ble_eq_true rfl) rfl ?_
  refine z_iload_n (pc := 9) x 0 dJ22_next_9 rfl rfl ?_
  refine z_aload_n (pc := 10) x 1 dJ22_next_10 rfl rfl ?_
  refine z_get (pc := 11) (fun _ _ h => zAsR_eq h) x in_J22 (ci := 11) rfl (k := 3) (by decide) q399 (fun _ h => h) dJ22_next_11 fun v11 => ?_
  refine z_getN (pc := 14) (fun _ _ h => zAsI_eq h) x in_J2 (ci := 10) rfl (k := 2) (by decide) q197 (fun _ h => h) dJ22_next_14 fun v14 => ?_
  refine z_icmp_lt (pc := 17) (tgt := 28) x dJ22_next_17 rfl (fun _ => ?_) (fun _ => ?_)
  · refine z_aload_n (pc := 28) x 1 dJ22_next_28 rfl rfl ?_
    refine z_get (pc := 29) (fun _ _ h => zAsR_eq h) x in_J22 (ci := 11) rfl (k := 3) (by decide) q399 (fun _ h => h) dJ22_next_29 fun v29 => ?_
    refine z_get (pc := 32) (fun _ _ h => zAsR_eq h) x in_J2 (ci := 10) rfl (k := 1) (by decide) q196 (fun _ h => h) dJ22_next_32 fun v32 => ?_
    refine z_astore_n (pc := 35) (lv' := [(2, zP v32), (1, zI v5), (0, zP a0)]) x dJ22_next_35 rfl (Nat.le_of_ble_eq_true rfl) rfl ?_
    refine z_iload_n (pc := 36) x 1 dJ22_next_36 rfl rfl ?_
    refine z_aload_n (pc := 37) x 0 dJ22_next_37 rfl rfl ?_
    refine z_len (pc := 38) x dJ22_next_38 fun v38 => ?_
    refine z_icmp_lt (pc := 39) (tgt := 50) x dJ22_next_39 rfl (fun _ => ?_) (fun _ => ?_)
    · refine z_aload_n (pc := 50) x 2 dJ22_next_50 rfl rfl ?_
      refine z_iload_n (pc := 51) x 1 dJ22_next_51 rfl rfl ?_
      refine z_iconst (pc := 52) x (v := (1 : Int32)) dJ22_next_52 rfl ?_
      refine z_iadd (pc := 53) x dJ22_next_53 ?_
      refine z_set (pc := 54) (v := zI (v5 + (1 : Int32))) x in_J22 tyJ22 tyJ22_ok nmJ22 (ci := 11) rfl (k := 0) (by decide) q396 (fun _ h => h) rfl rfl rfl dJ22_next_54 ?_
      refine z_aload_n (pc := 57) x 0 dJ22_next_57 rfl rfl ?_
      refine z_aload_n (pc := 58) x 2 dJ22_next_58 rfl rfl ?_
      refine z_iload_n (pc := 59) x 1 dJ22_next_59 rfl rfl ?_
      refine z_dup_x1 (pc := 60) x dJ22_next_60 rfl rfl ?_
      refine z_set (pc := 61) (v := zI v5) x in_J22 tyJ22 tyJ22_ok nmJ22 (ci := 11) rfl (k := 1) (by decide) q397 (fun _ h => h) rfl rfl rfl dJ22_next_61 ?_
      refine z_aald (pc := 64) x (t := 5) rfl rfl dJ22_next_64 fun v64 => ?_
      exact z_aret (pc := 65) x hret (Or.inl ⟨_, rfl⟩) dJ22_next_65
    · exact z_fail
  · refine z_exc (pc := 20) x ["java/lang/RuntimeException", "java/lang/Exception"] (by decide) (by decide +kernel) (by decide +kernel) q433 q137 (zx_at0 x zxa_NoSuchElementException q481) (List.all_eq_true.mp (by decide +kernel)) (ci := 6) rfl (by show 2 + 3 < _; omega) (zSum (k := 0) rfl (by show _ + (13 * (2 + 1) + 42) ≤ _; omega)) dJ22_next_20 dJ22_next_23 dJ22_next_24 fun v20 => ?_
    exact z_athrow (pc := 27) x dJ22_next_27 (fun q => zx_thr x (fun z hz => (htab z hz).elim) q)
/-! J24_requireNonNull -/
def s_J24_requireNonNull (E : zE) (a0 : Option Nat) : zM := if a0 = none then zFail else (zRet (some (va_rf a0)))
theorem m_J24_requireNonNull {l : Launch} {E : zE} {D : va_G} {tA : Nat → ClassId} (hl : l.stackTraces = false) (a0 : Option Nat) : zMet l E D tA yJ24_requireNonNull (ws_ yJ24_requireNonNull cJ24_requireNonNull 1 (Option.some (Jvm.ClassFile.FieldType.object "java/lang/Object"))) 9 (s_J24_requireNonNull E a0) [zP a0] := by
  refine z_met hl (by decide +kernel) (by rw [zSl_len]; exact (Nat.le_of_ble_eq_true rfl)) fun p e R s m args below meth c k0 x hret hnm htab => ?_
  refine z_lv [(0, zP a0)] rfl ?_
  unfold s_J24_requireNonNull
  refine z_aload_n (pc := 0) x 0 dJ24_requireNonNull_0 rfl rfl ?_
  refine z_ifnonnull (pc := 1) (tgt := 12) x dJ24_requireNonNull_1 rfl (fun _ => ?_) (fun _ => ?_)
  · exact z_fail
  · refine z_aload_n (pc := 12) x 0 dJ24_requireNonNull_12 rfl rfl ?_
    exact z_aret (pc := 13) x hret (Or.inl ⟨_, rfl⟩) dJ24_requireNonNull_13
/-! J23_init -/
def s_J23_init (E : zE) (a0 : Option Nat) (a1 : Option Nat) : zM := zSp a0 (fun _ => zSet E a0 12 0 (zVal (zP a1)) (zRet none))
theorem m_J23_init {l : Launch} {E : zE} {D : va_G} {tA : Nat → ClassId} (hl : l.stackTraces = false) (a0 : Option Nat) (a1 : Option Nat) : zMet l E D tA yJ23_init (ws_ yJ23_init cJ23_init 2 (Option.none : Option Jvm.ClassFile.FieldType)) 9 (s_J23_init E a0 a1) [zP a0, zP a1] := by
  refine z_met hl (by decide +kernel) (by rw [zSl_len]; exact (Nat.le_of_ble_eq_true rfl)) fun p e R s m args below meth c k0 x hret hnm htab => ?_
  refine z_lv [(0, zP a0), (1, zP a1)] rfl ?_
  unfold s_J23_init
  refine z_aload_n (pc := 0) x 0 dJ23_init_0 rfl rfl ?_
  refine z_objInit (pc := 1) x q531 q173 q174 (by omega) (zSum (k := 0) rfl (by omega)) dJ23_init_1 ?_
  refine z_aload_n (pc := 4) x 0 dJ23_init_4 rfl rfl ?_
  refine z_aload_n (pc := 5) x 1 dJ23_init_5 rfl rfl ?_
  refine z_setF (pc := 6) (v := zP a1) x in_J23 tyJ23 tyJ23_ok nmJ23 (ci := 12) rfl (k := 0) (by decide) q532 (fun _ h => h) rfl hnm rfl (zfitR rfl _).1 (zfitR rfl _).2 dJ23_init_6 ?_
  exact z_vret (pc := 9) x hret dJ23_init_9
/-! J23_of -/
def s_J23_of (E : zE) (a0 : Option Nat) : zM := zNew 12 1 [.null] (fun v0 => zC (s_J24_requireNonNull E a0) zThr (zKR (fun v5 => zC (zSp v0 (fun b => s_J23_init E (some b) v5)) zThr (zKV (zRet (some (va_rf v0)))))))
theorem m_J23_of {l : Launch} {E : zE} {D : va_G} {tA : Nat → ClassId} (hl : l.stackTraces = false) (a0 : Option Nat) : zMet l E D tA yJ23_of (ws_ yJ23_of cJ23_of 1 (Option.some (Jvm.ClassFile.FieldType.object "java/util/Optional"))) 10 (s_J23_of E a0) [zP a0] := by
  refine z_met hl (by decide +kernel) (by rw [zSl_len]; exact (Nat.le_of_ble_eq_true rfl)) fun p e R s m args below meth c k0 x hret hnm htab => ?_
  refine z_lv [(0, zP a0)] rfl ?_
  unfold s_J23_of
  refine z_new (pc := 0) x in_J23 tyJ23 tyJ23_ok q523 q524 q140 (ci := 12) rfl (by decide) (by decide +kernel) dJ23_of_0 fun v0 => ?_
  refine z_dup (pc := 3) x dJ23_of_3 rfl ?_
  refine z_aload_n (pc := 4) x 0 dJ23_of_4 rfl rfl ?_
  refine z_call (pc := 5) (z_canS (pc := 5) (As := [zP a0]) (st := [zP v0, zP v0]) x (m_J24_requireNonNull hl a0) q525 q526 q141 q527 n_J24_requireNonNull ⟨by decide, by decide⟩ (Nat.le_of_ble_eq_true rfl) dJ23_of_5) (zv_R fun v5 => ?_) (fun q => zx_thr x (fun z hz => (htab z hz).elim) q)
  refine z_call (pc := 8) (z_canI (pc := 8) (ret := none) (As := [zP v5]) (st := [zP v0]) x (fun b => m_J23_init hl (some b) v5) q528 rfl q529 q140 q530 n_J23_init ⟨by decide, by decide⟩ (Nat.le_of_ble_eq_true rfl) dJ23_of_8) (zv_V ?_) (fun q => zx_thr x (fun z hz => (htab z hz).elim) q)
  exact z_aret (pc := 11) x hret (Or.inl ⟨_, rfl⟩) dJ23_of_11
/-! X23_atom -/
def s_X23_atom (E : zE) (a0 : Option Nat) : zM := zGetR a0 29 0 (fun v1 => zC (s_J23_of E v1) zThr (zKR (fun v4 => zRet (some (va_rf v4)))))
theorem m_X23_atom {l : Launch} {E : zE} {D : va_G} {tA : Nat → ClassId} (hl : l.stackTraces = false) (a0 : Option Nat) : zMet l E D tA yX23_atom (ws_ yX23_atom cX23_atom 1 (Option.some (Jvm.ClassFile.FieldType.object "java/util/Optional"))) 11 (s_X23_atom E a0) [zP a0] := by
  refine z_met hl (by decide +kernel) (by rw [zSl_len]; exact (Nat.le_of_ble_eq_true rfl)) fun p e R s m args below meth c k0 x hret hnm htab => ?_
  refine z_lv [(0, zP a0)] rfl ?_
  unfold s_X23_atom
  refine z_aload_n (pc := 0) x 0 dX23_atom_0 rfl rfl ?_
  refine z_get (pc := 1) (fun _ _ h => zAsR_eq h) x in_X23 (ci := 29) rfl (k := 0) (by decide) q2391 (fun _ h => h) dX23_atom_1 fun v1 => ?_
  refine z_call (pc := 4) (z_canS (pc := 4) (As := [zP v1]) (st := []) x (m_J23_of hl v1) q520 q521 q140 q522 n_J23_of ⟨by decide, by decide⟩ (Nat.le_of_ble_eq_true rfl) dX23_atom_4) (zv_R fun v4 => ?_) (fun q => zx_thr x (fun z hz => (htab z hz).elim) q)
  exact z_aret (pc := 7) x hret (Or.inl ⟨_, rfl⟩) dX23_atom_7
/-! J23_empty -/
def s_J23_empty (E : zE) : zM := zRet (some (va_rf (some (E 7))))
theorem m_J23_empty {l : Launch} {E : zE} {D : va_G} {tA : Nat → ClassId} (hl : l.stackTraces = false) : zMet l E D tA yJ23_empty (ws_ yJ23_empty cJ23_empty 1 (Option.some (Jvm.ClassFile.FieldType.object "java/util/Optional"))) 9 (s_J23_empty E) [] := by
  refine z_met hl (by decide +kernel) (by rw [zSl_len]; exact (Nat.le_of_ble_eq_true rfl)) fun p e R s m args below meth c k0 x hret hnm htab => ?_
  refine z_lv [] rfl ?_
  unfold s_J23_empty
  refine z_staR (pc := 0) x (k := 7) (by decide) q544 dJ23_empty_0 ?_
  refine z_astore_n (pc := 3) (lv' := [(0, zP (some (E 7)))]) x dJ23_empty_3 rfl (Nat.le_of_ble_eq_true rfl) rfl ?_
  refine z_aload_n (pc := 4) x 0 dJ23_empty_4 rfl rfl ?_
  exact z_aret (pc := 5) x hret (Or.inl ⟨_, rfl⟩) dJ23_empty_5
/-! X26_atom -/
def s_X26_atom (E : zE) (a0 : Option Nat) : zM := zC (s_J23_empty E) zThr (zKR (fun v0 => zRet (some (va_rf v0))))
theorem m_X26_atom {l : Launch} {E : zE} {D : va_G} {tA : Nat → ClassId} (hl : l.stackTraces = false) (a0 : Option Nat) : zMet l E D tA yX26_atom (ws_ yX26_atom cX26_atom 1 (Option.some (Jvm.ClassFile.FieldType.object "java/util/Optional"))) 10 (s_X26_atom E a0) [zP a0] := by
  refine z_met hl (by decide +kernel) (by rw [zSl_len]; exact (Nat.le_of_ble_eq_true rfl)) fun p e R s m args below meth c k0 x hret hnm htab => ?_
  refine z_lv [(0, zP a0)] rfl ?_
  unfold s_X26_atom
  refine z_call (pc := 0) (z_canS (pc := 0) (As := []) (st := []) x (m_J23_empty hl) q541 q542 q140 q543 n_J23_empty ⟨by decide, by decide⟩ (Nat.le_of_ble_eq_true rfl) dX26_atom_0) (zv_R fun v0 => ?_) (fun q => zx_thr x (fun z hz => (htab z hz).elim) q)
  exact z_aret (pc := 3) x hret (Or.inl ⟨_, rfl⟩) dX26_atom_3
/-! J23_isPresent -/
def s_J23_isPresent (E : zE) (a0 : Option Nat) : zM := zGetR a0 12 0 (fun v1 => if v1 = none then (zRetN .boolean (0 : Int32)) else (zRetN .boolean (1 : Int32)))
theorem m_J23_isPresent {l : Launch} {E : zE} {D : va_G} {tA : Nat → ClassId} (hl : l.stackTraces = false) (a0 : Option Nat) : zMet l E D tA yJ23_isPresent (ws_ yJ23_isPresent cJ23_isPresent 1 (Option.some Jvm.ClassFile.FieldType.boolean)) 9 (s_J23_isPresent E a0) [zP a0] := by
  refine z_met hl (by decide +kernel) (by rw [zSl_len]; exact (Nat.le_of_ble_eq_true rfl)) fun p e R s m args below meth c k0 x hret hnm htab => ?_
  refine z_lv [(0, zP a0)] rfl ?_
  unfold s_J23_isPresent
  refine z_aload_n (pc := 0) x 0 dJ23_isPresent_0 rfl rfl ?_
  refine z_get (pc := 1) (fun _ _ h => zAsR_eq h) x in_J23 (ci := 12) rfl (k := 0) (by decide) q532 (fun _ h => h) dJ23_isPresent_1 fun v1 => ?_
  refine z_ifnull (pc := 4) (tgt := 11) x dJ23_isPresent_4 rfl (fun _ => ?_) (fun _ => ?_)
  · refine z_iconst (pc := 11) x (v := (0 : Int32)) dJ23_isPresent_11 rfl ?_
    exact z_zret (pc := 12) x hret dJ23_isPresent_12
  · refine z_iconst (pc := 7) x (v := (1 : Int32)) dJ23_isPresent_7 rfl ?_
    refine z_goto (pc := 8) (tgt := 12) x dJ23_isPresent_8 rfl ?_
    exact z_zret (pc := 12) x hret dJ23_isPresent_12
/-! J23_get -/
def s_J23_get (E : zE) (a0 : Option Nat) : zM := zGetR a0 12 0 (fun v1 => if v1 = none then zFail else (zGetR a0 12 0 (fun v18 => zRet (some (va_rf v18)))))
theorem m_J23_get {l : Launch} {E : zE} {D : va_G} {tA : Nat → ClassId} (hl : l.stackTraces = false) (a0 : Option Nat) : zMet l E D tA yJ23_get (ws_ yJ23_get cJ23_get 1 (Option.some (Jvm.ClassFile.FieldType.object "java/lang/Object"))) 9 (s_J23_get E a0) [zP a0] := by
  refine z_met hl (by decide +kernel) (by rw [zSl_len]; exact (Nat.le_of_ble_eq_true rfl)) fun p e R s m args below meth c k0 x hret hnm htab => ?_
  refine z_lv [(0, zP a0)] rfl ?_
  unfold s_J23_get
  refine z_aload_n (pc := 0) x 0 dJ23_get_0 rfl rfl ?_
  refine z_get (pc := 1) (fun _ _ h => zAsR_eq h) x in_J23 (ci := 12) rfl (k := 0) (by decide) q532 (fun _ h => h) dJ23_get_1 fun v1 => ?_
  refine z_ifnonnull (pc := 4) (tgt := 17) x dJ23_get_4 rfl (fun _ => ?_) (fun _ => ?_)
  · exact z_fail
  · refine z_aload_n (pc := 17) x 0 dJ23_get_17 rfl rfl ?_
    refine z_get (pc := 18) (fun _ _ h => zAsR_eq h) x in_J23 (ci := 12) rfl (k := 0) (by decide) q532 (fun _ h => h) dJ23_get_18 fun v18 => ?_
    exact z_aret (pc := 21) x hret (Or.inl ⟨_, rfl⟩) dJ23_get_21
/-! X23_isPositive -/
def s_X23_isPositive (E : zE) (a0 : Option Nat) : zM := zGetI a0 29 1 (fun v1 => zRetN .boolean v1)
theorem m_X23_isPositive {l : Launch} {E : zE} {D : va_G} {tA : Nat → ClassId} (hl : l.stackTraces = false) (a0 : Option Nat) : zMet l E D tA yX23_isPositive (ws_ yX23_isPositive cX23_isPositive 1 (Option.some Jvm.ClassFile.FieldType.boolean)) 9 (s_X23_isPositive E a0) [zP a0] := by
  refine z_met hl (by decide +kernel) (by rw [zSl_len]; exact (Nat.le_of_ble_eq_true rfl)) fun p e R s m args below meth c k0 x hret hnm htab => ?_
  refine z_lv [(0, zP a0)] rfl ?_
  unfold s_X23_isPositive
  refine z_aload_n (pc := 0) x 0 dX23_isPositive_0 rfl rfl ?_
  refine z_get (pc := 1) (fun _ _ h => zAsI_eq h) x in_X23 (ci := 29) rfl (k := 1) (by decide) q2392 (fun _ h => h) dX23_isPositive_1 fun v1 => ?_
  exact z_zret (pc := 4) x hret dX23_isPositive_4
/-! X26_isPositive -/
def s_X26_isPositive (E : zE) (a0 : Option Nat) : zM := zRetN .boolean (0 : Int32)
theorem m_X26_isPositive {l : Launch} {E : zE} {D : va_G} {tA : Nat → ClassId} (hl : l.stackTraces = false) (a0 : Option Nat) : zMet l E D tA yX26_isPositive (ws_ yX26_isPositive cX26_isPositive 1 (Option.some Jvm.ClassFile.FieldType.boolean)) 9 (s_X26_isPositive E a0) [zP a0] := by
  refine z_met hl (by decide +kernel) (by rw [zSl_len]; exact (Nat.le_of_ble_eq_true rfl)) fun p e R s m args below meth c k0 x hret hnm htab => ?_
  refine z_lv [(0, zP a0)] rfl ?_
  unfold s_X26_isPositive
  refine z_iconst (pc := 0) x (v := (0 : Int32)) dX26_isPositive_0 rfl ?_
  exact z_zret (pc := 1) x hret dX26_isPositive_1
/-! X26_isNegative -/
def s_X26_isNegative (E : zE) (a0 : Option Nat) : zM := zC (zRv a0 [(29, fun b => s_X23_atom E (some b)), (30, fun b => s_X26_atom E (some b))]) zThr (zKR (fun v1 => zC (zRv v1 [(12, fun b => s_J23_isPresent E (some b))]) zThr (zKI (fun v6 => if v6 = 0 then (zRetN .boolean (0 : Int32)) else (zC (zRv a0 [(29, fun b => s_X23_isPositive E (some b)), (30, fun b => s_X26_isPositive E (some b))]) zThr (zKI (fun v13 => if v13 = 0 then (zRetN .boolean (1 : Int32)) else (zRetN .boolean (0 : Int32)))))))))
theorem m_X26_isNegative {l : Launch} {E : zE} {D : va_G} {tA : Nat → ClassId} (hl : l.stackTraces = false) (a0 : Option Nat) : zMet l E D tA yX26_isNegative (ws_ yX26_isNegative cX26_isNegative 1 (Option.some Jvm.ClassFile.FieldType.boolean)) 12 (s_X26_isNegative E a0) [zP a0] := by
  refine z_met hl (by decide +kernel) (by rw [zSl_len]; exact (Nat.le_of_ble_eq_true rfl)) fun p e R s m args below meth c k0 x hret hnm htab => ?_
  refine z_lv [(0, zP a0)] rfl ?_
  unfold s_X26_isNegative
  refine z_aload_n (pc := 0) x 0 dX26_isNegative_0 rfl rfl ?_
  refine z_call (pc := 1) (z_can_cons (z_canIF (pc := 1) (As := []) (st := []) (x9 := ⟨"BrambleLogic$Literal", "atom", "()Ljava/util/Optional;"⟩) x (ci := 29) rfl (fun b => m_X23_atom hl (some b)) q578 q513 q512 (by decide) q515 q517 q518 q516 q514 q162 q519 nx_BrambleLogic_Literal_atom___Ljava_util_Optional_ ⟨by decide, by decide⟩ (Nat.le_of_ble_eq_true rfl) dX26_isNegative_1) (z_can_cons (z_canID (pc := 1) (As := []) (st := []) (x9 := ⟨"BrambleLogic$Literal", "atom", "()Ljava/util/Optional;"⟩) x (ci := 30) rfl (fun b => m_X26_atom hl (some b)) q578 q513 q512 (by decide) (List.mem_of_getElem? (i := 5) rfl) q538 q539 q536 q165 q540 nx_BrambleLogic_Literal_atom___Ljava_util_Optional_ ⟨by decide, by decide⟩ (Nat.le_of_ble_eq_true rfl) dX26_isNegative_1) (z_can_nil))) (zv_R fun v1 => ?_) (fun q => zx_thr x (fun z hz => (htab z hz).elim) q)
  refine z_call (pc := 6) (z_canV (pc := 6) (As := []) (st := []) x (ci := 12) rfl (fun b => m_J23_isPresent hl (some b)) q579 q547 (x.2.2.2.2.1 _ q548) q140 q549 n_J23_isPresent ⟨by decide, by decide⟩ (Nat.le_of_ble_eq_true rfl) dX26_isNegative_6) (zv_I fun v6 => ?_) (fun q => zx_thr x (fun z hz => (htab z hz).elim) q)
  refine z_if_eq (pc := 9) (tgt := 25) x dX26_isNegative_9 rfl (fun _ => ?_) (fun _ => ?_)
  · refine z_iconst (pc := 25) x (v := (0 : Int32)) dX26_isNegative_25 rfl ?_
    exact z_zret (pc := 26) x hret dX26_isNegative_26
  · refine z_aload_n (pc := 12) x 0 dX26_isNegative_12 rfl rfl ?_
    refine z_call (pc := 13) (z_can_cons (z_canIF (pc := 13) (As := []) (st := []) (x9 := ⟨"BrambleLogic$Literal", "isPositive", "()Z"⟩) x (ci := 29) rfl (fun b => m_X23_isPositive hl (some b)) q581 q583 q582 (by decide) q584 q586 q587 q585 q514 q162 q588 nx_BrambleLogic_Literal_isPositive___Z ⟨by decide, by decide⟩ (Nat.le_of_ble_eq_true rfl) dX26_isNegative_13) (z_can_cons (z_canID (pc := 13) (As := []) (st := []) (x9 := ⟨"BrambleLogic$Literal", "isPositive", "()Z"⟩) x (ci := 30) rfl (fun b => m_X26_isPositive hl (some b)) q581 q583 q582 (by decide) (List.mem_of_getElem? (i := 7) rfl) q590 q591 q536 q165 q592 nx_BrambleLogic_Literal_isPositive___Z ⟨by decide, by decide⟩ (Nat.le_of_ble_eq_true rfl) dX26_isNegative_13) (z_can_nil))) (zv_I fun v13 => ?_) (fun q => zx_thr x (fun z hz => (htab z hz).elim) q)
    refine z_if_ne (pc := 18) (tgt := 25) x dX26_isNegative_18 rfl (fun _ => ?_) (fun _ => ?_)
    · refine z_iconst (pc := 21) x (v := (1 : Int32)) dX26_isNegative_21 rfl ?_
      refine z_goto (pc := 22) (tgt := 26) x dX26_isNegative_22 rfl ?_
      exact z_zret (pc := 26) x hret dX26_isNegative_26
    · refine z_iconst (pc := 25) x (v := (0 : Int32)) dX26_isNegative_25 rfl ?_
      exact z_zret (pc := 26) x hret dX26_isNegative_26
/-! X7_add -/
def s_X7_add (E : zE) (a0 : Option Nat) (a1 : Int32) (a2 : Option Nat) : zM := zC (zRv a2 [(29, fun b => s_X23_atom E (some b)), (30, fun b => s_X26_atom E (some b))]) zThr (zKR (fun v1 => zC (zRv v1 [(12, fun b => s_J23_isPresent E (some b))]) zThr (zKI (fun v8 => if v8 = 0 then (zRet none) else (zGetR a0 35 0 (fun v15 => zGaR 8 v15 a1 (fun v19 => zC (zRv v1 [(12, fun b => s_J23_get E (some b))]) zThr (zKR (fun v21 => zCsS 37 v21 (zGetI v21 37 0 (fun v27 => zSaI E 2 v19 v27 (vp_nar .boolean (1 : Int32)) (zGetR a0 35 1 (fun v33 => zGaR 8 v33 a1 (fun v37 => zC (zRv v1 [(12, fun b => s_J23_get E (some b))]) zThr (zKR (fun v39 => zCsS 37 v39 (zGetI v39 37 0 (fun v45 => zGaI 2 v37 v45 (fun v49 => zC (zRv a2 [(29, fun b => s_X26_isNegative E (some b)), (30, fun b => s_X26_isNegative E (some b))]) zThr (zKI (fun v51 => zSaI E 2 v37 v45 (vp_nar .boolean (v49 ||| v51)) (zRet none))))))))))))))))))))))
theorem m_X7_add {l : Launch} {E : zE} {D : va_G} {tA : Nat → ClassId} (hl : l.stackTraces = false) (a0 : Option Nat) (a1 : Int32) (a2 : Option Nat) : zMet l E D tA yX7_add (ws_ yX7_add cX7_add 4 (Option.none : Option Jvm.ClassFile.FieldType)) 13 (s_X7_add E a0 a1 a2) [zP a0, zI a1, zP a2] := by
  refine z_met hl (by decide +kernel) (by rw [zSl_len]; exact (Nat.le_of_ble_eq_true rfl)) fun p e R s m args below meth c k0 x hret hnm htab => ?_
  refine z_lv [(0, zP a0), (1, zI a1), (2, zP a2)] rfl ?_
  unfold s_X7_add
  refine z_aload_n (pc := 0) x 2 dX7_add_0 rfl rfl ?_
  refine z_call (pc := 1) (z_can_cons (z_canIF (pc := 1) (As := []) (st := []) (x9 := ⟨"BrambleLogic$Literal", "atom", "()Ljava/util/Optional;"⟩) x (ci := 29) rfl (fun b => m_X23_atom hl (some b)) q511 q513 q512 (by decide) q515 q517 q518 q516 q514 q162 q519 nx_BrambleLogic_Literal_atom___Ljava_util_Optional_ ⟨by decide, by decide⟩ (Nat.le_of_ble_eq_true rfl) dX7_add_1) (z_can_cons (z_canID (pc := 1) (As := []) (st := []) (x9 := ⟨"BrambleLogic$Literal", "atom", "()Ljava/util/Optional;"⟩) x (ci := 30) rfl (fun b => m_X26_atom hl (some b)) q511 q513 q512 (by decide) (List.mem_of_getElem? (i := 5) rfl) q538 q539 q536 q165 q540 nx_BrambleLogic_Literal_atom___Ljava_util_Optional_ ⟨by decide, by decide⟩ (Nat.le_of_ble_eq_true rfl) dX7_add_1) (z_can_nil))) (zv_R fun v1 => ?_) (fun q => zx_thr x (fun z hz => (htab z hz).elim) q)
  refine z_astore_n (pc := 6) (lv' := [(3, zP v1), (0, zP a0), (1, zI a1), (2, zP a2)]) x dX7_add_6 rfl (Nat.le_of_ble_eq_true rfl) rfl ?_
  refine z_aload_n (pc := 7) x 0 dX7_add_7 rfl rfl ?_
  refine z_call (pc := 8) (z_canV (pc := 8) (As := []) (st := []) x (ci := 12) rfl (fun b => m_J23_isPresent hl (some b)) q546 q547 (x.2.2.2.2.1 _ q548) q140 q549 n_J23_isPresent ⟨by decide, by decide⟩ (Nat.le_of_ble_eq_true rfl) dX7_add_8) (zv_I fun v8 => ?_) (fun q => zx_thr x (fun z hz => (htab z hz).elim) q)
  refine z_if_eq (pc := 11) (tgt := 58) x dX7_add_11 rfl (fun _ => ?_) (fun _ => ?_)
  · exact z_vret (pc := 58) x hret dX7_add_58
  · refine z_aload_n (pc := 14) x 1 dX7_add_14 rfl rfl ?_
    refine z_get (pc := 15) (fun _ _ h => zAsR_eq h) x in_X7 (ci := 35) rfl (k := 0) (by decide) q594 (fun _ h => h) dX7_add_15 fun v15 => ?_
    refine z_iload_n (pc := 18) x 2 dX7_add_18 rfl rfl ?_
    refine z_aald (pc := 19) x (t := 8) rfl rfl dX7_add_19 fun v19 => ?_
    refine z_aload_n (pc := 20) x 0 dX7_add_20 rfl rfl ?_
    refine z_call (pc := 21) (z_canV (pc := 21) (As := []) (st := [zP v19]) x (ci := 12) rfl (fun b => m_J23_get hl (some b)) q550 q551 (x.2.2.2.2.1 _ q552) q140 q553 n_J23_get ⟨by decide, by decide⟩ (Nat.le_of_ble_eq_true rfl) dX7_add_21) (zv_R fun v21 => ?_) (fun q => zx_thr x (fun z hz => (htab z hz).elim) q)
    refine z_csS (pc := 24) x (ci := 37) rfl q568 dX7_add_24 ?_
    refine z_getN (pc := 27) (fun _ _ h => zAsI_eq h) x in_X9 (ci := 37) rfl (k := 0) (by decide) q2359 (fun _ h => h) dX7_add_27 fun v27 => ?_
    refine z_iconst (pc := 30) x (v := (1 : Int32)) dX7_add_30 rfl ?_
    refine z_zast (pc := 31) x (t := 2) rfl dX7_add_31 ?_
    refine z_aload_n (pc := 32) x 1 dX7_add_32 rfl rfl ?_
    refine z_get (pc := 33) (fun _ _ h => zAsR_eq h) x in_X7 (ci := 35) rfl (k := 1) (by decide) q595 (fun _ h => h) dX7_add_33 fun v33 => ?_
    refine z_iload_n (pc := 36) x 2 dX7_add_36 rfl rfl ?_
    refine z_aald (pc := 37) x (t := 8) rfl rfl dX7_add_37 fun v37 => ?_
    refine z_aload_n (pc := 38) x 0 dX7_add_38 rfl rfl ?_
    refine z_call (pc := 39) (z_canV (pc := 39) (As := []) (st := [zP v37]) x (ci := 12) rfl (fun b => m_J23_get hl (some b)) q550 q551 (x.2.2.2.2.1 _ q552) q140 q553 n_J23_get ⟨by decide, by decide⟩ (Nat.le_of_ble_eq_true rfl) dX7_add_39) (zv_R fun v39 => ?_) (fun q => zx_thr x (fun z hz => (htab z hz).elim) q)
    refine z_csS (pc := 42) x (ci := 37) rfl q568 dX7_add_42 ?_
    refine z_getN (pc := 45) (fun _ _ h => zAsI_eq h) x in_X9 (ci := 37) rfl (k := 0) (by decide) q2359 (fun _ h => h) dX7_add_45 fun v45 => ?_
    refine z_dup2 (pc := 48) x dX7_add_48 rfl rfl ?_
    refine z_zald (pc := 49) x (t := 2) rfl dX7_add_49 fun v49 => ?_
    refine z_aload_n (pc := 50) x 3 dX7_add_50 rfl rfl ?_
    refine z_call (pc := 51) (z_can_cons (z_canID (pc := 51) (As := []) (st := [zI v49, zI v45, zP v37]) (x9 := ⟨"BrambleLogic$Literal", "isNegative", "()Z"⟩) x (ci := 29) rfl (fun b => m_X26_isNegative hl (some b)) q570 q572 q571 (by decide) (List.mem_of_getElem? (i := 6) rfl) q574 q575 q514 q165 q576 nx_BrambleLogic_Literal_isNegative___Z ⟨by decide, by decide⟩ (Nat.le_of_ble_eq_true rfl) dX7_add_51) (z_can_cons (z_canID (pc := 51) (As := []) (st := [zI v49, zI v45, zP v37]) (x9 := ⟨"BrambleLogic$Literal", "isNegative", "()Z"⟩) x (ci := 30) rfl (fun b => m_X26_isNegative hl (some b)) q570 q572 q571 (by decide) (List.mem_of_getElem? (i := 8) rfl) q574 q575 q536 q165 q576 nx_BrambleLogic_Literal_isNegative___Z ⟨by decide, by decide⟩ (Nat.le_of_ble_eq_true rfl) dX7_add_51) (z_can_nil))) (zv_I fun v51 => ?_) (fun q => zx_thr x (fun z hz => (htab z hz).elim) q)
    refine z_ior (pc := 56) x dX7_add_56 ?_
    refine z_zast (pc := 57) x (t := 2) rfl dX7_add_57 ?_
    exact z_vret (pc := 58) x hret dX7_add_58
/-! X7_init -/
def s_X7_init_65 (E : zE) (k35 : Option Nat → Option Nat → zM) : Nat → Option Nat → Option Nat → Option Nat → Option Nat → zM
  | 0, _, _, _, _ => zFail
  | n + 1, a0, a2, a3, a4 => zC (zRv a4 [(11, fun b => s_J22_hasNext E (some b))]) zThr (zKI (fun v67 => if v67 = 0 then (k35 a0 a2) else (zC (zRv a4 [(11, fun b => s_J22_next E (some b))]) zThr (zKR (fun v77 => zCst 12 v77 (zGetR a3 31 0 (fun v89 => zGetI v89 37 0 (fun v92 => zC (zRv a0 [(35, fun b => s_X7_add E (some b) v92 v77)]) zThr (zKV ((s_X7_init_65 E k35 n) a0 a2 a3 a4))))))))))
theorem w_X7_init_65 (x : zCx p l R s m args meth c E D tA cX7_init 6 yX7_init.cls 14) (hl : l.stackTraces = false) (hret : meth.sig.returnType = (Option.none : Option Jvm.ClassFile.FieldType)) (hnm : meth.name = yX7_init.name) (htab : ∀ z ∈ c.exceptionTable.toList, False) {k35 : Option Nat → Option Nat → zM} (h35 : ∀ (a0 : Option Nat) (a2 : Option Nat) , zW p l e R s m args below meth c E D tA 6 k0 (k35 a0 a2) [(0, zP a0), (2, zP a2)] 35 []) : ∀ (n : Nat) (a0 : Option Nat) (a2 : Option Nat) (a3 : Option Nat) (a4 : Option Nat), zW p l e R s m args below meth c E D tA 6 k0 (s_X7_init_65 E k35 n a0 a2 a3 a4) [(0, zP a0), (2, zP a2), (3, zP a3), (4, zP a4)] 65 [] := by
  intro n
  induction n with
  | zero => intro a0 a2 a3 a4; exact z_fail
  | succ n h65 =>
    intro a0 a2 a3 a4
    rw [s_X7_init_65]
    refine z_aload (pc := 65) x 3 dX7_init_65 rfl ?_
    refine z_call (pc := 67) (z_canIF (pc := 67) (As := []) (st := []) (x9 := ⟨"java/util/Iterator", "hasNext", "()Z"⟩) x (ci := 11) rfl (fun b => m_J22_hasNext hl (some b)) q411 q413 q412 (by decide) q415 q417 q418 q416 q414 q139 q419 nx_java_util_Iterator_hasNext___Z ⟨by decide, by decide⟩ (Nat.le_of_ble_eq_true rfl) dX7_init_67) (zv_I fun v67 => ?_) (fun q => zx_thr x (fun z hz => (htab z hz).elim) q)
    refine z_if_eq (pc := 72) (tgt := 103) x dX7_init_72 rfl (fun _ => ?_) (fun _ => ?_)
    · refine z_goto (pc := 103) (tgt := 35) x dX7_init_103 rfl ?_
      exact z_sub [0, 1] rfl (h35 a0 a2)
    · refine z_aload (pc := 75) x 3 dX7_init_75 rfl ?_
      refine z_call (pc := 77) (z_canIF (pc := 77) (As := []) (st := []) (x9 := ⟨"java/util/Iterator", "next", "()Ljava/lang/Object;"⟩) x (ci := 11) rfl (fun b => m_J22_next hl (some b)) q421 q423 q422 (by decide) q424 q426 q427 q425 q414 q139 q428 nx_java_util_Iterator_next___Ljava_lang_Object_ ⟨by decide, by decide⟩ (Nat.le_of_ble_eq_true rfl) dX7_init_77) (zv_R fun v77 => ?_) (fun q => zx_thr x (fun z hz => (htab z hz).elim) q)
      refine z_cst (pc := 82) x (tg := 12) rfl q505 dX7_init_82 ?_
      refine z_astore (pc := 85) (lv' := [(5, zP v77), (0, zP a0), (2, zP a2), (3, zP a3), (4, zP a4)]) x dX7_init_85 (Nat.le_of_ble_eq_true rfl) rfl ?_
      refine z_aload_n (pc := 87) x 1 dX7_init_87 rfl rfl ?_
      refine z_aload_n (pc := 88) x 3 dX7_init_88 rfl rfl ?_
      refine z_getN (pc := 89) (fun _ _ h => zAsR_eq h) x in_X25 (ci := 31) rfl (k := 0) (by decide) q2493 (fun _ h => h) dX7_init_89 fun v89 => ?_
      refine z_getN (pc := 92) (fun _ _ h => zAsI_eq h) x in_X9 (ci := 37) rfl (k := 0) (by decide) q2359 (fun _ h => h) dX7_init_92 fun v92 => ?_
      refine z_aload (pc := 95) x 0 dX7_init_95 rfl ?_
      refine z_call (pc := 97) (z_canV (pc := 97) (As := [zI v92, zP v77]) (st := []) x (ci := 35) rfl (fun b => m_X7_add hl (some b) v92 v77) q506 q508 (z_selP x (ci := 35) rfl (by decide) (zNi_inst x q373) q507 q508) q138 q509 n_X7_add ⟨by decide, by decide⟩ (Nat.le_of_ble_eq_true rfl) dX7_init_97) (zv_V ?_) (fun q => zx_thr x (fun z hz => (htab z hz).elim) q)
      refine z_goto (pc := 100) (tgt := 65) x dX7_init_100 rfl ?_
      exact z_sub [1, 2, 3, 4] rfl (h65 a0 a2 a3 a4)
def s_X7_init_35 (E : zE) : Nat → Option Nat → Option Nat → zM
  | 0, _, _ => zFail
  | n + 1, a0, a2 => zC (zRv a2 [(11, fun b => s_J22_hasNext E (some b))]) zThr (zKI (fun v36 => if v36 = 0 then (zRet none) else (zC (zRv a2 [(11, fun b => s_J22_next E (some b))]) zThr (zKR (fun v45 => zCsS 31 v45 (zGetR v45 31 1 (fun v55 => zC (zRv v55 [(10, fun b => s_J2_iterator E (some b))]) zThr (zKR (fun v58 => s_X7_init_65 E (s_X7_init_35 E n) zN a0 a2 v45 v58)))))))))
theorem w_X7_init_35 (x : zCx p l R s m args meth c E D tA cX7_init 6 yX7_init.cls 14) (hl : l.stackTraces = false) (hret : meth.sig.returnType = (Option.none : Option Jvm.ClassFile.FieldType)) (hnm : meth.name = yX7_init.name) (htab : ∀ z ∈ c.exceptionTable.toList, False) : ∀ (n : Nat) (a0 : Option Nat) (a2 : Option Nat), zW p l e R s m args below meth c E D tA 6 k0 (s_X7_init_35 E n a0 a2) [(0, zP a0), (2, zP a2)] 35 [] := by
  intro n
  induction n with
  | zero => intro a0 a2; exact z_fail
  | succ n h35 =>
    intro a0 a2
    rw [s_X7_init_35]
    refine z_aload_n (pc := 35) x 1 dX7_init_35 rfl rfl ?_
    refine z_call (pc := 36) (z_canIF (pc := 36) (As := []) (st := []) (x9 := ⟨"java/util/Iterator", "hasNext", "()Z"⟩) x (ci := 11) rfl (fun b => m_J22_hasNext hl (some b)) q411 q413 q412 (by decide) q415 q417 q418 q416 q414 q139 q419 nx_java_util_Iterator_hasNext___Z ⟨by decide, by decide⟩ (Nat.le_of_ble_eq_true rfl) dX7_init_36) (zv_I fun v36 => ?_) (fun q => zx_thr x (fun z hz => (htab z hz).elim) q)
    refine z_if_eq (pc := 41) (tgt := 106) x dX7_init_41 rfl (fun _ => ?_) (fun _ => ?_)
    · exact z_vret (pc := 106) x hret dX7_init_106
    · refine z_aload_n (pc := 44) x 1 dX7_init_44 rfl rfl ?_
      refine z_call (pc := 45) (z_canIF (pc := 45) (As := []) (st := []) (x9 := ⟨"java/util/Iterator", "next", "()Ljava/lang/Object;"⟩) x (ci := 11) rfl (fun b => m_J22_next hl (some b)) q421 q423 q422 (by decide) q424 q426 q427 q425 q414 q139 q428 nx_java_util_Iterator_next___Ljava_lang_Object_ ⟨by decide, by decide⟩ (Nat.le_of_ble_eq_true rfl) dX7_init_45) (zv_R fun v45 => ?_) (fun q => zx_thr x (fun z hz => (htab z hz).elim) q)
      refine z_csS (pc := 50) x (ci := 31) rfl q504 dX7_init_50 ?_
      refine z_astore_n (pc := 53) (lv' := [(3, zP v45), (0, zP a0), (2, zP a2)]) x dX7_init_53 rfl (Nat.le_of_ble_eq_true rfl) rfl ?_
      refine z_aload_n (pc := 54) x 0 dX7_init_54 rfl rfl ?_
      refine z_getN (pc := 55) (fun _ _ h => zAsR_eq h) x in_X25 (ci := 31) rfl (k := 1) (by decide) q2503 (fun _ h => h) dX7_init_55 fun v55 => ?_
      refine z_call (pc := 58) (z_canIF (pc := 58) (As := []) (st := []) (x9 := ⟨"java/util/List", "iterator", "()Ljava/util/Iterator;"⟩) x (ci := 10) rfl (fun b => m_J2_iterator hl (some b)) q381 q383 q382 (by decide) q385 q387 q388 q386 q384 q112 q389 nx_java_util_List_iterator___Ljava_util_Iterator_ ⟨by decide, by decide⟩ (Nat.le_of_ble_eq_true rfl) dX7_init_58) (zv_R fun v58 => ?_) (fun q => zx_thr x (fun z hz => (htab z hz).elim) q)
      refine z_astore (pc := 63) (lv' := [(4, zP v58), (3, zP v45), (0, zP a0), (2, zP a2)]) x dX7_init_63 (Nat.le_of_ble_eq_true rfl) rfl ?_
      exact z_sub [2, 3, 1, 0] rfl (w_X7_init_65 x hl hret hnm htab h35 zN a0 a2 v45 v58)
def s_X7_init (E : zE) (a0 : Option Nat) (a1 : Option Nat) : zM := zSp a0 (fun _ => zNewM 8 2 zAr0 (8 : Int32) (8 : Int32) (fun v9 => zSet E a0 35 0 (zVal (zP v9)) (zNewM 8 2 zAr0 (8 : Int32) (8 : Int32) (fun v21 => zSet E a0 35 1 (zVal (zP v21)) (zC (zRv a1 [(10, fun b => s_J2_iterator E (some b))]) zThr (zKR (fun v29 => s_X7_init_35 E zN a0 v29)))))))
theorem m_X7_init {l : Launch} {E : zE} {D : va_G} {tA : Nat → ClassId} (hl : l.stackTraces = false) (a0 : Option Nat) (a1 : Option Nat) : zMet l E D tA yX7_init (ws_ yX7_init cX7_init 6 (Option.none : Option Jvm.ClassFile.FieldType)) 14 (s_X7_init E a0 a1) [zP a0, zP a1] := by
  refine z_met hl (by decide +kernel) (by rw [zSl_len]; exact (Nat.le_of_ble_eq_true rfl)) fun p e R s m args below meth c k0 x hret hnm htab => ?_
  refine z_lv [(0, zP a0), (1, zP a1)] rfl ?_
  unfold s_X7_init
  refine z_aload_n (pc := 0) x 0 dX7_init_0 rfl rfl ?_
  refine z_objInit (pc := 1) x q377 q173 q174 (by omega) (zSum (k := 0) rfl (by omega)) dX7_init_1 ?_
  refine z_aload_n (pc := 4) x 0 dX7_init_4 rfl rfl ?_
  refine z_bipush (pc := 5) x (v := (8 : Int32)) dX7_init_5 rfl ?_
  refine z_bipush (pc := 7) x (v := (8 : Int32)) dX7_init_7 rfl ?_
  refine z_newM (pc := 9) x (t := 8) (t1 := 2) (ty := .boolean) rfl rfl (fun _ hc => hc) (by decide) rfl rfl q378 q379 q409 (fun _ _ => rfl) dX7_init_9 fun v9 => ?_
  refine z_setF (pc := 13) (v := zP v9) x in_X7 tyX7 tyX7_ok nmX7 (ci := 35) rfl (k := 0) (by decide) q594 (fun _ h => h) rfl hnm rfl (zfitR rfl _).1 (zfitR rfl _).2 dX7_init_13 ?_
  refine z_aload_n (pc := 16) x 0 dX7_init_16 rfl rfl ?_
  refine z_bipush (pc := 17) x (v := (8 : Int32)) dX7_init_17 rfl ?_
  refine z_bipush (pc := 19) x (v := (8 : Int32)) dX7_init_19 rfl ?_
  refine z_newM (pc := 21) x (t := 8) (t1 := 2) (ty := .boolean) rfl rfl (fun _ hc => hc) (by decide) rfl rfl q378 q379 q409 (fun _ _ => rfl) dX7_init_21 fun v21 => ?_
  refine z_setF (pc := 25) (v := zP v21) x in_X7 tyX7 tyX7_ok nmX7 (ci := 35) rfl (k := 1) (by decide) q595 (fun _ h => h) rfl hnm rfl (zfitR rfl _).1 (zfitR rfl _).2 dX7_init_25 ?_
  refine z_aload_n (pc := 28) x 1 dX7_init_28 rfl rfl ?_
  refine z_call (pc := 29) (z_canIF (pc := 29) (As := []) (st := []) (x9 := ⟨"java/util/List", "iterator", "()Ljava/util/Iterator;"⟩) x (ci := 10) rfl (fun b => m_J2_iterator hl (some b)) q381 q383 q382 (by decide) q385 q387 q388 q386 q384 q112 q389 nx_java_util_List_iterator___Ljava_util_Iterator_ ⟨by decide, by decide⟩ (Nat.le_of_ble_eq_true rfl) dX7_init_29) (zv_R fun v29 => ?_) (fun q => zx_thr x (fun z hz => (htab z hz).elim) q)
  refine z_astore_n (pc := 34) (lv' := [(2, zP v29), (0, zP a0), (1, zP a1)]) x dX7_init_34 rfl (Nat.le_of_ble_eq_true rfl) rfl ?_
  exact z_sub [1, 0] rfl (w_X7_init_35 x hl hret hnm htab zN a0 v29)
/-! X7_wantedLayer -/
def s_X7_wantedLayer_58 (E : zE) (k5 : Option Nat → Int32 → Option Nat → Int32 → Int32 → zM) (a0 : Option Nat) (a1 : Int32) (a2 : Option Nat) (a4 : Int32) (b0 : Int32) : zM := k5 a0 a1 a2 b0 (a4 + (1 : Int32))
theorem w_X7_wantedLayer_58 (x : zCx p l R s m args meth c E D tA cX7_wantedLayer 6 yX7_wantedLayer.cls 9) (hl : l.stackTraces = false) (hret : meth.sig.returnType = (Option.some Jvm.ClassFile.FieldType.int)) (hnm : meth.name = yX7_wantedLayer.name) (htab : ∀ z ∈ c.exceptionTable.toList, False) {k5 : Option Nat → Int32 → Option Nat → Int32 → Int32 → zM} (h5 : ∀ (a0 : Option Nat) (a1 : Int32) (a2 : Option Nat) (a3 : Int32) (a4 : Int32) , zW p l e R s m args below meth c E D tA 6 k0 (k5 a0 a1 a2 a3 a4) [(0, zP a0), (1, zI a1), (2, zP a2), (3, zI a3), (4, zI a4)] 5 []) (a0 : Option Nat) (a1 : Int32) (a2 : Option Nat) (a4 : Int32) (b0 : Int32) : zW p l e R s m args below meth c E D tA 6 k0 (s_X7_wantedLayer_58 E k5 a0 a1 a2 a4 b0) [(0, zP a0), (1, zI a1), (2, zP a2), (4, zI a4)] 58 [zI b0] := by
  unfold s_X7_wantedLayer_58
  refine z_istore_n (pc := 58) (lv' := [(3, zI b0), (0, zP a0), (1, zI a1), (2, zP a2), (4, zI a4)]) x dX7_wantedLayer_58 rfl (Nat.le_of_ble_eq_true rfl) rfl ?_
  refine z_iinc (pc := 59) (lv' := [(4, zI (a4 + (1 : Int32))), (3, zI b0), (0, zP a0), (1, zI a1), (2, zP a2)]) x (v2 := (a4 + (1 : Int32))) 4 dX7_wantedLayer_59 rfl rfl (Nat.le_of_ble_eq_true rfl) rfl ?_
  refine z_goto (pc := 62) (tgt := 5) x dX7_wantedLayer_62 rfl ?_
  exact z_sub [2, 3, 4, 1, 0] rfl (h5 a0 a1 a2 b0 (a4 + (1 : Int32)))
def s_X7_wantedLayer_33 (E : zE) (k5 : Option Nat → Int32 → Option Nat → Int32 → Int32 → zM) (a0 : Option Nat) (a1 : Int32) (a2 : Option Nat) (a3 : Int32) (a4 : Int32) (b0 : Int32) (b1 : Int32) : zM := zGetR a0 35 0 (fun v37 => zGaR 8 v37 a1 (fun v41 => zGaI 2 v41 a4 (fun v44 => if v44 = 0 then (s_X7_wantedLayer_58 E k5 a0 a1 a2 a4 a3) else (s_X7_wantedLayer_58 E k5 a0 a1 a2 a4 (if a3 < (b0 + b1) then (b0 + b1) else a3)))))
theorem w_X7_wantedLayer_33 (x : zCx p l R s m args meth c E D tA cX7_wantedLayer 6 yX7_wantedLayer.cls 9) (hl : l.stackTraces = false) (hret : meth.sig.returnType = (Option.some Jvm.ClassFile.FieldType.int)) (hnm : meth.name = yX7_wantedLayer.name) (htab : ∀ z ∈ c.exceptionTable.toList, False) {k5 : Option Nat → Int32 → Option Nat → Int32 → Int32 → zM} (h5 : ∀ (a0 : Option Nat) (a1 : Int32) (a2 : Option Nat) (a3 : Int32) (a4 : Int32) , zW p l e R s m args below meth c E D tA 6 k0 (k5 a0 a1 a2 a3 a4) [(0, zP a0), (1, zI a1), (2, zP a2), (3, zI a3), (4, zI a4)] 5 []) (a0 : Option Nat) (a1 : Int32) (a2 : Option Nat) (a3 : Int32) (a4 : Int32) (b0 : Int32) (b1 : Int32) : zW p l e R s m args below meth c E D tA 6 k0 (s_X7_wantedLayer_33 E k5 a0 a1 a2 a3 a4 b0 b1) [(0, zP a0), (1, zI a1), (2, zP a2), (3, zI a3), (4, zI a4)] 33 [zI b1, zI b0] := by
  unfold s_X7_wantedLayer_33
  refine z_iadd (pc := 33) x dX7_wantedLayer_33 ?_
  refine z_istore (pc := 34) (lv' := [(5, zI (b0 + b1)), (0, zP a0), (1, zI a1), (2, zP a2), (3, zI a3), (4, zI a4)]) x dX7_wantedLayer_34 (Nat.le_of_ble_eq_true rfl) rfl ?_
  refine z_aload_n (pc := 36) x 1 dX7_wantedLayer_36 rfl rfl ?_
  refine z_get (pc := 37) (fun _ _ h => zAsR_eq h) x in_X7 (ci := 35) rfl (k := 0) (by decide) q594 (fun _ h => h) dX7_wantedLayer_37 fun v37 => ?_
  refine z_iload_n (pc := 40) x 2 dX7_wantedLayer_40 rfl rfl ?_
  refine z_aald (pc := 41) x (t := 8) rfl rfl dX7_wantedLayer_41 fun v41 => ?_
  refine z_iload (pc := 42) x 5 dX7_wantedLayer_42 rfl ?_
  refine z_zald (pc := 44) x (t := 2) rfl dX7_wantedLayer_44 fun v44 => ?_
  refine z_if_eq (pc := 45) (tgt := 57) x dX7_wantedLayer_45 rfl (fun _ => ?_) (fun _ => ?_)
  · refine z_iload_n (pc := 57) x 4 dX7_wantedLayer_57 rfl rfl ?_
    exact z_sub [1, 2, 3, 5] rfl (w_X7_wantedLayer_58 x hl hret hnm htab h5 a0 a1 a2 a4 a3)
  · refine z_iload_n (pc := 48) x 4 dX7_wantedLayer_48 rfl rfl ?_
    refine z_iload (pc := 49) x 0 dX7_wantedLayer_49 rfl ?_
    refine z_mmax (pc := 51) x q609 q610 q130 q611 (by omega) (zSum (k := 0) rfl (by omega)) dX7_wantedLayer_51 ?_
    refine z_goto (pc := 54) (tgt := 58) x dX7_wantedLayer_54 rfl ?_
    exact z_sub [1, 2, 3, 5] rfl (w_X7_wantedLayer_58 x hl hret hnm htab h5 a0 a1 a2 a4 (if a3 < (b0 + b1) then (b0 + b1) else a3))
def s_X7_wantedLayer_5 (E : zE) : Nat → Option Nat → Int32 → Option Nat → Int32 → Int32 → zM
  | 0, _, _, _, _, _ => zFail
  | n + 1, a0, a1, a2, a3, a4 => if (8 : Int32) ≤ a4 then (zRet (some (.int a3))) else (zGaI 0 a2 a4 (fun v15 => zGetR a0 35 1 (fun v17 => zGaR 8 v17 a1 (fun v21 => zGaI 2 v21 a4 (fun v24 => if v24 = 0 then (s_X7_wantedLayer_33 E (s_X7_wantedLayer_5 E n) a0 a1 a2 a3 a4 v15 (0 : Int32)) else (s_X7_wantedLayer_33 E (s_X7_wantedLayer_5 E n) a0 a1 a2 a3 a4 v15 (1 : Int32)))))))
theorem w_X7_wantedLayer_5 (x : zCx p l R s m args meth c E D tA cX7_wantedLayer 6 yX7_wantedLayer.cls 9) (hl : l.stackTraces = false) (hret : meth.sig.returnType = (Option.some Jvm.ClassFile.FieldType.int)) (hnm : meth.name = yX7_wantedLayer.name) (htab : ∀ z ∈ c.exceptionTable.toList, False) : ∀ (n : Nat) (a0 : Option Nat) (a1 : Int32) (a2 : Option Nat) (a3 : Int32) (a4 : Int32), zW p l e R s m args below meth c E D tA 6 k0 (s_X7_wantedLayer_5 E n a0 a1 a2 a3 a4) [(0, zP a0), (1, zI a1), (2, zP a2), (3, zI a3), (4, zI a4)] 5 [] := by
  intro n
  induction n with
  | zero => intro a0 a1 a2 a3 a4; exact z_fail
  | succ n h5 =>
    intro a0 a1 a2 a3 a4
    rw [s_X7_wantedLayer_5]
    refine z_iload (pc := 5) x 4 dX7_wantedLayer_5 rfl ?_
    refine z_bipush (pc := 7) x (v := (8 : Int32)) dX7_wantedLayer_7 rfl ?_
    refine z_icmp_ge (pc := 9) (tgt := 65) x dX7_wantedLayer_9 rfl (fun _ => ?_) (fun _ => ?_)
    · refine z_iload_n (pc := 65) x 3 dX7_wantedLayer_65 rfl rfl ?_
      exact z_iret (pc := 66) x hret dX7_wantedLayer_66
    · refine z_aload_n (pc := 12) x 2 dX7_wantedLayer_12 rfl rfl ?_
      refine z_iload (pc := 13) x 4 dX7_wantedLayer_13 rfl ?_
      refine z_iald (pc := 15) x (t := 0) rfl dX7_wantedLayer_15 fun v15 => ?_
      refine z_aload_n (pc := 16) x 0 dX7_wantedLayer_16 rfl rfl ?_
      refine z_get (pc := 17) (fun _ _ h => zAsR_eq h) x in_X7 (ci := 35) rfl (k := 1) (by decide) q595 (fun _ h => h) dX7_wantedLayer_17 fun v17 => ?_
      refine z_iload_n (pc := 20) x 1 dX7_wantedLayer_20 rfl rfl ?_
      refine z_aald (pc := 21) x (t := 8) rfl rfl dX7_wantedLayer_21 fun v21 => ?_
      refine z_iload (pc := 22) x 4 dX7_wantedLayer_22 rfl ?_
      refine z_zald (pc := 24) x (t := 2) rfl dX7_wantedLayer_24 fun v24 => ?_
      refine z_if_eq (pc := 25) (tgt := 32) x dX7_wantedLayer_25 rfl (fun _ => ?_) (fun _ => ?_)
      · refine z_iconst (pc := 32) x (v := (0 : Int32)) dX7_wantedLayer_32 rfl ?_
        exact z_sub [0, 1, 2, 3, 4] rfl (w_X7_wantedLayer_33 x hl hret hnm htab h5 a0 a1 a2 a3 a4 v15 (0 : Int32))
      · refine z_iconst (pc := 28) x (v := (1 : Int32)) dX7_wantedLayer_28 rfl ?_
        refine z_goto (pc := 29) (tgt := 33) x dX7_wantedLayer_29 rfl ?_
        exact z_sub [0, 1, 2, 3, 4] rfl (w_X7_wantedLayer_33 x hl hret hnm htab h5 a0 a1 a2 a3 a4 v15 (1 : Int32))
def s_X7_wantedLayer (E : zE) (a0 : Option Nat) (a1 : Int32) (a2 : Option Nat) : zM := s_X7_wantedLayer_5 E zN a0 a1 a2 (0 : Int32) (0 : Int32)
theorem m_X7_wantedLayer {l : Launch} {E : zE} {D : va_G} {tA : Nat → ClassId} (hl : l.stackTraces = false) (a0 : Option Nat) (a1 : Int32) (a2 : Option Nat) : zMet l E D tA yX7_wantedLayer (ws_ yX7_wantedLayer cX7_wantedLayer 6 (Option.some Jvm.ClassFile.FieldType.int)) 9 (s_X7_wantedLayer E a0 a1 a2) [zP a0, zI a1, zP a2] := by
  refine z_met hl (by decide +kernel) (by rw [zSl_len]; exact (Nat.le_of_ble_eq_true rfl)) fun p e R s m args below meth c k0 x hret hnm htab => ?_
  refine z_lv [(0, zP a0), (1, zI a1), (2, zP a2)] rfl ?_
  unfold s_X7_wantedLayer
  refine z_iconst (pc := 0) x (v := (0 : Int32)) dX7_wantedLayer_0 rfl ?_
  refine z_istore_n (pc := 1) (lv' := [(3, zI (0 : Int32)), (0, zP a0), (1, zI a1), (2, zP a2)]) x dX7_wantedLayer_1 rfl (Nat.le_of_ble_eq_true rfl) rfl ?_
  refine z_iconst (pc := 2) x (v := (0 : Int32)) dX7_wantedLayer_2 rfl ?_
  refine z_istore (pc := 3) (lv' := [(4, zI (0 : Int32)), (3, zI (0 : Int32)), (0, zP a0), (1, zI a1), (2, zP a2)]) x dX7_wantedLayer_3 (Nat.le_of_ble_eq_true rfl) rfl ?_
  exact z_sub [2, 3, 4, 1, 0] rfl (w_X7_wantedLayer_5 x hl hret hnm htab zN a0 a1 a2 (0 : Int32) (0 : Int32))
/-! X7_layers -/
def s_X7_layers_50 (E : zE) (k7 : Option Nat → Option Nat → Int32 → zM) (k15 : Option Nat → Option Nat → Int32 → Int32 → zM) (a0 : Option Nat) (a1 : Option Nat) (a3 : Int32) (a4 : Int32) (b0 : Int32) (b1 : Int32) : zM := zGaI 0 a1 a3 (fun v56 => zSaI E 0 a1 a3 (if v56 < (if (8 : Int32) < a4 then (8 : Int32) else a4) then (if (8 : Int32) < a4 then (8 : Int32) else a4) else v56) (k15 a0 a1 (b0 ||| b1) (a3 + (1 : Int32))))
theorem w_X7_layers_50 (x : zCx p l R s m args meth c E D tA cX7_layers 5 yX7_layers.cls 10) (hl : l.stackTraces = false) (hret : meth.sig.returnType = (Option.some (Jvm.ClassFile.FieldType.array Jvm.ClassFile.FieldType.int))) (hnm : meth.name = yX7_layers.name) (htab : ∀ z ∈ c.exceptionTable.toList, False) {k7 : Option Nat → Option Nat → Int32 → zM} (h7 : ∀ (a0 : Option Nat) (a1 : Option Nat) (a2 : Int32) , zW p l e R s m args below meth c E D tA 5 k0 (k7 a0 a1 a2) [(0, zP a0), (1, zP a1), (2, zI a2)] 7 []) {k15 : Option Nat → Option Nat → Int32 → Int32 → zM} (h15 : ∀ (a0 : Option Nat) (a1 : Option Nat) (a2 : Int32) (a3 : Int32) , zW p l e R s m args below meth c E D tA 5 k0 (k15 a0 a1 a2 a3) [(0, zP a0), (1, zP a1), (2, zI a2), (3, zI a3)] 15 []) (a0 : Option Nat) (a1 : Option Nat) (a3 : Int32) (a4 : Int32) (b0 : Int32) (b1 : Int32) : zW p l e R s m args below meth c E D tA 5 k0 (s_X7_layers_50 E k7 k15 a0 a1 a3 a4 b0 b1) [(0, zP a0), (1, zP a1), (3, zI a3), (4, zI a4)] 50 [zI b1, zI b0] := by
  unfold s_X7_layers_50
  refine z_ior (pc := 50) x dX7_layers_50 ?_
  refine z_istore_n (pc := 51) (lv' := [(2, zI (b0 ||| b1)), (0, zP a0), (1, zP a1), (3, zI a3), (4, zI a4)]) x dX7_layers_51 rfl (Nat.le_of_ble_eq_true rfl) rfl ?_
  refine z_aload_n (pc := 52) x 2 dX7_layers_52 rfl rfl ?_
  refine z_iload_n (pc := 53) x 3 dX7_layers_53 rfl rfl ?_
  refine z_aload_n (pc := 54) x 2 dX7_layers_54 rfl rfl ?_
  refine z_iload_n (pc := 55) x 3 dX7_layers_55 rfl rfl ?_
  refine z_iald (pc := 56) x (t := 0) rfl dX7_layers_56 fun v56 => ?_
  refine z_iload (pc := 57) x 4 dX7_layers_57 rfl ?_
  refine z_bipush (pc := 59) x (v := (8 : Int32)) dX7_layers_59 rfl ?_
  refine z_mmin (pc := 61) x q612 q613 q130 q614 (by omega) (zSum (k := 3) rfl (by omega)) dX7_layers_61 ?_
  refine z_mmax (pc := 64) x q609 q610 q130 q611 (by omega) (zSum (k := 2) rfl (by omega)) dX7_layers_64 ?_
  refine z_iast (pc := 67) x (t := 0) rfl dX7_layers_67 ?_
  refine z_iinc (pc := 68) (lv' := [(3, zI (a3 + (1 : Int32))), (2, zI (b0 ||| b1)), (0, zP a0), (1, zP a1), (4, zI a4)]) x (v2 := (a3 + (1 : Int32))) 3 dX7_layers_68 rfl rfl (Nat.le_of_ble_eq_true rfl) rfl ?_
  refine z_goto (pc := 71) (tgt := 15) x dX7_layers_71 rfl ?_
  exact z_sub [2, 3, 1, 0] rfl (h15 a0 a1 (b0 ||| b1) (a3 + (1 : Int32)))
def s_X7_layers_49 (E : zE) (k7 : Option Nat → Option Nat → Int32 → zM) (k15 : Option Nat → Option Nat → Int32 → Int32 → zM) (a0 : Option Nat) (a1 : Option Nat) (a3 : Int32) (a4 : Int32) (b0 : Int32) : zM := s_X7_layers_50 E k7 k15 a0 a1 a3 a4 b0 (0 : Int32)
theorem w_X7_layers_49 (x : zCx p l R s m args meth c E D tA cX7_layers 5 yX7_layers.cls 10) (hl : l.stackTraces = false) (hret : meth.sig.returnType = (Option.some (Jvm.ClassFile.FieldType.array Jvm.ClassFile.FieldType.int))) (hnm : meth.name = yX7_layers.name) (htab : ∀ z ∈ c.exceptionTable.toList, False) {k7 : Option Nat → Option Nat → Int32 → zM} (h7 : ∀ (a0 : Option Nat) (a1 : Option Nat) (a2 : Int32) , zW p l e R s m args below meth c E D tA 5 k0 (k7 a0 a1 a2) [(0, zP a0), (1, zP a1), (2, zI a2)] 7 []) {k15 : Option Nat → Option Nat → Int32 → Int32 → zM} (h15 : ∀ (a0 : Option Nat) (a1 : Option Nat) (a2 : Int32) (a3 : Int32) , zW p l e R s m args below meth c E D tA 5 k0 (k15 a0 a1 a2 a3) [(0, zP a0), (1, zP a1), (2, zI a2), (3, zI a3)] 15 []) (a0 : Option Nat) (a1 : Option Nat) (a3 : Int32) (a4 : Int32) (b0 : Int32) : zW p l e R s m args below meth c E D tA 5 k0 (s_X7_layers_49 E k7 k15 a0 a1 a3 a4 b0) [(0, zP a0), (1, zP a1), (3, zI a3), (4, zI a4)] 49 [zI b0] := by
  unfold s_X7_layers_49
  refine z_iconst (pc := 49) x (v := (0 : Int32)) dX7_layers_49 rfl ?_
  exact z_sub [0, 1, 2, 3] rfl (w_X7_layers_50 x hl hret hnm htab h7 h15 a0 a1 a3 a4 b0 (0 : Int32))
def s_X7_layers_15 (E : zE) (k7 : Option Nat → Option Nat → Int32 → zM) : Nat → Option Nat → Option Nat → Int32 → Int32 → zM
  | 0, _, _, _, _ => zFail
  | n + 1, a0, a1, a2, a3 => if (8 : Int32) ≤ a3 then (k7 a0 a1 a2) else (zC (zRv a0 [(35, fun b => s_X7_wantedLayer E (some b) a3 a1)]) zThr (zKI (fun v24 => zGaI 0 a1 a3 (fun v34 => if v24 ≤ v34 then (s_X7_layers_49 E k7 (s_X7_layers_15 E k7 n) a0 a1 a3 v24 a2) else (if (8 : Int32) < v24 then (s_X7_layers_49 E k7 (s_X7_layers_15 E k7 n) a0 a1 a3 v24 a2) else (s_X7_layers_50 E k7 (s_X7_layers_15 E k7 n) a0 a1 a3 v24 a2 (1 : Int32)))))))
theorem w_X7_layers_15 (x : zCx p l R s m args meth c E D tA cX7_layers 5 yX7_layers.cls 10) (hl : l.stackTraces = false) (hret : meth.sig.returnType = (Option.some (Jvm.ClassFile.FieldType.array Jvm.ClassFile.FieldType.int))) (hnm : meth.name = yX7_layers.name) (htab : ∀ z ∈ c.exceptionTable.toList, False) {k7 : Option Nat → Option Nat → Int32 → zM} (h7 : ∀ (a0 : Option Nat) (a1 : Option Nat) (a2 : Int32) , zW p l e R s m args below meth c E D tA 5 k0 (k7 a0 a1 a2) [(0, zP a0), (1, zP a1), (2, zI a2)] 7 []) : ∀ (n : Nat) (a0 : Option Nat) (a1 : Option Nat) (a2 : Int32) (a3 : Int32), zW p l e R s m args below meth c E D tA 5 k0 (s_X7_layers_15 E k7 n a0 a1 a2 a3) [(0, zP a0), (1, zP a1), (2, zI a2), (3, zI a3)] 15 [] := by
  intro n
  induction n with
  | zero => intro a0 a1 a2 a3; exact z_fail
  | succ n h15 =>
    intro a0 a1 a2 a3
    rw [s_X7_layers_15]
    refine z_iload_n (pc := 15) x 3 dX7_layers_15 rfl rfl ?_
    refine z_bipush (pc := 16) x (v := (8 : Int32)) dX7_layers_16 rfl ?_
    refine z_icmp_ge (pc := 18) (tgt := 74) x dX7_layers_18 rfl (fun _ => ?_) (fun _ => ?_)
    · refine z_goto (pc := 74) (tgt := 7) x dX7_layers_74 rfl ?_
      exact z_sub [0, 1, 2] rfl (h7 a0 a1 a2)
    · refine z_aload_n (pc := 21) x 0 dX7_layers_21 rfl rfl ?_
      refine z_iload_n (pc := 22) x 3 dX7_layers_22 rfl rfl ?_
      refine z_aload_n (pc := 23) x 1 dX7_layers_23 rfl rfl ?_
      refine z_call (pc := 24) (z_canV (pc := 24) (As := [zI a3, zP a1]) (st := []) x (ci := 35) rfl (fun b => m_X7_wantedLayer hl (some b) a3 a1) q605 q607 (z_selP x (ci := 35) rfl (by decide) (zNi_inst x q373) q606 q607) q138 q608 n_X7_wantedLayer ⟨by decide, by decide⟩ (Nat.le_of_ble_eq_true rfl) dX7_layers_24) (zv_I fun v24 => ?_) (fun q => zx_thr x (fun z hz => (htab z hz).elim) q)
      refine z_istore (pc := 27) (lv' := [(4, zI v24), (0, zP a0), (1, zP a1), (2, zI a2), (3, zI a3)]) x dX7_layers_27 (Nat.le_of_ble_eq_true rfl) rfl ?_
      refine z_iload_n (pc := 29) x 3 dX7_layers_29 rfl rfl ?_
      refine z_iload (pc := 30) x 0 dX7_layers_30 rfl ?_
      refine z_aload_n (pc := 32) x 2 dX7_layers_32 rfl rfl ?_
      refine z_iload_n (pc := 33) x 4 dX7_layers_33 rfl rfl ?_
      refine z_iald (pc := 34) x (t := 0) rfl dX7_layers_34 fun v34 => ?_
      refine z_icmp_le (pc := 35) (tgt := 49) x dX7_layers_35 rfl (fun _ => ?_) (fun _ => ?_)
      · exact z_sub [1, 2, 4, 0] rfl (w_X7_layers_49 x hl hret hnm htab h7 h15 a0 a1 a3 v24 a2)
      · refine z_iload (pc := 38) x 0 dX7_layers_38 rfl ?_
        refine z_bipush (pc := 40) x (v := (8 : Int32)) dX7_layers_40 rfl ?_
        refine z_icmp_gt (pc := 42) (tgt := 49) x dX7_layers_42 rfl (fun _ => ?_) (fun _ => ?_)
        · exact z_sub [1, 2, 4, 0] rfl (w_X7_layers_49 x hl hret hnm htab h7 h15 a0 a1 a3 v24 a2)
        · refine z_iconst (pc := 45) x (v := (1 : Int32)) dX7_layers_45 rfl ?_
          refine z_goto (pc := 46) (tgt := 50) x dX7_layers_46 rfl ?_
          exact z_sub [1, 2, 4, 0] rfl (w_X7_layers_50 x hl hret hnm htab h7 h15 a0 a1 a3 v24 a2 (1 : Int32))
def s_X7_layers_7 (E : zE) : Nat → Option Nat → Option Nat → Int32 → zM
  | 0, _, _, _ => zFail
  | n + 1, a0, a1, a2 => if a2 = 0 then (zRet (some (va_rf a1))) else (s_X7_layers_15 E (s_X7_layers_7 E n) zN a0 a1 (0 : Int32) (0 : Int32))
theorem w_X7_layers_7 (x : zCx p l R s m args meth c E D tA cX7_layers 5 yX7_layers.cls 10) (hl : l.stackTraces = false) (hret : meth.sig.returnType = (Option.some (Jvm.ClassFile.FieldType.array Jvm.ClassFile.FieldType.int))) (hnm : meth.name = yX7_layers.name) (htab : ∀ z ∈ c.exceptionTable.toList, False) : ∀ (n : Nat) (a0 : Option Nat) (a1 : Option Nat) (a2 : Int32), zW p l e R s m args below meth c E D tA 5 k0 (s_X7_layers_7 E n a0 a1 a2) [(0, zP a0), (1, zP a1), (2, zI a2)] 7 [] := by
  intro n
  induction n with
  | zero => intro a0 a1 a2; exact z_fail
  | succ n h7 =>
    intro a0 a1 a2
    rw [s_X7_layers_7]
    refine z_iload_n (pc := 7) x 2 dX7_layers_7 rfl rfl ?_
    refine z_if_eq (pc := 8) (tgt := 77) x dX7_layers_8 rfl (fun _ => ?_) (fun _ => ?_)
    · refine z_aload_n (pc := 77) x 1 dX7_layers_77 rfl rfl ?_
      exact z_aret (pc := 78) x hret (Or.inr ⟨_, rfl⟩) dX7_layers_78
    · refine z_iconst (pc := 11) x (v := (0 : Int32)) dX7_layers_11 rfl ?_
      refine z_istore_n (pc := 12) (lv' := [(2, zI (0 : Int32)), (0, zP a0), (1, zP a1)]) x dX7_layers_12 rfl (Nat.le_of_ble_eq_true rfl) rfl ?_
      refine z_iconst (pc := 13) x (v := (0 : Int32)) dX7_layers_13 rfl ?_
      refine z_istore_n (pc := 14) (lv' := [(3, zI (0 : Int32)), (2, zI (0 : Int32)), (0, zP a0), (1, zP a1)]) x dX7_layers_14 rfl (Nat.le_of_ble_eq_true rfl) rfl ?_
      exact z_sub [2, 3, 1, 0] rfl (w_X7_layers_15 x hl hret hnm htab h7 zN a0 a1 (0 : Int32) (0 : Int32))
def s_X7_layers (E : zE) (a0 : Option Nat) : zM := zNewA 0 zAr0 (8 : Int32) (fun v2 => s_X7_layers_7 E zN a0 v2 (1 : Int32))
theorem m_X7_layers {l : Launch} {E : zE} {D : va_G} {tA : Nat → ClassId} (hl : l.stackTraces = false) (a0 : Option Nat) : zMet l E D tA yX7_layers (ws_ yX7_layers cX7_layers 5 (Option.some (Jvm.ClassFile.FieldType.array Jvm.ClassFile.FieldType.int))) 10 (s_X7_layers E a0) [zP a0] := by
  refine z_met hl (by decide +kernel) (by rw [zSl_len]; exact (Nat.le_of_ble_eq_true rfl)) fun p e R s m args below meth c k0 x hret hnm htab => ?_
  refine z_lv [(0, zP a0)] rfl ?_
  unfold s_X7_layers
  refine z_bipush (pc := 0) x (v := (8 : Int32)) dX7_layers_0 rfl ?_
  refine z_newA (pc := 2) x (ty := .int) rfl (by decide) rfl q240 (fun _ _ => rfl) dX7_layers_2 fun v2 => ?_
  refine z_astore_n (pc := 4) (lv' := [(1, zP v2), (0, zP a0)]) x dX7_layers_4 rfl (Nat.le_of_ble_eq_true rfl) rfl ?_
  refine z_iconst (pc := 5) x (v := (1 : Int32)) dX7_layers_5 rfl ?_
  refine z_istore_n (pc := 6) (lv' := [(2, zI (1 : Int32)), (1, zP v2), (0, zP a0)]) x dX7_layers_6 rfl (Nat.le_of_ble_eq_true rfl) rfl ?_
  exact z_sub [2, 1, 0] rfl (w_X7_layers_7 x hl hret hnm htab zN a0 v2 (1 : Int32))
/-! X8_init -/
def s_X8_init (E : zE) (a0 : Option Nat) (a1 : Option Nat) : zM := zSp a0 (fun _ => zNew 32 1 [.null] (fun v5 => zC (zSp v5 (fun b => s_X4_init_2 E (some b) a1)) zThr (zKV (zSet E a0 36 0 (zVal (zP v5)) (zRet none)))))
theorem m_X8_init {l : Launch} {E : zE} {D : va_G} {tA : Nat → ClassId} (hl : l.stackTraces = false) (a0 : Option Nat) (a1 : Option Nat) : zMet l E D tA yX8_init (ws_ yX8_init cX8_init 2 (Option.none : Option Jvm.ClassFile.FieldType)) 11 (s_X8_init E a0 a1) [zP a0, zP a1] := by
  refine z_met hl (by decide +kernel) (by rw [zSl_len]; exact (Nat.le_of_ble_eq_true rfl)) fun p e R s m args below meth c k0 x hret hnm htab => ?_
  refine z_lv [(0, zP a0), (1, zP a1)] rfl ?_
  unfold s_X8_init
  refine z_aload_n (pc := 0) x 0 dX8_init_0 rfl rfl ?_
  refine z_objInit (pc := 1) x q620 q173 q174 (by omega) (zSum (k := 0) rfl (by omega)) dX8_init_1 ?_
  refine z_aload_n (pc := 4) x 0 dX8_init_4 rfl rfl ?_
  refine z_new (pc := 5) x in_X4 tyX4 tyX4_ok q621 q224 q114 (ci := 32) rfl (by decide) (by decide +kernel) dX8_init_5 fun v5 => ?_
  refine z_dup (pc := 8) x dX8_init_8 rfl ?_
  refine z_aload_n (pc := 9) x 1 dX8_init_9 rfl rfl ?_
  refine z_call (pc := 10) (z_canI (pc := 10) (ret := none) (As := [zP a1]) (st := [zP v5, zP a0]) x (fun b => m_X4_init_2 hl (some b) a1) q622 rfl q623 q114 q624 n_X4_init_2 ⟨by decide, by decide⟩ (Nat.le_of_ble_eq_true rfl) dX8_init_10) (zv_V ?_) (fun q => zx_thr x (fun z hz => (htab z hz).elim) q)
  refine z_setF (pc := 13) (v := zP v5) x in_X8 tyX8 tyX8_ok nmX8 (ci := 36) rfl (k := 0) (by decide) q635 (fun _ h => h) rfl hnm rfl (zfitR rfl _).1 (zfitR rfl _).2 dX8_init_13 ?_
  exact z_vret (pc := 16) x hret dX8_init_16
/-! J2_grow -/
def s_J2_grow (E : zE) (a0 : Option Nat) : zM := zGetI a0 10 2 (fun v2 => zC (zRv a0 [(10, fun b => s_J2_grow_2 E (some b) (v2 + (1 : Int32)))]) zThr (zKR (fun v7 => zRet (some (va_rf v7)))))
theorem m_J2_grow {l : Launch} {E : zE} {D : va_G} {tA : Nat → ClassId} (hl : l.stackTraces = false) (a0 : Option Nat) : zMet l E D tA yJ2_grow (ws_ yJ2_grow cJ2_grow 1 (Option.some (Jvm.ClassFile.FieldType.array (Jvm.ClassFile.FieldType.object "java/lang/Object")))) 12 (s_J2_grow E a0) [zP a0] := by
  refine z_met hl (by decide +kernel) (by rw [zSl_len]; exact (Nat.le_of_ble_eq_true rfl)) fun p e R s m args below meth c k0 x hret hnm htab => ?_
  refine z_lv [(0, zP a0)] rfl ?_
  unfold s_J2_grow
  refine z_aload_n (pc := 0) x 0 dJ2_grow_0 rfl rfl ?_
  refine z_aload_n (pc := 1) x 0 dJ2_grow_1 rfl rfl ?_
  refine z_get (pc := 2) (fun _ _ h => zAsI_eq h) x in_J2 (ci := 10) rfl (k := 2) (by decide) q198 (fun _ h => h) dJ2_grow_2 fun v2 => ?_
  refine z_iconst (pc := 5) x (v := (1 : Int32)) dJ2_grow_5 rfl ?_
  refine z_iadd (pc := 6) x dJ2_grow_6 ?_
  refine z_call (pc := 7) (z_canV (pc := 7) (As := [zI (v2 + (1 : Int32))]) (st := []) x (ci := 10) rfl (fun b => m_J2_grow_2 hl (some b) (v2 + (1 : Int32))) q674 q676 (z_selP x (ci := 10) rfl (by decide) (zNi_inst x q182) q675 q676) q112 q677 n_J2_grow_2 ⟨by decide, by decide⟩ (Nat.le_of_ble_eq_true rfl) dJ2_grow_7) (zv_R fun v7 => ?_) (fun q => zx_thr x (fun z hz => (htab z hz).elim) q)
  exact z_aret (pc := 10) x hret (Or.inr ⟨_, rfl⟩) dJ2_grow_10
/-! J2_add_2 -/
def s_J2_add_2_11 (E : zE) (a0 : Option Nat) (a1 : Option Nat) (a2 : Option Nat) (a3 : Int32) : zM := zSaR E 5 1 a2 a3 a1 (zSet E a0 10 2 (zVal (zI (a3 + (1 : Int32)))) (zRet none))
theorem w_J2_add_2_11 (x : zCx p l R s m args meth c E D tA cJ2_add_2 4 yJ2_add_2.cls 13) (hl : l.stackTraces = false) (hret : meth.sig.returnType = (Option.none : Option Jvm.ClassFile.FieldType)) (hnm : meth.name = yJ2_add_2.name) (htab : ∀ z ∈ c.exceptionTable.toList, False) (a0 : Option Nat) (a1 : Option Nat) (a2 : Option Nat) (a3 : Int32) : zW p l e R s m args below meth c E D tA 4 k0 (s_J2_add_2_11 E a0 a1 a2 a3) [(0, zP a0), (1, zP a1), (2, zP a2), (3, zI a3)] 11 [] := by
  unfold s_J2_add_2_11
  refine z_aload_n (pc := 11) x 2 dJ2_add_2_11 rfl rfl ?_
  refine z_iload_n (pc := 12) x 3 dJ2_add_2_12 rfl rfl ?_
  refine z_aload_n (pc := 13) x 1 dJ2_add_2_13 rfl rfl ?_
  refine z_aast (pc := 14) x (t := 5) (tg := 1) rfl rfl dJ2_add_2_14 ?_
  refine z_aload_n (pc := 15) x 0 dJ2_add_2_15 rfl rfl ?_
  refine z_iload_n (pc := 16) x 3 dJ2_add_2_16 rfl rfl ?_
  refine z_iconst (pc := 17) x (v := (1 : Int32)) dJ2_add_2_17 rfl ?_
  refine z_iadd (pc := 18) x dJ2_add_2_18 ?_
  refine z_set (pc := 19) (v := zI (a3 + (1 : Int32))) x in_J2 tyJ2 tyJ2_ok nmJ2 (ci := 10) rfl (k := 2) (by decide) q198 (fun _ h => h) rfl rfl rfl dJ2_add_2_19 ?_
  exact z_vret (pc := 22) x hret dJ2_add_2_22
def s_J2_add_2 (E : zE) (a0 : Option Nat) (a1 : Option Nat) (a2 : Option Nat) (a3 : Int32) : zM := zLen a2 (fun v2 => if a3 = v2 then (zC (zRv a0 [(10, fun b => s_J2_grow E (some b))]) zThr (zKR (fun v7 => s_J2_add_2_11 E a0 a1 v7 a3))) else (s_J2_add_2_11 E a0 a1 a2 a3))
theorem m_J2_add_2 {l : Launch} {E : zE} {D : va_G} {tA : Nat → ClassId} (hl : l.stackTraces = false) (a0 : Option Nat) (a1 : Option Nat) (a2 : Option Nat) (a3 : Int32) : zMet l E D tA yJ2_add_2 (ws_ yJ2_add_2 cJ2_add_2 4 (Option.none : Option Jvm.ClassFile.FieldType)) 13 (s_J2_add_2 E a0 a1 a2 a3) [zP a0, zP a1, zP a2, zI a3] := by
  refine z_met hl (by decide +kernel) (by rw [zSl_len]; exact (Nat.le_of_ble_eq_true rfl)) fun p e R s m args below meth c k0 x hret hnm htab => ?_
  refine z_lv [(0, zP a0), (1, zP a1), (2, zP a2), (3, zI a3)] rfl ?_
  unfold s_J2_add_2
  refine z_iload_n (pc := 0) x 3 dJ2_add_2_0 rfl rfl ?_
  refine z_aload_n (pc := 1) x 2 dJ2_add_2_1 rfl rfl ?_
  refine z_len (pc := 2) x dJ2_add_2_2 fun v2 => ?_
  refine z_icmp_ne (pc := 3) (tgt := 11) x dJ2_add_2_3 rfl (fun _ => ?_) (fun _ => ?_)
  · refine z_aload_n (pc := 6) x 0 dJ2_add_2_6 rfl rfl ?_
    refine z_call (pc := 7) (z_canV (pc := 7) (As := []) (st := []) x (ci := 10) rfl (fun b => m_J2_grow hl (some b)) q670 q672 (z_selP x (ci := 10) rfl (by decide) (zNi_inst x q182) q671 q672) q112 q673 n_J2_grow ⟨by decide, by decide⟩ (Nat.le_of_ble_eq_true rfl) dJ2_add_2_7) (zv_R fun v7 => ?_) (fun q => zx_thr x (fun z hz => (htab z hz).elim) q)
    refine z_astore_n (pc := 10) (lv' := [(2, zP v7), (0, zP a0), (1, zP a1), (3, zI a3)]) x dJ2_add_2_10 rfl (Nat.le_of_ble_eq_true rfl) rfl ?_
    exact z_sub [1, 2, 0, 3] rfl (w_J2_add_2_11 x hl hret hnm htab a0 a1 v7 a3)
  · exact z_sub [0, 1, 2, 3] rfl (w_J2_add_2_11 x hl hret hnm htab a0 a1 a2 a3)
/-! J2_add -/
def s_J2_add (E : zE) (a0 : Option Nat) (a1 : Option Nat) : zM := zGetI a0 10 0 (fun v2 => zSet E a0 10 0 (zVal (zI (v2 + (1 : Int32)))) (zGetR a0 10 1 (fun v13 => zGetI a0 10 2 (fun v17 => zC (zRv a0 [(10, fun b => s_J2_add_2 E (some b) a1 v13 v17)]) zThr (zKV (zRetN .boolean (1 : Int32)))))))
theorem m_J2_add {l : Launch} {E : zE} {D : va_G} {tA : Nat → ClassId} (hl : l.stackTraces = false) (a0 : Option Nat) (a1 : Option Nat) : zMet l E D tA yJ2_add (ws_ yJ2_add cJ2_add 2 (Option.some Jvm.ClassFile.FieldType.boolean)) 14 (s_J2_add E a0 a1) [zP a0, zP a1] := by
  refine z_met hl (by decide +kernel) (by rw [zSl_len]; exact (Nat.le_of_ble_eq_true rfl)) fun p e R s m args below meth c k0 x hret hnm htab => ?_
  refine z_lv [(0, zP a0), (1, zP a1)] rfl ?_
  unfold s_J2_add
  refine z_aload_n (pc := 0) x 0 dJ2_add_0 rfl rfl ?_
  refine z_dup (pc := 1) x dJ2_add_1 rfl ?_
  refine z_get (pc := 2) (fun _ _ h => zAsI_eq h) x in_J2 (ci := 10) rfl (k := 0) (by decide) q202 (fun y h => u_same (x.2.2.2.2.1 _ q201) y h) dJ2_add_2 fun v2 => ?_
  refine z_iconst (pc := 5) x (v := (1 : Int32)) dJ2_add_5 rfl ?_
  refine z_iadd (pc := 6) x dJ2_add_6 ?_
  refine z_set (pc := 7) (v := zI (v2 + (1 : Int32))) x in_J2 tyJ2 tyJ2_ok nmJ2 (ci := 10) rfl (k := 0) (by decide) q202 (fun y h => u_same (x.2.2.2.2.1 _ q201) y h) rfl rfl rfl dJ2_add_7 ?_
  refine z_aload_n (pc := 10) x 0 dJ2_add_10 rfl rfl ?_
  refine z_aload_n (pc := 11) x 1 dJ2_add_11 rfl rfl ?_
  refine z_aload_n (pc := 12) x 0 dJ2_add_12 rfl rfl ?_
  refine z_get (pc := 13) (fun _ _ h => zAsR_eq h) x in_J2 (ci := 10) rfl (k := 1) (by decide) q195 (fun _ h => h) dJ2_add_13 fun v13 => ?_
  refine z_aload_n (pc := 16) x 0 dJ2_add_16 rfl rfl ?_
  refine z_get (pc := 17) (fun _ _ h => zAsI_eq h) x in_J2 (ci := 10) rfl (k := 2) (by decide) q198 (fun _ h => h) dJ2_add_17 fun v17 => ?_
  refine z_call (pc := 20) (z_canV (pc := 20) (As := [zP a1, zP v13, zI v17]) (st := []) x (ci := 10) rfl (fun b => m_J2_add_2 hl (some b) a1 v13 v17) q666 q668 (z_selP x (ci := 10) rfl (by decide) (zNi_inst x q182) q667 q668) q112 q669 n_J2_add_2 ⟨by decide, by decide⟩ (Nat.le_of_ble_eq_true rfl) dJ2_add_20) (zv_V ?_) (fun q => zx_thr x (fun z hz => (htab z hz).elim) q)
  refine z_iconst (pc := 23) x (v := (1 : Int32)) dJ2_add_23 rfl ?_
  exact z_zret (pc := 24) x hret dJ2_add_24
/-! X2_rulesOf -/
def s_X2_rulesOf_64 (E : zE) (k19 : Int32 → Option Nat → Option Nat → Option Nat → zM) (a1 : Int32) (a2 : Option Nat) (a3 : Option Nat) (a4 : Option Nat) : zM := k19 a1 a2 a3 a4
theorem w_X2_rulesOf_64 (x : zCx p l R s m args meth c E D tA cX2_rulesOf 6 yX2_rulesOf.cls 15) (hl : l.stackTraces = false) (hret : meth.sig.returnType = (Option.some (Jvm.ClassFile.FieldType.object "java/util/List"))) (hnm : meth.name = yX2_rulesOf.name) (htab : ∀ z ∈ c.exceptionTable.toList, False) {k19 : Int32 → Option Nat → Option Nat → Option Nat → zM} (h19 : ∀ (a1 : Int32) (a2 : Option Nat) (a3 : Option Nat) (a4 : Option Nat) , zW p l e R s m args below meth c E D tA 6 k0 (k19 a1 a2 a3 a4) [(1, zI a1), (2, zP a2), (3, zP a3), (4, zP a4)] 19 []) (a1 : Int32) (a2 : Option Nat) (a3 : Option Nat) (a4 : Option Nat) : zW p l e R s m args below meth c E D tA 6 k0 (s_X2_rulesOf_64 E k19 a1 a2 a3 a4) [(1, zI a1), (2, zP a2), (3, zP a3), (4, zP a4)] 64 [] := by
  unfold s_X2_rulesOf_64
  refine z_goto (pc := 64) (tgt := 19) x dX2_rulesOf_64 rfl ?_
  exact z_sub [0, 1, 2, 3] rfl (h19 a1 a2 a3 a4)
def s_X2_rulesOf_19 (E : zE) : Nat → Int32 → Option Nat → Option Nat → Option Nat → zM
  | 0, _, _, _, _ => zFail
  | n + 1, a1, a2, a3, a4 => zC (zRv a4 [(11, fun b => s_J22_hasNext E (some b))]) zThr (zKI (fun v21 => if v21 = 0 then (zRet (some (va_rf a3))) else (zC (zRv a4 [(11, fun b => s_J22_next E (some b))]) zThr (zKR (fun v31 => zCsS 31 v31 (zGetR v31 31 0 (fun v44 => zGetI v44 37 0 (fun v47 => zGaI 0 a2 v47 (fun v50 => if v50 = a1 then (zC (zRv a3 [(10, fun b => s_J2_add E (some b) v31)]) zThr (zKI (fun v58 => s_X2_rulesOf_64 E (s_X2_rulesOf_19 E n) a1 a2 a3 a4))) else (s_X2_rulesOf_64 E (s_X2_rulesOf_19 E n) a1 a2 a3 a4))))))))))
theorem w_X2_rulesOf_19 (x : zCx p l R s m args meth c E D tA cX2_rulesOf 6 yX2_rulesOf.cls 15) (hl : l.stackTraces = false) (hret : meth.sig.returnType = (Option.some (Jvm.ClassFile.FieldType.object "java/util/List"))) (hnm : meth.name = yX2_rulesOf.name) (htab : ∀ z ∈ c.exceptionTable.toList, False) : ∀ (n : Nat) (a1 : Int32) (a2 : Option Nat) (a3 : Option Nat) (a4 : Option Nat), zW p l e R s m args below meth c E D tA 6 k0 (s_X2_rulesOf_19 E n a1 a2 a3 a4) [(1, zI a1), (2, zP a2), (3, zP a3), (4, zP a4)] 19 [] := by
  intro n
  induction n with
  | zero => intro a1 a2 a3 a4; exact z_fail
  | succ n h19 =>
    intro a1 a2 a3 a4
    rw [s_X2_rulesOf_19]
    refine z_aload (pc := 19) x 3 dX2_rulesOf_19 rfl ?_
    refine z_call (pc := 21) (z_canIF (pc := 21) (As := []) (st := []) (x9 := ⟨"java/util/Iterator", "hasNext", "()Z"⟩) x (ci := 11) rfl (fun b => m_J22_hasNext hl (some b)) q653 q413 q412 (by decide) q415 q417 q418 q416 q414 q139 q419 nx_java_util_Iterator_hasNext___Z ⟨by decide, by decide⟩ (Nat.le_of_ble_eq_true rfl) dX2_rulesOf_21) (zv_I fun v21 => ?_) (fun q => zx_thr x (fun z hz => (htab z hz).elim) q)
    refine z_if_eq (pc := 26) (tgt := 67) x dX2_rulesOf_26 rfl (fun _ => ?_) (fun _ => ?_)
    · refine z_aload_n (pc := 67) x 2 dX2_rulesOf_67 rfl rfl ?_
      exact z_aret (pc := 68) x hret (Or.inl ⟨_, rfl⟩) dX2_rulesOf_68
    · refine z_aload (pc := 29) x 3 dX2_rulesOf_29 rfl ?_
      refine z_call (pc := 31) (z_canIF (pc := 31) (As := []) (st := []) (x9 := ⟨"java/util/Iterator", "next", "()Ljava/lang/Object;"⟩) x (ci := 11) rfl (fun b => m_J22_next hl (some b)) q655 q423 q422 (by decide) q424 q426 q427 q425 q414 q139 q428 nx_java_util_Iterator_next___Ljava_lang_Object_ ⟨by decide, by decide⟩ (Nat.le_of_ble_eq_true rfl) dX2_rulesOf_31) (zv_R fun v31 => ?_) (fun q => zx_thr x (fun z hz => (htab z hz).elim) q)
      refine z_csS (pc := 36) x (ci := 31) rfl q656 dX2_rulesOf_36 ?_
      refine z_astore (pc := 39) (lv' := [(5, zP v31), (1, zI a1), (2, zP a2), (3, zP a3), (4, zP a4)]) x dX2_rulesOf_39 (Nat.le_of_ble_eq_true rfl) rfl ?_
      refine z_aload_n (pc := 41) x 2 dX2_rulesOf_41 rfl rfl ?_
      refine z_aload (pc := 42) x 0 dX2_rulesOf_42 rfl ?_
      refine z_getN (pc := 44) (fun _ _ h => zAsR_eq h) x in_X25 (ci := 31) rfl (k := 0) (by decide) q2499 (fun _ h => h) dX2_rulesOf_44 fun v44 => ?_
      refine z_getN (pc := 47) (fun _ _ h => zAsI_eq h) x in_X9 (ci := 37) rfl (k := 0) (by decide) q2367 (fun _ h => h) dX2_rulesOf_47 fun v47 => ?_
      refine z_iald (pc := 50) x (t := 0) rfl dX2_rulesOf_50 fun v50 => ?_
      refine z_iload_n (pc := 51) x 1 dX2_rulesOf_51 rfl rfl ?_
      refine z_icmp_ne (pc := 52) (tgt := 64) x dX2_rulesOf_52 rfl (fun _ => ?_) (fun _ => ?_)
      · refine z_aload_n (pc := 55) x 3 dX2_rulesOf_55 rfl rfl ?_
        refine z_aload (pc := 56) x 0 dX2_rulesOf_56 rfl ?_
        refine z_call (pc := 58) (z_canIF (pc := 58) (As := [zP v31]) (st := []) (x9 := ⟨"java/util/List", "add", "(Ljava/lang/Object;)Z"⟩) x (ci := 10) rfl (fun b => m_J2_add hl (some b) v31) q658 q660 q659 (by decide) q661 q663 q664 q662 q384 q112 q665 nx_java_util_List_add__Ljava_lang_Object__Z ⟨by decide, by decide⟩ (Nat.le_of_ble_eq_true rfl) dX2_rulesOf_58) (zv_I fun v58 => ?_) (fun q => zx_thr x (fun z hz => (htab z hz).elim) q)
        refine z_pop (pc := 63) x dX2_rulesOf_63 rfl ?_
        exact z_sub [1, 2, 3, 4] rfl (w_X2_rulesOf_64 x hl hret hnm htab h19 a1 a2 a3 a4)
      · exact z_sub [1, 2, 3, 4] rfl (w_X2_rulesOf_64 x hl hret hnm htab h19 a1 a2 a3 a4)
def s_X2_rulesOf (E : zE) (a0 : Option Nat) (a1 : Int32) (a2 : Option Nat) : zM := zNew 10 3 [.int 0, .null, .int 0] (fun v0 => zC (zSp v0 (fun b => s_J2_init E (some b))) zThr (zKV (zGetR a0 26 1 (fun v9 => zC (zRv v9 [(10, fun b => s_J2_iterator E (some b))]) zThr (zKR (fun v12 => s_X2_rulesOf_19 E zN a1 a2 v0 v12))))))
theorem m_X2_rulesOf {l : Launch} {E : zE} {D : va_G} {tA : Nat → ClassId} (hl : l.stackTraces = false) (a0 : Option Nat) (a1 : Int32) (a2 : Option Nat) : zMet l E D tA yX2_rulesOf (ws_ yX2_rulesOf cX2_rulesOf 6 (Option.some (Jvm.ClassFile.FieldType.object "java/util/List"))) 15 (s_X2_rulesOf E a0 a1 a2) [zP a0, zI a1, zP a2] := by
  refine z_met hl (by decide +kernel) (by rw [zSl_len]; exact (Nat.le_of_ble_eq_true rfl)) fun p e R s m args below meth c k0 x hret hnm htab => ?_
  refine z_lv [(0, zP a0), (1, zI a1), (2, zP a2)] rfl ?_
  unfold s_X2_rulesOf
  refine z_new (pc := 0) x in_J2 tyJ2 tyJ2_ok q181 q182 q112 (ci := 10) rfl (by decide) (by decide +kernel) dX2_rulesOf_0 fun v0 => ?_
  refine z_dup (pc := 3) x dX2_rulesOf_3 rfl ?_
  refine z_call (pc := 4) (z_canI (pc := 4) (ret := none) (As := []) (st := [zP v0]) x (fun b => m_J2_init hl (some b)) q183 rfl q184 q112 q185 n_J2_init ⟨by decide, by decide⟩ (Nat.le_of_ble_eq_true rfl) dX2_rulesOf_4) (zv_V ?_) (fun q => zx_thr x (fun z hz => (htab z hz).elim) q)
  refine z_astore_n (pc := 7) (lv' := [(3, zP v0), (0, zP a0), (1, zI a1), (2, zP a2)]) x dX2_rulesOf_7 rfl (Nat.le_of_ble_eq_true rfl) rfl ?_
  refine z_aload_n (pc := 8) x 1 dX2_rulesOf_8 rfl rfl ?_
  refine z_get (pc := 9) (fun _ _ h => zAsR_eq h) x in_X2 (ci := 26) rfl (k := 1) (by decide) q252 (fun _ h => h) dX2_rulesOf_9 fun v9 => ?_
  refine z_call (pc := 12) (z_canIF (pc := 12) (As := []) (st := []) (x9 := ⟨"java/util/List", "iterator", "()Ljava/util/Iterator;"⟩) x (ci := 10) rfl (fun b => m_J2_iterator hl (some b)) q651 q383 q382 (by decide) q385 q387 q388 q386 q384 q112 q389 nx_java_util_List_iterator___Ljava_util_Iterator_ ⟨by decide, by decide⟩ (Nat.le_of_ble_eq_true rfl) dX2_rulesOf_12) (zv_R fun v12 => ?_) (fun q => zx_thr x (fun z hz => (htab z hz).elim) q)
  refine z_astore (pc := 17) (lv' := [(4, zP v12), (3, zP v0), (0, zP a0), (1, zI a1), (2, zP a2)]) x dX2_rulesOf_17 (Nat.le_of_ble_eq_true rfl) rfl ?_
  exact z_sub [3, 4, 1, 0] rfl (w_X2_rulesOf_19 x hl hret hnm htab zN a1 a2 v0 v12)
/-! X5_init -/
def s_X5_init (E : zE) (a0 : Option Nat) : zM := zSp a0 (fun _ => zNewA 0 zAr0 (4 : Int32) (fun v6 => zSet E a0 33 0 (zVal (zP v6)) (zRet none)))
theorem m_X5_init {l : Launch} {E : zE} {D : va_G} {tA : Nat → ClassId} (hl : l.stackTraces = false) (a0 : Option Nat) : zMet l E D tA yX5_init (ws_ yX5_init cX5_init 1 (Option.none : Option Jvm.ClassFile.FieldType)) 9 (s_X5_init E a0) [zP a0] := by
  refine z_met hl (by decide +kernel) (by rw [zSl_len]; exact (Nat.le_of_ble_eq_true rfl)) fun p e R s m args below meth c k0 x hret hnm htab => ?_
  refine z_lv [(0, zP a0)] rfl ?_
  unfold s_X5_init
  refine z_aload_n (pc := 0) x 0 dX5_init_0 rfl rfl ?_
  refine z_objInit (pc := 1) x q235 q173 q174 (by omega) (zSum (k := 0) rfl (by omega)) dX5_init_1 ?_
  refine z_aload_n (pc := 4) x 0 dX5_init_4 rfl rfl ?_
  refine z_iconst (pc := 5) x (v := (4 : Int32)) dX5_init_5 rfl ?_
  refine z_newA (pc := 6) x (ty := .int) rfl (by decide) rfl q240 (fun _ _ => rfl) dX5_init_6 fun v6 => ?_
  refine z_setF (pc := 8) (v := zP v6) x in_X5 tyX5 tyX5_ok nmX5 (ci := 33) rfl (k := 0) (by decide) q236 (fun _ h => h) rfl hnm rfl (zfitR rfl _).1 (zfitR rfl _).2 dX5_init_8 ?_
  exact z_vret (pc := 11) x hret dX5_init_11
/-! X4_init -/
def s_X4_init_15 (E : zE) : Nat → Option Nat → Int32 → zM
  | 0, _, _ => zFail
  | n + 1, a0, a1 => if (8 : Int32) ≤ a1 then (zRet none) else (zGetR a0 32 0 (fun v22 => zNew 33 1 [.null] (fun v26 => zC (zSp v26 (fun b => s_X5_init E (some b))) zThr (zKV (zSaS E 6 33 v22 a1 v26 ((s_X4_init_15 E n) a0 (a1 + (1 : Int32))))))))
theorem w_X4_init_15 (x : zCx p l R s m args meth c E D tA cX4_init 2 yX4_init.cls 10) (hl : l.stackTraces = false) (hret : meth.sig.returnType = (Option.none : Option Jvm.ClassFile.FieldType)) (hnm : meth.name = yX4_init.name) (htab : ∀ z ∈ c.exceptionTable.toList, False) : ∀ (n : Nat) (a0 : Option Nat) (a1 : Int32), zW p l e R s m args below meth c E D tA 2 k0 (s_X4_init_15 E n a0 a1) [(0, zP a0), (1, zI a1)] 15 [] := by
  intro n
  induction n with
  | zero => intro a0 a1; exact z_fail
  | succ n h15 =>
    intro a0 a1
    rw [s_X4_init_15]
    refine z_iload_n (pc := 15) x 1 dX4_init_15 rfl rfl ?_
    refine z_bipush (pc := 16) x (v := (8 : Int32)) dX4_init_16 rfl ?_
    refine z_icmp_ge (pc := 18) (tgt := 40) x dX4_init_18 rfl (fun _ => ?_) (fun _ => ?_)
    · exact z_vret (pc := 40) x hret dX4_init_40
    · refine z_aload_n (pc := 21) x 0 dX4_init_21 rfl rfl ?_
      refine z_get (pc := 22) (fun _ _ h => zAsR_eq h) x in_X4 (ci := 32) rfl (k := 0) (by decide) q241 (fun _ h => h) dX4_init_22 fun v22 => ?_
      refine z_iload_n (pc := 25) x 1 dX4_init_25 rfl rfl ?_
      refine z_new (pc := 26) x in_X5 tyX5 tyX5_ok q229 q231 q115 (ci := 33) rfl (by decide) (by decide +kernel) dX4_init_26 fun v26 => ?_
      refine z_dup (pc := 29) x dX4_init_29 rfl ?_
      refine z_call (pc := 30) (z_canI (pc := 30) (ret := none) (As := []) (st := [zP v26, zI a1, zP v22]) x (fun b => m_X5_init hl (some b)) q232 rfl q233 q115 q234 n_X5_init ⟨by decide, by decide⟩ (Nat.le_of_ble_eq_true rfl) dX4_init_30) (zv_V ?_) (fun q => zx_thr x (fun z hz => (htab z hz).elim) q)
      refine z_aastS (pc := 33) x (t := 6) (ci := 33) rfl rfl dX4_init_33 ?_
      refine z_iinc (pc := 34) (lv' := [(1, zI (a1 + (1 : Int32))), (0, zP a0)]) x (v2 := (a1 + (1 : Int32))) 1 dX4_init_34 rfl rfl (Nat.le_of_ble_eq_true rfl) rfl ?_
      refine z_goto (pc := 37) (tgt := 15) x dX4_init_37 rfl ?_
      exact z_sub [1, 0] rfl (h15 a0 (a1 + (1 : Int32)))
def s_X4_init (E : zE) (a0 : Option Nat) : zM := zSp a0 (fun _ => zNewA 6 zAr0R (8 : Int32) (fun v7 => zSet E a0 32 0 (zVal (zP v7)) (s_X4_init_15 E zN a0 (0 : Int32))))
theorem m_X4_init {l : Launch} {E : zE} {D : va_G} {tA : Nat → ClassId} (hl : l.stackTraces = false) (a0 : Option Nat) : zMet l E D tA yX4_init (ws_ yX4_init cX4_init 2 (Option.none : Option Jvm.ClassFile.FieldType)) 10 (s_X4_init E a0) [zP a0] := by
  refine z_met hl (by decide +kernel) (by rw [zSl_len]; exact (Nat.le_of_ble_eq_true rfl)) fun p e R s m args below meth c k0 x hret hnm htab => ?_
  refine z_lv [(0, zP a0)] rfl ?_
  unfold s_X4_init
  refine z_aload_n (pc := 0) x 0 dX4_init_0 rfl rfl ?_
  refine z_objInit (pc := 1) x q228 q173 q174 (by omega) (zSum (k := 0) rfl (by omega)) dX4_init_1 ?_
  refine z_aload_n (pc := 4) x 0 dX4_init_4 rfl rfl ?_
  refine z_bipush (pc := 5) x (v := (8 : Int32)) dX4_init_5 rfl ?_
  refine z_newQ (pc := 7) x (t := 6) rfl q229 q230 dX4_init_7 fun v7 => ?_
  refine z_setF (pc := 10) (v := zP v7) x in_X4 tyX4 tyX4_ok nmX4 (ci := 32) rfl (k := 0) (by decide) q241 (fun _ h => h) rfl hnm rfl (zfitR rfl _).1 (zfitR rfl _).2 dX4_init_10 ?_
  refine z_iconst (pc := 13) x (v := (0 : Int32)) dX4_init_13 rfl ?_
  refine z_istore_n (pc := 14) (lv' := [(1, zI (0 : Int32)), (0, zP a0)]) x dX4_init_14 rfl (Nat.le_of_ble_eq_true rfl) rfl ?_
  exact z_sub [1, 0] rfl (w_X4_init_15 x hl hret hnm htab zN a0 (0 : Int32))
/-! X8_unknown -/
def s_X8_unknown_6 (E : zE) : Nat → Option Nat → Int32 → zM
  | 0, _, _ => zFail
  | n + 1, a0, a1 => if (3 : Int32) ≤ a1 then (zRet (some (va_rf a0))) else (zSaI E 0 a0 a1 (-1 : Int32) ((s_X8_unknown_6 E n) a0 (a1 + (1 : Int32))))
theorem w_X8_unknown_6 (x : zCx p l R s m args meth c E D tA cX8_unknown 2 yX8_unknown.cls 9) (hl : l.stackTraces = false) (hret : meth.sig.returnType = (Option.some (Jvm.ClassFile.FieldType.array Jvm.ClassFile.FieldType.int))) (hnm : meth.name = yX8_unknown.name) (htab : ∀ z ∈ c.exceptionTable.toList, False) : ∀ (n : Nat) (a0 : Option Nat) (a1 : Int32), zW p l e R s m args below meth c E D tA 2 k0 (s_X8_unknown_6 E n a0 a1) [(0, zP a0), (1, zI a1)] 6 [] := by
  intro n
  induction n with
  | zero => intro a0 a1; exact z_fail
  | succ n h6 =>
    intro a0 a1
    rw [s_X8_unknown_6]
    refine z_iload_n (pc := 6) x 1 dX8_unknown_6 rfl rfl ?_
    refine z_iconst (pc := 7) x (v := (3 : Int32)) dX8_unknown_7 rfl ?_
    refine z_icmp_ge (pc := 8) (tgt := 21) x dX8_unknown_8 rfl (fun _ => ?_) (fun _ => ?_)
    · refine z_aload_n (pc := 21) x 0 dX8_unknown_21 rfl rfl ?_
      exact z_aret (pc := 22) x hret (Or.inr ⟨_, rfl⟩) dX8_unknown_22
    · refine z_aload_n (pc := 11) x 0 dX8_unknown_11 rfl rfl ?_
      refine z_iload_n (pc := 12) x 1 dX8_unknown_12 rfl rfl ?_
      refine z_iconst (pc := 13) x (v := (-1 : Int32)) dX8_unknown_13 rfl ?_
      refine z_iast (pc := 14) x (t := 0) rfl dX8_unknown_14 ?_
      refine z_iinc (pc := 15) (lv' := [(1, zI (a1 + (1 : Int32))), (0, zP a0)]) x (v2 := (a1 + (1 : Int32))) 1 dX8_unknown_15 rfl rfl (Nat.le_of_ble_eq_true rfl) rfl ?_
      refine z_goto (pc := 18) (tgt := 6) x dX8_unknown_18 rfl ?_
      exact z_sub [1, 0] rfl (h6 a0 (a1 + (1 : Int32)))
def s_X8_unknown (E : zE) : zM := zNewA 0 zAr0 (3 : Int32) (fun v1 => s_X8_unknown_6 E zN v1 (0 : Int32))
theorem m_X8_unknown {l : Launch} {E : zE} {D : va_G} {tA : Nat → ClassId} (hl : l.stackTraces = false) : zMet l E D tA yX8_unknown (ws_ yX8_unknown cX8_unknown 2 (Option.some (Jvm.ClassFile.FieldType.array Jvm.ClassFile.FieldType.int))) 9 (s_X8_unknown E) [] := by
  refine z_met hl (by decide +kernel) (by rw [zSl_len]; exact (Nat.le_of_ble_eq_true rfl)) fun p e R s m args below meth c k0 x hret hnm htab => ?_
  refine z_lv [] rfl ?_
  unfold s_X8_unknown
  refine z_iconst (pc := 0) x (v := (3 : Int32)) dX8_unknown_0 rfl ?_
  refine z_newA (pc := 1) x (ty := .int) rfl (by decide) rfl q240 (fun _ _ => rfl) dX8_unknown_1 fun v1 => ?_
  refine z_astore_n (pc := 3) (lv' := [(0, zP v1)]) x dX8_unknown_3 rfl (Nat.le_of_ble_eq_true rfl) rfl ?_
  refine z_iconst (pc := 4) x (v := (0 : Int32)) dX8_unknown_4 rfl ?_
  refine z_istore_n (pc := 5) (lv' := [(1, zI (0 : Int32)), (0, zP v1)]) x dX8_unknown_5 rfl (Nat.le_of_ble_eq_true rfl) rfl ?_
  exact z_sub [1, 0] rfl (w_X8_unknown_6 x hl hret hnm htab zN v1 (0 : Int32))
/-! J2_size -/
def s_J2_size (E : zE) (a0 : Option Nat) : zM := zGetI a0 10 2 (fun v1 => zRet (some (.int v1)))
theorem m_J2_size {l : Launch} {E : zE} {D : va_G} {tA : Nat → ClassId} (hl : l.stackTraces = false) (a0 : Option Nat) : zMet l E D tA yJ2_size (ws_ yJ2_size cJ2_size 1 (Option.some Jvm.ClassFile.FieldType.int)) 9 (s_J2_size E a0) [zP a0] := by
  refine z_met hl (by decide +kernel) (by rw [zSl_len]; exact (Nat.le_of_ble_eq_true rfl)) fun p e R s m args below meth c k0 x hret hnm htab => ?_
  refine z_lv [(0, zP a0)] rfl ?_
  unfold s_J2_size
  refine z_aload_n (pc := 0) x 0 dJ2_size_0 rfl rfl ?_
  refine z_get (pc := 1) (fun _ _ h => zAsI_eq h) x in_J2 (ci := 10) rfl (k := 2) (by decide) q198 (fun _ h => h) dJ2_size_1 fun v1 => ?_
  exact z_iret (pc := 4) x hret dJ2_size_4
/-! X8_known -/
def s_X8_known_10 (E : zE) : Nat → Option Nat → Int32 → zM
  | 0, _, _ => zFail
  | n + 1, a1, a2 => if (3 : Int32) ≤ a2 then (zRet (some (va_rf a1))) else (zGaI 0 a1 a2 (fun v19 => zSaI E 0 a1 a2 (if v19 < (0 : Int32) then (0 : Int32) else v19) ((s_X8_known_10 E n) a1 (a2 + (1 : Int32)))))
theorem w_X8_known_10 (x : zCx p l R s m args meth c E D tA cX8_known 3 yX8_known.cls 9) (hl : l.stackTraces = false) (hret : meth.sig.returnType = (Option.some (Jvm.ClassFile.FieldType.array Jvm.ClassFile.FieldType.int))) (hnm : meth.name = yX8_known.name) (htab : ∀ z ∈ c.exceptionTable.toList, False) : ∀ (n : Nat) (a1 : Option Nat) (a2 : Int32), zW p l e R s m args below meth c E D tA 3 k0 (s_X8_known_10 E n a1 a2) [(1, zP a1), (2, zI a2)] 10 [] := by
  intro n
  induction n with
  | zero => intro a1 a2; exact z_fail
  | succ n h10 =>
    intro a1 a2
    rw [s_X8_known_10]
    refine z_iload_n (pc := 10) x 1 dX8_known_10 rfl rfl ?_
    refine z_iconst (pc := 11) x (v := (3 : Int32)) dX8_known_11 rfl ?_
    refine z_icmp_ge (pc := 12) (tgt := 31) x dX8_known_12 rfl (fun _ => ?_) (fun _ => ?_)
    · refine z_aload_n (pc := 31) x 0 dX8_known_31 rfl rfl ?_
      exact z_aret (pc := 32) x hret (Or.inr ⟨_, rfl⟩) dX8_known_32
    · refine z_aload_n (pc := 15) x 0 dX8_known_15 rfl rfl ?_
      refine z_iload_n (pc := 16) x 1 dX8_known_16 rfl rfl ?_
      refine z_aload_n (pc := 17) x 0 dX8_known_17 rfl rfl ?_
      refine z_iload_n (pc := 18) x 1 dX8_known_18 rfl rfl ?_
      refine z_iald (pc := 19) x (t := 0) rfl dX8_known_19 fun v19 => ?_
      refine z_iconst (pc := 20) x (v := (0 : Int32)) dX8_known_20 rfl ?_
      refine z_mmax (pc := 21) x q778 q610 q130 q611 (by omega) (zSum (k := 2) rfl (by omega)) dX8_known_21 ?_
      refine z_iast (pc := 24) x (t := 0) rfl dX8_known_24 ?_
      refine z_iinc (pc := 25) (lv' := [(2, zI (a2 + (1 : Int32))), (1, zP a1)]) x (v2 := (a2 + (1 : Int32))) 1 dX8_known_25 rfl rfl (Nat.le_of_ble_eq_true rfl) rfl ?_
      refine z_goto (pc := 28) (tgt := 10) x dX8_known_28 rfl ?_
      exact z_sub [1, 0] rfl (h10 a1 (a2 + (1 : Int32)))
def s_X8_known (E : zE) (a0 : Option Nat) : zM := zCln 0 a0 (fun v1 => zCsA 0 v1 (s_X8_known_10 E zN v1 (0 : Int32)))
theorem m_X8_known {l : Launch} {E : zE} {D : va_G} {tA : Nat → ClassId} (hl : l.stackTraces = false) (a0 : Option Nat) : zMet l E D tA yX8_known (ws_ yX8_known cX8_known 3 (Option.some (Jvm.ClassFile.FieldType.array Jvm.ClassFile.FieldType.int))) 9 (s_X8_known E a0) [zP a0] := by
  refine z_met hl (by decide +kernel) (by rw [zSl_len]; exact (Nat.le_of_ble_eq_true rfl)) fun p e R s m args below meth c k0 x hret hnm htab => ?_
  refine z_lv [(0, zP a0)] rfl ?_
  unfold s_X8_known
  refine z_aload_n (pc := 0) x 0 dX8_known_0 rfl rfl ?_
  refine z_cln (pc := 1) x (t := 0) (ad := "[I") rfl (fun _ hc => hc) q776 q629 q630 q631 q632 q633 (by omega) (zSum (k := 0) rfl (by omega)) dX8_known_1 fun v1 => ?_
  refine z_csA (pc := 4) x (t := 0) rfl (fun _ hc => hc) q777 dX8_known_4 ?_
  refine z_astore_n (pc := 7) (lv' := [(1, zP v1), (0, zP a0)]) x dX8_known_7 rfl (Nat.le_of_ble_eq_true rfl) rfl ?_
  refine z_iconst (pc := 8) x (v := (0 : Int32)) dX8_known_8 rfl ?_
  refine z_istore_n (pc := 9) (lv' := [(2, zI (0 : Int32)), (1, zP v1), (0, zP a0)]) x dX8_known_9 rfl (Nat.le_of_ble_eq_true rfl) rfl ?_
  exact z_sub [1, 0] rfl (w_X8_known_10 x hl hret hnm htab zN v1 (0 : Int32))
/-! X1_valueOf -/
def s_X1_valueOf (E : zE) (a0 : Int32) (a1 : Option Nat) : zM := if (10 : Int32) ≤ a0 then (zGaI 0 a1 (a0 - (10 : Int32)) (fun v15 => zRet (some (.int v15)))) else (zRet (some (.int a0)))
theorem m_X1_valueOf {l : Launch} {E : zE} {D : va_G} {tA : Nat → ClassId} (hl : l.stackTraces = false) (a0 : Int32) (a1 : Option Nat) : zMet l E D tA yX1_valueOf (ws_ yX1_valueOf cX1_valueOf 2 (Option.some Jvm.ClassFile.FieldType.int)) 9 (s_X1_valueOf E a0 a1) [zI a0, zP a1] := by
  refine z_met hl (by decide +kernel) (by rw [zSl_len]; exact (Nat.le_of_ble_eq_true rfl)) fun p e R s m args below meth c k0 x hret hnm htab => ?_
  refine z_lv [(0, zI a0), (1, zP a1)] rfl ?_
  unfold s_X1_valueOf
  refine z_iload_n (pc := 0) x 0 dX1_valueOf_0 rfl rfl ?_
  refine z_bipush (pc := 1) x (v := (10 : Int32)) dX1_valueOf_1 rfl ?_
  refine z_icmp_ge (pc := 3) (tgt := 10) x dX1_valueOf_3 rfl (fun _ => ?_) (fun _ => ?_)
  · refine z_aload_n (pc := 10) x 1 dX1_valueOf_10 rfl rfl ?_
    refine z_iload_n (pc := 11) x 0 dX1_valueOf_11 rfl rfl ?_
    refine z_bipush (pc := 12) x (v := (10 : Int32)) dX1_valueOf_12 rfl ?_
    refine z_isub (pc := 14) x dX1_valueOf_14 ?_
    refine z_iald (pc := 15) x (t := 0) rfl dX1_valueOf_15 fun v15 => ?_
    exact z_iret (pc := 16) x hret dX1_valueOf_16
  · refine z_iload_n (pc := 6) x 0 dX1_valueOf_6 rfl rfl ?_
    refine z_goto (pc := 7) (tgt := 16) x dX1_valueOf_7 rfl ?_
    exact z_iret (pc := 16) x hret dX1_valueOf_16
/-! X9_code -/
def s_X9_code_34 (E : zE) (b0 : Int32) (b1 : Int32) (b2 : Int32) : zM := zC (s_X1_codeOf E b0 b1 b2) zThr (zKI (fun v34 => zRet (some (.int v34))))
theorem w_X9_code_34 (x : zCx p l R s m args meth c E D tA cX9_code 2 yX9_code.cls 11) (hl : l.stackTraces = false) (hret : meth.sig.returnType = (Option.some Jvm.ClassFile.FieldType.int)) (hnm : meth.name = yX9_code.name) (htab : ∀ z ∈ c.exceptionTable.toList, False) (b0 : Int32) (b1 : Int32) (b2 : Int32) : zW p l e R s m args below meth c E D tA 2 k0 (s_X9_code_34 E b0 b1 b2) [] 34 [zI b2, zI b1, zI b0] := by
  unfold s_X9_code_34
  refine z_call (pc := 34) (z_canSN (pc := 34) (As := [zI b0, zI b1, zI b2]) (st := []) x (m_X1_codeOf hl b0 b1 b2) q809 q810 q108 q811 n_X1_codeOf ⟨by decide, by decide⟩ (Nat.le_of_ble_eq_true rfl) dX9_code_34) (zv_I fun v34 => ?_) (fun q => zx_thr x (fun z hz => (htab z hz).elim) q)
  exact z_iret (pc := 37) x hret dX9_code_37
def s_X9_code (E : zE) (a0 : Option Nat) (a1 : Option Nat) : zM := zGetI a0 37 0 (fun v1 => zGetI a0 37 1 (fun v5 => zC (s_X1_valueOf E v5 a1) zThr (zKI (fun v9 => zGetI a0 37 0 (fun v13 => zC (s_X1_isPair E v13) zThr (zKI (fun v16 => if v16 = 0 then (s_X9_code_34 E v1 v9 (-1 : Int32)) else (zGetI a0 37 2 (fun v23 => zC (s_X1_valueOf E v23 a1) zThr (zKI (fun v27 => s_X9_code_34 E v1 v9 v27)))))))))))
theorem m_X9_code {l : Launch} {E : zE} {D : va_G} {tA : Nat → ClassId} (hl : l.stackTraces = false) (a0 : Option Nat) (a1 : Option Nat) : zMet l E D tA yX9_code (ws_ yX9_code cX9_code 2 (Option.some Jvm.ClassFile.FieldType.int)) 11 (s_X9_code E a0 a1) [zP a0, zP a1] := by
  refine z_met hl (by decide +kernel) (by rw [zSl_len]; exact (Nat.le_of_ble_eq_true rfl)) fun p e R s m args below meth c k0 x hret hnm htab => ?_
  refine z_lv [(0, zP a0), (1, zP a1)] rfl ?_
  unfold s_X9_code
  refine z_aload_n (pc := 0) x 0 dX9_code_0 rfl rfl ?_
  refine z_get (pc := 1) (fun _ _ h => zAsI_eq h) x in_X9 (ci := 37) rfl (k := 0) (by decide) q2358 (fun _ h => h) dX9_code_1 fun v1 => ?_
  refine z_aload_n (pc := 4) x 0 dX9_code_4 rfl rfl ?_
  refine z_get (pc := 5) (fun _ _ h => zAsI_eq h) x in_X9 (ci := 37) rfl (k := 1) (by decide) q2369 (fun _ h => h) dX9_code_5 fun v5 => ?_
  refine z_aload_n (pc := 8) x 1 dX9_code_8 rfl rfl ?_
  refine z_call (pc := 9) (z_canSN (pc := 9) (As := [zI v5, zP a1]) (st := [zI v1]) x (m_X1_valueOf hl v5 a1) q803 q804 q108 q805 n_X1_valueOf ⟨by decide, by decide⟩ (Nat.le_of_ble_eq_true rfl) dX9_code_9) (zv_I fun v9 => ?_) (fun q => zx_thr x (fun z hz => (htab z hz).elim) q)
  refine z_aload_n (pc := 12) x 0 dX9_code_12 rfl rfl ?_
  refine z_get (pc := 13) (fun _ _ h => zAsI_eq h) x in_X9 (ci := 37) rfl (k := 0) (by decide) q2358 (fun _ h => h) dX9_code_13 fun v13 => ?_
  refine z_call (pc := 16) (z_canSN (pc := 16) (As := [zI v13]) (st := [zI v9, zI v1]) x (m_X1_isPair hl v13) q806 q807 q108 q808 n_X1_isPair ⟨by decide, by decide⟩ (Nat.le_of_ble_eq_true rfl) dX9_code_16) (zv_I fun v16 => ?_) (fun q => zx_thr x (fun z hz => (htab z hz).elim) q)
  refine z_if_eq (pc := 19) (tgt := 33) x dX9_code_19 rfl (fun _ => ?_) (fun _ => ?_)
  · refine z_iconst (pc := 33) x (v := (-1 : Int32)) dX9_code_33 rfl ?_
    exact z_sub [] rfl (w_X9_code_34 x hl hret hnm htab v1 v9 (-1 : Int32))
  · refine z_aload_n (pc := 22) x 0 dX9_code_22 rfl rfl ?_
    refine z_get (pc := 23) (fun _ _ h => zAsI_eq h) x in_X9 (ci := 37) rfl (k := 2) (by decide) q2371 (fun _ h => h) dX9_code_23 fun v23 => ?_
    refine z_aload_n (pc := 26) x 1 dX9_code_26 rfl rfl ?_
    refine z_call (pc := 27) (z_canSN (pc := 27) (As := [zI v23, zP a1]) (st := [zI v9, zI v1]) x (m_X1_valueOf hl v23 a1) q803 q804 q108 q805 n_X1_valueOf ⟨by decide, by decide⟩ (Nat.le_of_ble_eq_true rfl) dX9_code_27) (zv_I fun v27 => ?_) (fun q => zx_thr x (fun z hz => (htab z hz).elim) q)
    refine z_goto (pc := 30) (tgt := 34) x dX9_code_30 rfl ?_
    exact z_sub [] rfl (w_X9_code_34 x hl hret hnm htab v1 v9 v27)
/-! X23_holds -/
def s_X23_holds (E : zE) (a0 : Option Nat) (a1 : Option Nat) (a2 : Option Nat) : zM := zGetR a0 29 0 (fun v2 => zGetI v2 37 0 (fun v5 => zGetR a0 29 0 (fun v9 => zC (zRv v9 [(37, fun b => s_X9_code E (some b) a2)]) zThr (zKI (fun v13 => zC (zRv a1 [(32, fun b => s_X4_has E (some b) v5 v13)]) zThr (zKI (fun v16 => zGetI a0 29 1 (fun v20 => if v16 = v20 then (zRetN .boolean (1 : Int32)) else (zRetN .boolean (0 : Int32))))))))))
theorem m_X23_holds {l : Launch} {E : zE} {D : va_G} {tA : Nat → ClassId} (hl : l.stackTraces = false) (a0 : Option Nat) (a1 : Option Nat) (a2 : Option Nat) : zMet l E D tA yX23_holds (ws_ yX23_holds cX23_holds 3 (Option.some Jvm.ClassFile.FieldType.boolean)) 12 (s_X23_holds E a0 a1 a2) [zP a0, zP a1, zP a2] := by
  refine z_met hl (by decide +kernel) (by rw [zSl_len]; exact (Nat.le_of_ble_eq_true rfl)) fun p e R s m args below meth c k0 x hret hnm htab => ?_
  refine z_lv [(0, zP a0), (1, zP a1), (2, zP a2)] rfl ?_
  unfold s_X23_holds
  refine z_aload_n (pc := 0) x 1 dX23_holds_0 rfl rfl ?_
  refine z_aload_n (pc := 1) x 0 dX23_holds_1 rfl rfl ?_
  refine z_get (pc := 2) (fun _ _ h => zAsR_eq h) x in_X23 (ci := 29) rfl (k := 0) (by decide) q2391 (fun _ h => h) dX23_holds_2 fun v2 => ?_
  refine z_getN (pc := 5) (fun _ _ h => zAsI_eq h) x in_X9 (ci := 37) rfl (k := 0) (by decide) q2360 (fun _ h => h) dX23_holds_5 fun v5 => ?_
  refine z_aload_n (pc := 8) x 0 dX23_holds_8 rfl rfl ?_
  refine z_get (pc := 9) (fun _ _ h => zAsR_eq h) x in_X23 (ci := 29) rfl (k := 0) (by decide) q2391 (fun _ h => h) dX23_holds_9 fun v9 => ?_
  refine z_aload_n (pc := 12) x 2 dX23_holds_12 rfl rfl ?_
  refine z_call (pc := 13) (z_canV (pc := 13) (As := [zP a2]) (st := [zI v5, zP a1]) x (ci := 37) rfl (fun b => m_X9_code hl (some b) a2) q799 q800 (x.2.2.2.2.1 _ q801) q143 q802 n_X9_code ⟨by decide, by decide⟩ (Nat.le_of_ble_eq_true rfl) dX23_holds_13) (zv_I fun v13 => ?_) (fun q => zx_thr x (fun z hz => (htab z hz).elim) q)
  refine z_call (pc := 16) (z_canV (pc := 16) (As := [zI v5, zI v13]) (st := []) x (ci := 32) rfl (fun b => m_X4_has hl (some b) v5 v13) q813 q814 (x.2.2.2.2.1 _ q815) q114 q816 n_X4_has ⟨by decide, by decide⟩ (Nat.le_of_ble_eq_true rfl) dX23_holds_16) (zv_I fun v16 => ?_) (fun q => zx_thr x (fun z hz => (htab z hz).elim) q)
  refine z_aload_n (pc := 19) x 0 dX23_holds_19 rfl rfl ?_
  refine z_get (pc := 20) (fun _ _ h => zAsI_eq h) x in_X23 (ci := 29) rfl (k := 1) (by decide) q2392 (fun _ h => h) dX23_holds_20 fun v20 => ?_
  refine z_icmp_ne (pc := 23) (tgt := 30) x dX23_holds_23 rfl (fun _ => ?_) (fun _ => ?_)
  · refine z_iconst (pc := 26) x (v := (1 : Int32)) dX23_holds_26 rfl ?_
    refine z_goto (pc := 27) (tgt := 31) x dX23_holds_27 rfl ?_
    exact z_zret (pc := 31) x hret dX23_holds_31
  · refine z_iconst (pc := 30) x (v := (0 : Int32)) dX23_holds_30 rfl ?_
    exact z_zret (pc := 31) x hret dX23_holds_31
/-! X24_holds -/
def s_X24_holds (E : zE) (a0 : Option Nat) (a1 : Option Nat) (a2 : Option Nat) : zM := zGetI a0 30 0 (fun v1 => zC (s_X1_valueOf E v1 a2) zThr (zKI (fun v5 => zGetI a0 30 1 (fun v10 => zC (s_X1_valueOf E v10 a2) zThr (zKI (fun v14 => zGetI a0 30 2 (fun v20 => if v20 = (60 : Int32) then (if v14 ≤ v5 then (zRetN .boolean (0 : Int32)) else (zRetN .boolean (1 : Int32))) else (if v5 = v14 then (zRetN .boolean (1 : Int32)) else (zRetN .boolean (0 : Int32))))))))))
theorem m_X24_holds {l : Launch} {E : zE} {D : va_G} {tA : Nat → ClassId} (hl : l.stackTraces = false) (a0 : Option Nat) (a1 : Option Nat) (a2 : Option Nat) : zMet l E D tA yX24_holds (ws_ yX24_holds cX24_holds 5 (Option.some Jvm.ClassFile.FieldType.boolean)) 10 (s_X24_holds E a0 a1 a2) [zP a0, zP a1, zP a2] := by
  refine z_met hl (by decide +kernel) (by rw [zSl_len]; exact (Nat.le_of_ble_eq_true rfl)) fun p e R s m args below meth c k0 x hret hnm htab => ?_
  refine z_lv [(0, zP a0), (1, zP a1), (2, zP a2)] rfl ?_
  unfold s_X24_holds
  refine z_aload_n (pc := 0) x 0 dX24_holds_0 rfl rfl ?_
  refine z_get (pc := 1) (fun _ _ h => zAsI_eq h) x in_X24 (ci := 30) rfl (k := 0) (by decide) q2404 (fun _ h => h) dX24_holds_1 fun v1 => ?_
  refine z_aload_n (pc := 4) x 2 dX24_holds_4 rfl rfl ?_
  refine z_call (pc := 5) (z_canSN (pc := 5) (As := [zI v1, zP a2]) (st := []) x (m_X1_valueOf hl v1 a2) q826 q804 q108 q805 n_X1_valueOf ⟨by decide, by decide⟩ (Nat.le_of_ble_eq_true rfl) dX24_holds_5) (zv_I fun v5 => ?_) (fun q => zx_thr x (fun z hz => (htab z hz).elim) q)
  refine z_istore_n (pc := 8) (lv' := [(3, zI v5), (0, zP a0), (1, zP a1), (2, zP a2)]) x dX24_holds_8 rfl (Nat.le_of_ble_eq_true rfl) rfl ?_
  refine z_aload_n (pc := 9) x 1 dX24_holds_9 rfl rfl ?_
  refine z_get (pc := 10) (fun _ _ h => zAsI_eq h) x in_X24 (ci := 30) rfl (k := 1) (by decide) q2405 (fun _ h => h) dX24_holds_10 fun v10 => ?_
  refine z_aload_n (pc := 13) x 3 dX24_holds_13 rfl rfl ?_
  refine z_call (pc := 14) (z_canSN (pc := 14) (As := [zI v10, zP a2]) (st := []) x (m_X1_valueOf hl v10 a2) q826 q804 q108 q805 n_X1_valueOf ⟨by decide, by decide⟩ (Nat.le_of_ble_eq_true rfl) dX24_holds_14) (zv_I fun v14 => ?_) (fun q => zx_thr x (fun z hz => (htab z hz).elim) q)
  refine z_istore (pc := 17) (lv' := [(4, zI v14), (3, zI v5), (0, zP a0), (1, zP a1), (2, zP a2)]) x dX24_holds_17 (Nat.le_of_ble_eq_true rfl) rfl ?_
  refine z_aload_n (pc := 19) x 2 dX24_holds_19 rfl rfl ?_
  refine z_get (pc := 20) (fun _ _ h => zAsI_eq h) x in_X24 (ci := 30) rfl (k := 2) (by decide) q2406 (fun _ h => h) dX24_holds_20 fun v20 => ?_
  refine z_bipush (pc := 23) x (v := (60 : Int32)) dX24_holds_23 rfl ?_
  refine z_icmp_ne (pc := 25) (tgt := 42) x dX24_holds_25 rfl (fun _ => ?_) (fun _ => ?_)
  · refine z_iload_n (pc := 28) x 1 dX24_holds_28 rfl rfl ?_
    refine z_iload (pc := 29) x 0 dX24_holds_29 rfl ?_
    refine z_icmp_ge (pc := 31) (tgt := 38) x dX24_holds_31 rfl (fun _ => ?_) (fun _ => ?_)
    · refine z_iconst (pc := 38) x (v := (0 : Int32)) dX24_holds_38 rfl ?_
      refine z_goto (pc := 39) (tgt := 53) x dX24_holds_39 rfl ?_
      exact z_zret (pc := 53) x hret dX24_holds_53
    · refine z_iconst (pc := 34) x (v := (1 : Int32)) dX24_holds_34 rfl ?_
      refine z_goto (pc := 35) (tgt := 53) x dX24_holds_35 rfl ?_
      exact z_zret (pc := 53) x hret dX24_holds_53
  · refine z_iload_n (pc := 42) x 1 dX24_holds_42 rfl rfl ?_
    refine z_iload (pc := 43) x 0 dX24_holds_43 rfl ?_
    refine z_icmp_ne (pc := 45) (tgt := 52) x dX24_holds_45 rfl (fun _ => ?_) (fun _ => ?_)
    · refine z_iconst (pc := 48) x (v := (1 : Int32)) dX24_holds_48 rfl ?_
      refine z_goto (pc := 49) (tgt := 53) x dX24_holds_49 rfl ?_
      exact z_zret (pc := 53) x hret dX24_holds_53
    · refine z_iconst (pc := 52) x (v := (0 : Int32)) dX24_holds_52 rfl ?_
      exact z_zret (pc := 53) x hret dX24_holds_53
/-! X25_holds -/
def s_X25_holds_56 (E : zE) (k13 : Option Nat → Option Nat → Int32 → Option Nat → zM) (a1 : Option Nat) (a2 : Option Nat) (a4 : Option Nat) (b0 : Int32) : zM := k13 a1 a2 b0 a4
theorem w_X25_holds_56 (x : zCx p l R s m args meth c E D tA cX25_holds 6 yX25_holds.cls 13) (hl : l.stackTraces = false) (hret : meth.sig.returnType = (Option.some Jvm.ClassFile.FieldType.boolean)) (hnm : meth.name = yX25_holds.name) (htab : ∀ z ∈ c.exceptionTable.toList, False) {k13 : Option Nat → Option Nat → Int32 → Option Nat → zM} (h13 : ∀ (a1 : Option Nat) (a2 : Option Nat) (a3 : Int32) (a4 : Option Nat) , zW p l e R s m args below meth c E D tA 6 k0 (k13 a1 a2 a3 a4) [(1, zP a1), (2, zP a2), (3, zI a3), (4, zP a4)] 13 []) (a1 : Option Nat) (a2 : Option Nat) (a4 : Option Nat) (b0 : Int32) : zW p l e R s m args below meth c E D tA 6 k0 (s_X25_holds_56 E k13 a1 a2 a4 b0) [(1, zP a1), (2, zP a2), (4, zP a4)] 56 [zI b0] := by
  unfold s_X25_holds_56
  refine z_istore_n (pc := 56) (lv' := [(3, zI b0), (1, zP a1), (2, zP a2), (4, zP a4)]) x dX25_holds_56 rfl (Nat.le_of_ble_eq_true rfl) rfl ?_
  refine z_goto (pc := 57) (tgt := 13) x dX25_holds_57 rfl ?_
  exact z_sub [1, 2, 0, 3] rfl (h13 a1 a2 b0 a4)
def s_X25_holds_55 (E : zE) (k13 : Option Nat → Option Nat → Int32 → Option Nat → zM) (a1 : Option Nat) (a2 : Option Nat) (a4 : Option Nat) : zM := s_X25_holds_56 E k13 a1 a2 a4 (0 : Int32)
theorem w_X25_holds_55 (x : zCx p l R s m args meth c E D tA cX25_holds 6 yX25_holds.cls 13) (hl : l.stackTraces = false) (hret : meth.sig.returnType = (Option.some Jvm.ClassFile.FieldType.boolean)) (hnm : meth.name = yX25_holds.name) (htab : ∀ z ∈ c.exceptionTable.toList, False) {k13 : Option Nat → Option Nat → Int32 → Option Nat → zM} (h13 : ∀ (a1 : Option Nat) (a2 : Option Nat) (a3 : Int32) (a4 : Option Nat) , zW p l e R s m args below meth c E D tA 6 k0 (k13 a1 a2 a3 a4) [(1, zP a1), (2, zP a2), (3, zI a3), (4, zP a4)] 13 []) (a1 : Option Nat) (a2 : Option Nat) (a4 : Option Nat) : zW p l e R s m args below meth c E D tA 6 k0 (s_X25_holds_55 E k13 a1 a2 a4) [(1, zP a1), (2, zP a2), (4, zP a4)] 55 [] := by
  unfold s_X25_holds_55
  refine z_iconst (pc := 55) x (v := (0 : Int32)) dX25_holds_55 rfl ?_
  exact z_sub [0, 1, 2] rfl (w_X25_holds_56 x hl hret hnm htab h13 a1 a2 a4 (0 : Int32))
def s_X25_holds_13 (E : zE) : Nat → Option Nat → Option Nat → Int32 → Option Nat → zM
  | 0, _, _, _, _ => zFail
  | n + 1, a1, a2, a3, a4 => zC (zRv a4 [(11, fun b => s_J22_hasNext E (some b))]) zThr (zKI (fun v15 => if v15 = 0 then (zRetN .boolean a3) else (zC (zRv a4 [(11, fun b => s_J22_next E (some b))]) zThr (zKR (fun v25 => zCst 12 v25 (if a3 = 0 then (s_X25_holds_55 E (s_X25_holds_13 E n) a1 a2 a4) else (zC (zRv v25 [(29, fun b => s_X23_holds E (some b) a1 a2), (30, fun b => s_X24_holds E (some b) a1 a2)]) zThr (zKI (fun v43 => if v43 = 0 then (s_X25_holds_55 E (s_X25_holds_13 E n) a1 a2 a4) else (s_X25_holds_56 E (s_X25_holds_13 E n) a1 a2 a4 (1 : Int32)))))))))))
theorem w_X25_holds_13 (x : zCx p l R s m args meth c E D tA cX25_holds 6 yX25_holds.cls 13) (hl : l.stackTraces = false) (hret : meth.sig.returnType = (Option.some Jvm.ClassFile.FieldType.boolean)) (hnm : meth.name = yX25_holds.name) (htab : ∀ z ∈ c.exceptionTable.toList, False) : ∀ (n : Nat) (a1 : Option Nat) (a2 : Option Nat) (a3 : Int32) (a4 : Option Nat), zW p l e R s m args below meth c E D tA 6 k0 (s_X25_holds_13 E n a1 a2 a3 a4) [(1, zP a1), (2, zP a2), (3, zI a3), (4, zP a4)] 13 [] := by
  intro n
  induction n with
  | zero => intro a1 a2 a3 a4; exact z_fail
  | succ n h13 =>
    intro a1 a2 a3 a4
    rw [s_X25_holds_13]
    refine z_aload (pc := 13) x 3 dX25_holds_13 rfl ?_
    refine z_call (pc := 15) (z_canIF (pc := 15) (As := []) (st := []) (x9 := ⟨"java/util/Iterator", "hasNext", "()Z"⟩) x (ci := 11) rfl (fun b => m_J22_hasNext hl (some b)) q786 q413 q412 (by decide) q415 q417 q418 q416 q414 q139 q419 nx_java_util_Iterator_hasNext___Z ⟨by decide, by decide⟩ (Nat.le_of_ble_eq_true rfl) dX25_holds_15) (zv_I fun v15 => ?_) (fun q => zx_thr x (fun z hz => (htab z hz).elim) q)
    refine z_if_eq (pc := 20) (tgt := 60) x dX25_holds_20 rfl (fun _ => ?_) (fun _ => ?_)
    · refine z_iload_n (pc := 60) x 2 dX25_holds_60 rfl rfl ?_
      exact z_zret (pc := 61) x hret dX25_holds_61
    · refine z_aload (pc := 23) x 3 dX25_holds_23 rfl ?_
      refine z_call (pc := 25) (z_canIF (pc := 25) (As := []) (st := []) (x9 := ⟨"java/util/Iterator", "next", "()Ljava/lang/Object;"⟩) x (ci := 11) rfl (fun b => m_J22_next hl (some b)) q788 q423 q422 (by decide) q424 q426 q427 q425 q414 q139 q428 nx_java_util_Iterator_next___Ljava_lang_Object_ ⟨by decide, by decide⟩ (Nat.le_of_ble_eq_true rfl) dX25_holds_25) (zv_R fun v25 => ?_) (fun q => zx_thr x (fun z hz => (htab z hz).elim) q)
      refine z_cst (pc := 30) x (tg := 12) rfl q789 dX25_holds_30 ?_
      refine z_astore (pc := 33) (lv' := [(5, zP v25), (1, zP a1), (2, zP a2), (3, zI a3), (4, zP a4)]) x dX25_holds_33 (Nat.le_of_ble_eq_true rfl) rfl ?_
      refine z_iload_n (pc := 35) x 3 dX25_holds_35 rfl rfl ?_
      refine z_if_eq (pc := 36) (tgt := 55) x dX25_holds_36 rfl (fun _ => ?_) (fun _ => ?_)
      · exact z_sub [1, 2, 4] rfl (w_X25_holds_55 x hl hret hnm htab h13 a1 a2 a4)
      · refine z_aload (pc := 39) x 0 dX25_holds_39 rfl ?_
        refine z_aload_n (pc := 41) x 1 dX25_holds_41 rfl rfl ?_
        refine z_aload_n (pc := 42) x 2 dX25_holds_42 rfl rfl ?_
        refine z_call (pc := 43) (z_can_cons (z_canIF (pc := 43) (As := [zP a1, zP a2]) (st := []) (x9 := ⟨"BrambleLogic$Literal", "holds", "(LBrambleLogic$Facts;[I)Z"⟩) x (ci := 29) rfl (fun b => m_X23_holds hl (some b) a1 a2) q791 q793 q792 (by decide) q794 q796 q797 q795 q514 q162 q798 nx_BrambleLogic_Literal_holds__LBrambleLogic_Facts__I_Z ⟨by decide, by decide⟩ (Nat.le_of_ble_eq_true rfl) dX25_holds_43) (z_can_cons (z_canIF (pc := 43) (As := [zP a1, zP a2]) (st := []) (x9 := ⟨"BrambleLogic$Literal", "holds", "(LBrambleLogic$Facts;[I)Z"⟩) x (ci := 30) rfl (fun b => m_X24_holds hl (some b) a1 a2) q791 q793 q792 (by decide) q821 q823 q824 q822 q536 q163 q825 nx_BrambleLogic_Literal_holds__LBrambleLogic_Facts__I_Z ⟨by decide, by decide⟩ (Nat.le_of_ble_eq_true rfl) dX25_holds_43) (z_can_nil))) (zv_I fun v43 => ?_) (fun q => zx_thr x (fun z hz => (htab z hz).elim) q)
        refine z_if_eq (pc := 48) (tgt := 55) x dX25_holds_48 rfl (fun _ => ?_) (fun _ => ?_)
        · exact z_sub [1, 2, 4] rfl (w_X25_holds_55 x hl hret hnm htab h13 a1 a2 a4)
        · refine z_iconst (pc := 51) x (v := (1 : Int32)) dX25_holds_51 rfl ?_
          refine z_goto (pc := 52) (tgt := 56) x dX25_holds_52 rfl ?_
          exact z_sub [1, 2, 4] rfl (w_X25_holds_56 x hl hret hnm htab h13 a1 a2 a4 (1 : Int32))
def s_X25_holds (E : zE) (a0 : Option Nat) (a1 : Option Nat) (a2 : Option Nat) : zM := zGetR a0 31 1 (fun v3 => zC (zRv v3 [(10, fun b => s_J2_iterator E (some b))]) zThr (zKR (fun v6 => s_X25_holds_13 E zN a1 a2 (1 : Int32) v6)))
theorem m_X25_holds {l : Launch} {E : zE} {D : va_G} {tA : Nat → ClassId} (hl : l.stackTraces = false) (a0 : Option Nat) (a1 : Option Nat) (a2 : Option Nat) : zMet l E D tA yX25_holds (ws_ yX25_holds cX25_holds 6 (Option.some Jvm.ClassFile.FieldType.boolean)) 13 (s_X25_holds E a0 a1 a2) [zP a0, zP a1, zP a2] := by
  refine z_met hl (by decide +kernel) (by rw [zSl_len]; exact (Nat.le_of_ble_eq_true rfl)) fun p e R s m args below meth c k0 x hret hnm htab => ?_
  refine z_lv [(0, zP a0), (1, zP a1), (2, zP a2)] rfl ?_
  unfold s_X25_holds
  refine z_iconst (pc := 0) x (v := (1 : Int32)) dX25_holds_0 rfl ?_
  refine z_istore_n (pc := 1) (lv' := [(3, zI (1 : Int32)), (0, zP a0), (1, zP a1), (2, zP a2)]) x dX25_holds_1 rfl (Nat.le_of_ble_eq_true rfl) rfl ?_
  refine z_aload_n (pc := 2) x 1 dX25_holds_2 rfl rfl ?_
  refine z_get (pc := 3) (fun _ _ h => zAsR_eq h) x in_X25 (ci := 31) rfl (k := 1) (by decide) q2502 (fun _ h => h) dX25_holds_3 fun v3 => ?_
  refine z_call (pc := 6) (z_canIF (pc := 6) (As := []) (st := []) (x9 := ⟨"java/util/List", "iterator", "()Ljava/util/Iterator;"⟩) x (ci := 10) rfl (fun b => m_J2_iterator hl (some b)) q784 q383 q382 (by decide) q385 q387 q388 q386 q384 q112 q389 nx_java_util_List_iterator___Ljava_util_Iterator_ ⟨by decide, by decide⟩ (Nat.le_of_ble_eq_true rfl) dX25_holds_6) (zv_R fun v6 => ?_) (fun q => zx_thr x (fun z hz => (htab z hz).elim) q)
  refine z_astore (pc := 11) (lv' := [(4, zP v6), (3, zI (1 : Int32)), (0, zP a0), (1, zP a1), (2, zP a2)]) x dX25_holds_11 (Nat.le_of_ble_eq_true rfl) rfl ?_
  exact z_sub [3, 4, 1, 0] rfl (w_X25_holds_13 x hl hret hnm htab zN a1 a2 (1 : Int32) v6)
/-! X8_found -/
def s_X8_found (E : zE) (a0 : Option Nat) (a1 : Option Nat) (a2 : Option Nat) : zM := zGetR a1 31 0 (fun v1 => zC (zRv v1 [(37, fun b => s_X9_code E (some b) a2)]) zThr (zKI (fun v5 => zGetR a0 36 0 (fun v10 => zGetR a1 31 0 (fun v14 => zGetI v14 37 0 (fun v17 => zC (zRv v10 [(32, fun b => s_X4_has E (some b) v17 v5)]) zThr (zKI (fun v21 => if v21 = 0 then (zGetR a0 36 2 (fun v28 => zGetR a1 31 0 (fun v32 => zGetI v32 37 0 (fun v35 => zC (zRv v28 [(32, fun b => s_X4_add E (some b) v35 v5)]) zThr (zKI (fun v39 => zRet none)))))) else (zRet none)))))))))
theorem m_X8_found {l : Launch} {E : zE} {D : va_G} {tA : Nat → ClassId} (hl : l.stackTraces = false) (a0 : Option Nat) (a1 : Option Nat) (a2 : Option Nat) : zMet l E D tA yX8_found (ws_ yX8_found cX8_found 4 (Option.none : Option Jvm.ClassFile.FieldType)) 12 (s_X8_found E a0 a1 a2) [zP a0, zP a1, zP a2] := by
  refine z_met hl (by decide +kernel) (by rw [zSl_len]; exact (Nat.le_of_ble_eq_true rfl)) fun p e R s m args below meth c k0 x hret hnm htab => ?_
  refine z_lv [(0, zP a0), (1, zP a1), (2, zP a2)] rfl ?_
  unfold s_X8_found
  refine z_aload_n (pc := 0) x 1 dX8_found_0 rfl rfl ?_
  refine z_getN (pc := 1) (fun _ _ h => zAsR_eq h) x in_X25 (ci := 31) rfl (k := 0) (by decide) q2494 (fun _ h => h) dX8_found_1 fun v1 => ?_
  refine z_aload_n (pc := 4) x 2 dX8_found_4 rfl rfl ?_
  refine z_call (pc := 5) (z_canV (pc := 5) (As := [zP a2]) (st := []) x (ci := 37) rfl (fun b => m_X9_code hl (some b) a2) q831 q800 (x.2.2.2.2.1 _ q801) q143 q802 n_X9_code ⟨by decide, by decide⟩ (Nat.le_of_ble_eq_true rfl) dX8_found_5) (zv_I fun v5 => ?_) (fun q => zx_thr x (fun z hz => (htab z hz).elim) q)
  refine z_istore_n (pc := 8) (lv' := [(3, zI v5), (0, zP a0), (1, zP a1), (2, zP a2)]) x dX8_found_8 rfl (Nat.le_of_ble_eq_true rfl) rfl ?_
  refine z_aload_n (pc := 9) x 1 dX8_found_9 rfl rfl ?_
  refine z_get (pc := 10) (fun _ _ h => zAsR_eq h) x in_X8 (ci := 36) rfl (k := 0) (by decide) q635 (fun _ h => h) dX8_found_10 fun v10 => ?_
  refine z_aload_n (pc := 13) x 2 dX8_found_13 rfl rfl ?_
  refine z_getN (pc := 14) (fun _ _ h => zAsR_eq h) x in_X25 (ci := 31) rfl (k := 0) (by decide) q2494 (fun _ h => h) dX8_found_14 fun v14 => ?_
  refine z_getN (pc := 17) (fun _ _ h => zAsI_eq h) x in_X9 (ci := 37) rfl (k := 0) (by decide) q2362 (fun _ h => h) dX8_found_17 fun v17 => ?_
  refine z_iload_n (pc := 20) x 0 dX8_found_20 rfl rfl ?_
  refine z_call (pc := 21) (z_canV (pc := 21) (As := [zI v17, zI v5]) (st := []) x (ci := 32) rfl (fun b => m_X4_has hl (some b) v17 v5) q832 q814 (x.2.2.2.2.1 _ q815) q114 q816 n_X4_has ⟨by decide, by decide⟩ (Nat.le_of_ble_eq_true rfl) dX8_found_21) (zv_I fun v21 => ?_) (fun q => zx_thr x (fun z hz => (htab z hz).elim) q)
  refine z_if_ne (pc := 24) (tgt := 43) x dX8_found_24 rfl (fun _ => ?_) (fun _ => ?_)
  · refine z_aload_n (pc := 27) x 1 dX8_found_27 rfl rfl ?_
    refine z_get (pc := 28) (fun _ _ h => zAsR_eq h) x in_X8 (ci := 36) rfl (k := 2) (by decide) q638 (fun _ h => h) dX8_found_28 fun v28 => ?_
    refine z_aload_n (pc := 31) x 2 dX8_found_31 rfl rfl ?_
    refine z_getN (pc := 32) (fun _ _ h => zAsR_eq h) x in_X25 (ci := 31) rfl (k := 0) (by decide) q2494 (fun _ h => h) dX8_found_32 fun v32 => ?_
    refine z_getN (pc := 35) (fun _ _ h => zAsI_eq h) x in_X9 (ci := 37) rfl (k := 0) (by decide) q2362 (fun _ h => h) dX8_found_35 fun v35 => ?_
    refine z_iload_n (pc := 38) x 0 dX8_found_38 rfl rfl ?_
    refine z_call (pc := 39) (z_canV (pc := 39) (As := [zI v35, zI v5]) (st := []) x (ci := 32) rfl (fun b => m_X4_add hl (some b) v35 v5) q833 q834 (x.2.2.2.2.1 _ q835) q114 q836 n_X4_add ⟨by decide, by decide⟩ (Nat.le_of_ble_eq_true rfl) dX8_found_39) (zv_I fun v39 => ?_) (fun q => zx_thr x (fun z hz => (htab z hz).elim) q)
    refine z_pop (pc := 42) x dX8_found_42 rfl ?_
    exact z_vret (pc := 43) x hret dX8_found_43
  · exact z_vret (pc := 43) x hret dX8_found_43
/-! J17_checkIndex -/
def s_J17_checkIndex (E : zE) (a0 : Int32) (a1 : Int32) (a2 : Option Nat) : zM := if a0 < 0 then zFail else (if a0 < a1 then (zRet (some (.int a0))) else zFail)
theorem m_J17_checkIndex {l : Launch} {E : zE} {D : va_G} {tA : Nat → ClassId} (hl : l.stackTraces = false) (a0 : Int32) (a1 : Int32) (a2 : Option Nat) : zMet l E D tA yJ17_checkIndex (ws_ yJ17_checkIndex cJ17_checkIndex 3 (Option.some Jvm.ClassFile.FieldType.int)) 9 (s_J17_checkIndex E a0 a1 a2) [zI a0, zI a1, zP a2] := by
  refine z_met hl (by decide +kernel) (by rw [zSl_len]; exact (Nat.le_of_ble_eq_true rfl)) fun p e R s m args below meth c k0 x hret hnm htab => ?_
  refine z_lv [(0, zI a0), (1, zI a1), (2, zP a2)] rfl ?_
  unfold s_J17_checkIndex
  refine z_iload_n (pc := 0) x 0 dJ17_checkIndex_0 rfl rfl ?_
  refine z_if_lt (pc := 1) (tgt := 9) x dJ17_checkIndex_1 rfl (fun _ => ?_) (fun _ => ?_)
  · exact z_fail
  · refine z_iload_n (pc := 4) x 0 dJ17_checkIndex_4 rfl rfl ?_
    refine z_iload_n (pc := 5) x 1 dJ17_checkIndex_5 rfl rfl ?_
    refine z_icmp_lt (pc := 6) (tgt := 16) x dJ17_checkIndex_6 rfl (fun _ => ?_) (fun _ => ?_)
    · refine z_iload_n (pc := 16) x 0 dJ17_checkIndex_16 rfl rfl ?_
      exact z_iret (pc := 17) x hret dJ17_checkIndex_17
    · exact z_fail
/-! J24_checkIndex -/
def s_J24_checkIndex (E : zE) (a0 : Int32) (a1 : Int32) : zM := zC (s_J17_checkIndex E a0 a1 none) zThr (zKI (fun v3 => zRet (some (.int v3))))
theorem m_J24_checkIndex {l : Launch} {E : zE} {D : va_G} {tA : Nat → ClassId} (hl : l.stackTraces = false) (a0 : Int32) (a1 : Int32) : zMet l E D tA yJ24_checkIndex (ws_ yJ24_checkIndex cJ24_checkIndex 2 (Option.some Jvm.ClassFile.FieldType.int)) 10 (s_J24_checkIndex E a0 a1) [zI a0, zI a1] := by
  refine z_met hl (by decide +kernel) (by rw [zSl_len]; exact (Nat.le_of_ble_eq_true rfl)) fun p e R s m args below meth c k0 x hret hnm htab => ?_
  refine z_lv [(0, zI a0), (1, zI a1)] rfl ?_
  unfold s_J24_checkIndex
  refine z_iload_n (pc := 0) x 0 dJ24_checkIndex_0 rfl rfl ?_
  refine z_iload_n (pc := 1) x 1 dJ24_checkIndex_1 rfl rfl ?_
  refine z_null (pc := 2) x dJ24_checkIndex_2 ?_
  refine z_call (pc := 3) (z_canS (pc := 3) (As := [zI a0, zI a1, zP none]) (st := []) x (m_J17_checkIndex hl a0 a1 none) q854 q855 q132 q856 n_J17_checkIndex ⟨by decide, by decide⟩ (Nat.le_of_ble_eq_true rfl) dJ24_checkIndex_3) (zv_I fun v3 => ?_) (fun q => zx_thr x (fun z hz => (htab z hz).elim) q)
  exact z_iret (pc := 6) x hret dJ24_checkIndex_6
/-! J2_elementData -/
def s_J2_elementData (E : zE) (a0 : Option Nat) (a1 : Int32) : zM := zGetR a0 10 1 (fun v1 => zGaR 5 v1 a1 (fun v5 => zRet (some (va_rf v5))))
theorem m_J2_elementData {l : Launch} {E : zE} {D : va_G} {tA : Nat → ClassId} (hl : l.stackTraces = false) (a0 : Option Nat) (a1 : Int32) : zMet l E D tA yJ2_elementData (ws_ yJ2_elementData cJ2_elementData 2 (Option.some (Jvm.ClassFile.FieldType.object "java/lang/Object"))) 9 (s_J2_elementData E a0 a1) [zP a0, zI a1] := by
  refine z_met hl (by decide +kernel) (by rw [zSl_len]; exact (Nat.le_of_ble_eq_true rfl)) fun p e R s m args below meth c k0 x hret hnm htab => ?_
  refine z_lv [(0, zP a0), (1, zI a1)] rfl ?_
  unfold s_J2_elementData
  refine z_aload_n (pc := 0) x 0 dJ2_elementData_0 rfl rfl ?_
  refine z_get (pc := 1) (fun _ _ h => zAsR_eq h) x in_J2 (ci := 10) rfl (k := 1) (by decide) q195 (fun _ h => h) dJ2_elementData_1 fun v1 => ?_
  refine z_iload_n (pc := 4) x 1 dJ2_elementData_4 rfl rfl ?_
  refine z_aald (pc := 5) x (t := 5) rfl rfl dJ2_elementData_5 fun v5 => ?_
  exact z_aret (pc := 6) x hret (Or.inl ⟨_, rfl⟩) dJ2_elementData_6
/-! J2_get -/
def s_J2_get (E : zE) (a0 : Option Nat) (a1 : Int32) : zM := zGetI a0 10 2 (fun v2 => zC (s_J24_checkIndex E a1 v2) zThr (zKI (fun v5 => zC (zRv a0 [(10, fun b => s_J2_elementData E (some b) a1)]) zThr (zKR (fun v11 => zRet (some (va_rf v11)))))))
theorem m_J2_get {l : Launch} {E : zE} {D : va_G} {tA : Nat → ClassId} (hl : l.stackTraces = false) (a0 : Option Nat) (a1 : Int32) : zMet l E D tA yJ2_get (ws_ yJ2_get cJ2_get 2 (Option.some (Jvm.ClassFile.FieldType.object "java/lang/Object"))) 11 (s_J2_get E a0 a1) [zP a0, zI a1] := by
  refine z_met hl (by decide +kernel) (by rw [zSl_len]; exact (Nat.le_of_ble_eq_true rfl)) fun p e R s m args below meth c k0 x hret hnm htab => ?_
  refine z_lv [(0, zP a0), (1, zI a1)] rfl ?_
  unfold s_J2_get
  refine z_iload_n (pc := 0) x 1 dJ2_get_0 rfl rfl ?_
  refine z_aload_n (pc := 1) x 0 dJ2_get_1 rfl rfl ?_
  refine z_get (pc := 2) (fun _ _ h => zAsI_eq h) x in_J2 (ci := 10) rfl (k := 2) (by decide) q198 (fun _ h => h) dJ2_get_2 fun v2 => ?_
  refine z_call (pc := 5) (z_canS (pc := 5) (As := [zI a1, zI v2]) (st := []) x (m_J24_checkIndex hl a1 v2) q851 q852 q141 q853 n_J24_checkIndex ⟨by decide, by decide⟩ (Nat.le_of_ble_eq_true rfl) dJ2_get_5) (zv_I fun v5 => ?_) (fun q => zx_thr x (fun z hz => (htab z hz).elim) q)
  refine z_pop (pc := 8) x dJ2_get_8 rfl ?_
  refine z_aload_n (pc := 9) x 0 dJ2_get_9 rfl rfl ?_
  refine z_iload_n (pc := 10) x 1 dJ2_get_10 rfl rfl ?_
  refine z_call (pc := 11) (z_canV (pc := 11) (As := [zI a1]) (st := []) x (ci := 10) rfl (fun b => m_J2_elementData hl (some b) a1) q857 q858 (x.2.2.2.2.1 _ q859) q112 q860 n_J2_elementData ⟨by decide, by decide⟩ (Nat.le_of_ble_eq_true rfl) dJ2_get_11) (zv_R fun v11 => ?_) (fun q => zx_thr x (fun z hz => (htab z hz).elim) q)
  exact z_aret (pc := 14) x hret (Or.inl ⟨_, rfl⟩) dJ2_get_14
end ZGEN1
