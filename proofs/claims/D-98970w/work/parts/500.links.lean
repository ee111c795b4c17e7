set_option maxRecDepth 100000
theorem ydv_X0_asAtFirst : yX0_asAtFirst.cls = RX0 ∧ yX0_asAtFirst.cls ≠ "java/lang/invoke/MethodHandle" ∧ yX0_asAtFirst.cls ≠ "java/lang/invoke/VarHandle" ∧ (parseMethodDescriptor yX0_asAtFirst.desc).map (fun d => d.parameters.length) = some 0 := by decide +kernel
theorem ydv_X0_asItIs : yX0_asItIs.cls = RX0 ∧ yX0_asItIs.cls ≠ "java/lang/invoke/MethodHandle" ∧ yX0_asItIs.cls ≠ "java/lang/invoke/VarHandle" ∧ (parseMethodDescriptor yX0_asItIs.desc).map (fun d => d.parameters.length) = some 0 := by decide +kernel
theorem ydv_X0_asksRow : yX0_asksRow.cls = RX0 ∧ yX0_asksRow.cls ≠ "java/lang/invoke/MethodHandle" ∧ yX0_asksRow.cls ≠ "java/lang/invoke/VarHandle" ∧ (parseMethodDescriptor yX0_asksRow.desc).map (fun d => d.parameters.length) = some 1 := by decide +kernel
theorem ydv_X0_coverOf : yX0_coverOf.cls = RX0 ∧ yX0_coverOf.cls ≠ "java/lang/invoke/MethodHandle" ∧ yX0_coverOf.cls ≠ "java/lang/invoke/VarHandle" ∧ (parseMethodDescriptor yX0_coverOf.desc).map (fun d => d.parameters.length) = some 1 := by decide +kernel
theorem yd_X0_divisor : yX0_divisor.cls ≠ "java/lang/invoke/MethodHandle" ∧ yX0_divisor.cls ≠ "java/lang/invoke/VarHandle" ∧ (parseMethodDescriptor yX0_divisor.desc).map (fun d => d.parameters.length) = some 2 := by decide +kernel
theorem ydv_X0_doerOf : yX0_doerOf.cls = RX0 ∧ yX0_doerOf.cls ≠ "java/lang/invoke/MethodHandle" ∧ yX0_doerOf.cls ≠ "java/lang/invoke/VarHandle" ∧ (parseMethodDescriptor yX0_doerOf.desc).map (fun d => d.parameters.length) = some 2 := by decide +kernel
theorem ydv_X0_does : yX0_does.cls = RX0 ∧ yX0_does.cls ≠ "java/lang/invoke/MethodHandle" ∧ yX0_does.cls ≠ "java/lang/invoke/VarHandle" ∧ (parseMethodDescriptor yX0_does.desc).map (fun d => d.parameters.length) = some 1 := by decide +kernel
theorem ydv_X0_goesBy : yX0_goesBy.cls = RX0 ∧ yX0_goesBy.cls ≠ "java/lang/invoke/MethodHandle" ∧ yX0_goesBy.cls ≠ "java/lang/invoke/VarHandle" ∧ (parseMethodDescriptor yX0_goesBy.desc).map (fun d => d.parameters.length) = some 1 := by decide +kernel
theorem ydv_X0_handsOf : yX0_handsOf.cls = RX0 ∧ yX0_handsOf.cls ≠ "java/lang/invoke/MethodHandle" ∧ yX0_handsOf.cls ≠ "java/lang/invoke/VarHandle" ∧ (parseMethodDescriptor yX0_handsOf.desc).map (fun d => d.parameters.length) = some 1 := by decide +kernel
theorem ydv_X0_isAsking : yX0_isAsking.cls = RX0 ∧ yX0_isAsking.cls ≠ "java/lang/invoke/MethodHandle" ∧ yX0_isAsking.cls ≠ "java/lang/invoke/VarHandle" ∧ (parseMethodDescriptor yX0_isAsking.desc).map (fun d => d.parameters.length) = some 3 := by decide +kernel
theorem ydv_X0_isDealt : yX0_isDealt.cls = RX0 ∧ yX0_isDealt.cls ≠ "java/lang/invoke/MethodHandle" ∧ yX0_isDealt.cls ≠ "java/lang/invoke/VarHandle" ∧ (parseMethodDescriptor yX0_isDealt.desc).map (fun d => d.parameters.length) = some 0 := by decide +kernel
theorem ydv_X0_isDuel : yX0_isDuel.cls = RX0 ∧ yX0_isDuel.cls ≠ "java/lang/invoke/MethodHandle" ∧ yX0_isDuel.cls ≠ "java/lang/invoke/VarHandle" ∧ (parseMethodDescriptor yX0_isDuel.desc).map (fun d => d.parameters.length) = some 2 := by decide +kernel
theorem ydv_X0_isFreeWish : yX0_isFreeWish.cls = RX0 ∧ yX0_isFreeWish.cls ≠ "java/lang/invoke/MethodHandle" ∧ yX0_isFreeWish.cls ≠ "java/lang/invoke/VarHandle" ∧ (parseMethodDescriptor yX0_isFreeWish.desc).map (fun d => d.parameters.length) = some 2 := by decide +kernel
theorem ydv_X0_isSet : yX0_isSet.cls = RX0 ∧ yX0_isSet.cls ≠ "java/lang/invoke/MethodHandle" ∧ yX0_isSet.cls ≠ "java/lang/invoke/VarHandle" ∧ (parseMethodDescriptor yX0_isSet.desc).map (fun d => d.parameters.length) = some 1 := by decide +kernel
theorem ydv_X0_keeps : yX0_keeps.cls = RX0 ∧ yX0_keeps.cls ≠ "java/lang/invoke/MethodHandle" ∧ yX0_keeps.cls ≠ "java/lang/invoke/VarHandle" ∧ (parseMethodDescriptor yX0_keeps.desc).map (fun d => d.parameters.length) = some 5 := by decide +kernel
theorem ydv_X0_laysOf : yX0_laysOf.cls = RX0 ∧ yX0_laysOf.cls ≠ "java/lang/invoke/MethodHandle" ∧ yX0_laysOf.cls ≠ "java/lang/invoke/VarHandle" ∧ (parseMethodDescriptor yX0_laysOf.desc).map (fun d => d.parameters.length) = some 2 := by decide +kernel
theorem ydv_X0_leaving : yX0_leaving.cls = RX0 ∧ yX0_leaving.cls ≠ "java/lang/invoke/MethodHandle" ∧ yX0_leaving.cls ≠ "java/lang/invoke/VarHandle" ∧ (parseMethodDescriptor yX0_leaving.desc).map (fun d => d.parameters.length) = some 1 := by decide +kernel
theorem ydv_X0_limit : yX0_limit.cls = RX0 ∧ yX0_limit.cls ≠ "java/lang/invoke/MethodHandle" ∧ yX0_limit.cls ≠ "java/lang/invoke/VarHandle" ∧ (parseMethodDescriptor yX0_limit.desc).map (fun d => d.parameters.length) = some 1 := by decide +kernel
theorem ydv_X0_pairsAll : yX0_pairsAll.cls = RX0 ∧ yX0_pairsAll.cls ≠ "java/lang/invoke/MethodHandle" ∧ yX0_pairsAll.cls ≠ "java/lang/invoke/VarHandle" ∧ (parseMethodDescriptor yX0_pairsAll.desc).map (fun d => d.parameters.length) = some 1 := by decide +kernel
theorem ydv_X0_powerOf : yX0_powerOf.cls = RX0 ∧ yX0_powerOf.cls ≠ "java/lang/invoke/MethodHandle" ∧ yX0_powerOf.cls ≠ "java/lang/invoke/VarHandle" ∧ (parseMethodDescriptor yX0_powerOf.desc).map (fun d => d.parameters.length) = some 1 := by decide +kernel
theorem ydv_X0_ransomOf : yX0_ransomOf.cls = RX0 ∧ yX0_ransomOf.cls ≠ "java/lang/invoke/MethodHandle" ∧ yX0_ransomOf.cls ≠ "java/lang/invoke/VarHandle" ∧ (parseMethodDescriptor yX0_ransomOf.desc).map (fun d => d.parameters.length) = some 2 := by decide +kernel
theorem ydv_X0_whyNot : yX0_whyNot.cls = RX0 ∧ yX0_whyNot.cls ≠ "java/lang/invoke/MethodHandle" ∧ yX0_whyNot.cls ≠ "java/lang/invoke/VarHandle" ∧ (parseMethodDescriptor yX0_whyNot.desc).map (fun d => d.parameters.length) = some 3 := by decide +kernel
theorem lk_X0_190 : GoodIn lw_all (wsV RX0 190 RX0 yX0_asItIs (ws_ yX0_asItIs cX0_asItIs 2 none)) := lw_V q643 q645 qs16 q136 q646
theorem lk_X0_205 : GoodIn lw_all (wsV RX0 205 RX0 yX0_limit (ws_ yX0_limit cX0_limit 2 (some .int))) := lw_V q822 q801 qs23 q136 q802
theorem lk_X0_235 : GoodIn lw_all (wsV RX0 235 RX0 yX0_doerOf (ws_ yX0_doerOf cX0_doerOf 5 (some .int))) := lw_V q883 q885 qs32 q136 q886
theorem lk_X0_241 : GoodIn lw_all (wsV RX0 241 RX0 yX0_isAsking (ws_ yX0_isAsking cX0_isAsking 4 (some .boolean))) := lw_V q907 q909 qs34 q136 q910
theorem lk_X0_245 : GoodIn lw_all (wsV RX0 245 RX0 yX0_whyNot (ws_ yX0_whyNot cX0_whyNot 4 (some .int))) := lw_V q911 q913 qs35 q136 q914
theorem lk_X0_149 : GoodIn lw_all (wsV RX0 149 RX0 yX0_does (ws_ yX0_does cX0_does 2 none)) := lw_V q654 q656 qs18 q136 q657
theorem lk_X0_249 : GoodIn lw_all (wsV RX0 249 RX0 yX0_keeps (ws_ yX0_keeps cX0_keeps 7 none)) := lw_V q919 q921 qs36 q136 q922
theorem lk_X0_253 : GoodIn lw_all (wsV RX0 253 RX0 yX0_isDealt (ws_ yX0_isDealt cX0_isDealt 2 (some .boolean))) := lw_V q955 q957 qs37 q136 q958
theorem lk_X0_265 : GoodIn lw_all (wsV RX0 265 RX0 yX0_pairsAll (ws_ yX0_pairsAll cX0_pairsAll 4 (some .int))) := lw_V q967 q969 qs38 q136 q970
theorem lk_X0_268 : GoodIn lw_all (wsV RX0 268 RX0 yX0_isFreeWish (ws_ yX0_isFreeWish cX0_isFreeWish 4 (some .boolean))) := lw_V q983 q985 qs41 q136 q986
theorem lk_X0_278 : GoodIn lw_all (wsV RX0 278 RX0 yX0_handsOf (ws_ yX0_handsOf cX0_handsOf 4 (some .int))) := lw_V q1009 q1011 qs44 q136 q1012
theorem lk_X0_285 : GoodIn lw_all (wsV RX0 285 RX0 yX0_coverOf (ws_ yX0_coverOf cX0_coverOf 4 (some .int))) := lw_V q995 q997 qs42 q136 q998
theorem lk_X0_335 : GoodIn lw_all (wsV RX0 335 RX0 yX0_isDuel (ws_ yX0_isDuel cX0_isDuel 3 (some .boolean))) := lw_V q1134 q1136 qs54 q136 q1137
theorem lk_X0_338 : GoodIn lw_all (va_wsS RX0 338 yX0_divisor (ws_ yX0_divisor cX0_divisor 5 (some .int))) := lw_S q1138 q1139 q136 q1140
theorem lk_X0_354 : GoodIn lw_all (wsV RX0 354 RX0 yX0_laysOf (ws_ yX0_laysOf cX0_laysOf 6 none)) := lw_V q1145 q1147 qs55 q136 q1148
theorem lk_X0_361 : GoodIn lw_all (wsV RX0 361 RX0 yX0_isSet (ws_ yX0_isSet cX0_isSet 2 (some .boolean))) := lw_V q1166 q1168 qs57 q136 q1169
theorem lk_X0_364 : GoodIn lw_all (wsV RX0 364 RX0 yX0_leaving (ws_ yX0_leaving cX0_leaving 4 (some .int))) := lw_V q1170 q1172 qs58 q136 q1173
theorem lk_X0_367 : GoodIn lw_all (wsV RX0 367 RX0 yX0_ransomOf (ws_ yX0_ransomOf cX0_ransomOf 5 (some .int))) := lw_V q1198 q1200 qs60 q136 q1201
theorem lk_X0_370 : GoodIn lw_all (wsV RX0 370 RX0 yX0_powerOf (ws_ yX0_powerOf cX0_powerOf 2 (some .int))) := lw_V q1210 q1212 qs61 q136 q1213
theorem lk_X0_378 : GoodIn lw_all (wsV RX0 378 RX0 yX0_asksRow (wsW_ yX0_asksRow cX0_asksRow 4 (some .int) [(17, 35, 117, 312), (36, 108, 117, 312), (109, 116, 117, 312)])) := lw_VW q1226 q1228 qs62 q136 q1229
theorem lk_X0_140 : GoodIn lw_all (wsV RX0 140 RX0 yX0_asAtFirst (ws_ yX0_asAtFirst cX0_asAtFirst 2 none)) := lw_V q647 q649 qs17 q136 q650
theorem lk_X0_381 : GoodIn lw_all (wsV RX0 381 RX0 yX0_goesBy (ws_ yX0_goesBy cX0_goesBy 4 (some .int))) := lw_V q1235 q1237 qs64 q136 q1238
