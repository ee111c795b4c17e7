set_option maxRecDepth 100000
theorem yd_J13_bitCount : yJ13_bitCount.cls ≠ "java/lang/invoke/MethodHandle" ∧ yJ13_bitCount.cls ≠ "java/lang/invoke/VarHandle" ∧ (parseMethodDescriptor yJ13_bitCount.desc).map (fun d => d.parameters.length) = some 1 := by decide +kernel
theorem ydv_X0_all : yX0_all.cls = RX0 ∧ yX0_all.cls ≠ "java/lang/invoke/MethodHandle" ∧ yX0_all.cls ≠ "java/lang/invoke/VarHandle" ∧ (parseMethodDescriptor yX0_all.desc).map (fun d => d.parameters.length) = some 0 := by decide +kernel
theorem yd_X0_areDeeds : yX0_areDeeds.cls ≠ "java/lang/invoke/MethodHandle" ∧ yX0_areDeeds.cls ≠ "java/lang/invoke/VarHandle" ∧ (parseMethodDescriptor yX0_areDeeds.desc).map (fun d => d.parameters.length) = some 1 := by decide +kernel
theorem ydv_X0_asksDeeds : yX0_asksDeeds.cls = RX0 ∧ yX0_asksDeeds.cls ≠ "java/lang/invoke/MethodHandle" ∧ yX0_asksDeeds.cls ≠ "java/lang/invoke/VarHandle" ∧ (parseMethodDescriptor yX0_asksDeeds.desc).map (fun d => d.parameters.length) = some 1 := by decide +kernel
theorem ydv_X0_buyOf : yX0_buyOf.cls = RX0 ∧ yX0_buyOf.cls ≠ "java/lang/invoke/MethodHandle" ∧ yX0_buyOf.cls ≠ "java/lang/invoke/VarHandle" ∧ (parseMethodDescriptor yX0_buyOf.desc).map (fun d => d.parameters.length) = some 1 := by decide +kernel
theorem ydv_X0_canAsk : yX0_canAsk.cls = RX0 ∧ yX0_canAsk.cls ≠ "java/lang/invoke/MethodHandle" ∧ yX0_canAsk.cls ≠ "java/lang/invoke/VarHandle" ∧ (parseMethodDescriptor yX0_canAsk.desc).map (fun d => d.parameters.length) = some 2 := by decide +kernel
theorem ydv_X0_cost : yX0_cost.cls = RX0 ∧ yX0_cost.cls ≠ "java/lang/invoke/MethodHandle" ∧ yX0_cost.cls ≠ "java/lang/invoke/VarHandle" ∧ (parseMethodDescriptor yX0_cost.desc).map (fun d => d.parameters.length) = some 1 := by decide +kernel
theorem ydv_X0_deals : yX0_deals.cls = RX0 ∧ yX0_deals.cls ≠ "java/lang/invoke/MethodHandle" ∧ yX0_deals.cls ≠ "java/lang/invoke/VarHandle" ∧ (parseMethodDescriptor yX0_deals.desc).map (fun d => d.parameters.length) = some 1 := by decide +kernel
theorem ydv_X0_deedsIn : yX0_deedsIn.cls = RX0 ∧ yX0_deedsIn.cls ≠ "java/lang/invoke/MethodHandle" ∧ yX0_deedsIn.cls ≠ "java/lang/invoke/VarHandle" ∧ (parseMethodDescriptor yX0_deedsIn.desc).map (fun d => d.parameters.length) = some 1 := by decide +kernel
theorem ydv_X0_deedsOf : yX0_deedsOf.cls = RX0 ∧ yX0_deedsOf.cls ≠ "java/lang/invoke/MethodHandle" ∧ yX0_deedsOf.cls ≠ "java/lang/invoke/VarHandle" ∧ (parseMethodDescriptor yX0_deedsOf.desc).map (fun d => d.parameters.length) = some 1 := by decide +kernel
theorem ydv_X0_handOf : yX0_handOf.cls = RX0 ∧ yX0_handOf.cls ≠ "java/lang/invoke/MethodHandle" ∧ yX0_handOf.cls ≠ "java/lang/invoke/VarHandle" ∧ (parseMethodDescriptor yX0_handOf.desc).map (fun d => d.parameters.length) = some 1 := by decide +kernel
theorem ydv_X0_hireOf : yX0_hireOf.cls = RX0 ∧ yX0_hireOf.cls ≠ "java/lang/invoke/MethodHandle" ∧ yX0_hireOf.cls ≠ "java/lang/invoke/VarHandle" ∧ (parseMethodDescriptor yX0_hireOf.desc).map (fun d => d.parameters.length) = some 1 := by decide +kernel
theorem ydv_X0_isBudget : yX0_isBudget.cls = RX0 ∧ yX0_isBudget.cls ≠ "java/lang/invoke/MethodHandle" ∧ yX0_isBudget.cls ≠ "java/lang/invoke/VarHandle" ∧ (parseMethodDescriptor yX0_isBudget.desc).map (fun d => d.parameters.length) = some 1 := by decide +kernel
theorem ydv_X0_isCity : yX0_isCity.cls = RX0 ∧ yX0_isCity.cls ≠ "java/lang/invoke/MethodHandle" ∧ yX0_isCity.cls ≠ "java/lang/invoke/VarHandle" ∧ (parseMethodDescriptor yX0_isCity.desc).map (fun d => d.parameters.length) = some 0 := by decide +kernel
theorem ydv_X0_isDayEnd : yX0_isDayEnd.cls = RX0 ∧ yX0_isDayEnd.cls ≠ "java/lang/invoke/MethodHandle" ∧ yX0_isDayEnd.cls ≠ "java/lang/invoke/VarHandle" ∧ (parseMethodDescriptor yX0_isDayEnd.desc).map (fun d => d.parameters.length) = some 2 := by decide +kernel
theorem yd_X0_isDeed : yX0_isDeed.cls ≠ "java/lang/invoke/MethodHandle" ∧ yX0_isDeed.cls ≠ "java/lang/invoke/VarHandle" ∧ (parseMethodDescriptor yX0_isDeed.desc).map (fun d => d.parameters.length) = some 1 := by decide +kernel
theorem yd_X0_isIn : yX0_isIn.cls ≠ "java/lang/invoke/MethodHandle" ∧ yX0_isIn.cls ≠ "java/lang/invoke/VarHandle" ∧ (parseMethodDescriptor yX0_isIn.desc).map (fun d => d.parameters.length) = some 3 := by decide +kernel
theorem yd_X0_isOf : yX0_isOf.cls ≠ "java/lang/invoke/MethodHandle" ∧ yX0_isOf.cls ≠ "java/lang/invoke/VarHandle" ∧ (parseMethodDescriptor yX0_isOf.desc).map (fun d => d.parameters.length) = some 2 := by decide +kernel
theorem yd_X0_isOneOf : yX0_isOneOf.cls ≠ "java/lang/invoke/MethodHandle" ∧ yX0_isOneOf.cls ≠ "java/lang/invoke/VarHandle" ∧ (parseMethodDescriptor yX0_isOneOf.desc).map (fun d => d.parameters.length) = some 2 := by decide +kernel
theorem ydv_X0_isPerson : yX0_isPerson.cls = RX0 ∧ yX0_isPerson.cls ≠ "java/lang/invoke/MethodHandle" ∧ yX0_isPerson.cls ≠ "java/lang/invoke/VarHandle" ∧ (parseMethodDescriptor yX0_isPerson.desc).map (fun d => d.parameters.length) = some 1 := by decide +kernel
theorem yd_X0_isSeed : yX0_isSeed.cls ≠ "java/lang/invoke/MethodHandle" ∧ yX0_isSeed.cls ≠ "java/lang/invoke/VarHandle" ∧ (parseMethodDescriptor yX0_isSeed.desc).map (fun d => d.parameters.length) = some 1 := by decide +kernel
theorem yd_X0_isSlot : yX0_isSlot.cls ≠ "java/lang/invoke/MethodHandle" ∧ yX0_isSlot.cls ≠ "java/lang/invoke/VarHandle" ∧ (parseMethodDescriptor yX0_isSlot.desc).map (fun d => d.parameters.length) = some 1 := by decide +kernel
theorem ydv_X0_leastOf : yX0_leastOf.cls = RX0 ∧ yX0_leastOf.cls ≠ "java/lang/invoke/MethodHandle" ∧ yX0_leastOf.cls ≠ "java/lang/invoke/VarHandle" ∧ (parseMethodDescriptor yX0_leastOf.desc).map (fun d => d.parameters.length) = some 1 := by decide +kernel
theorem yd_X0_limit : yX0_limit.cls ≠ "java/lang/invoke/MethodHandle" ∧ yX0_limit.cls ≠ "java/lang/invoke/VarHandle" ∧ (parseMethodDescriptor yX0_limit.desc).map (fun d => d.parameters.length) = some 1 := by decide +kernel
theorem ydv_X0_number : yX0_number.cls = RX0 ∧ yX0_number.cls ≠ "java/lang/invoke/MethodHandle" ∧ yX0_number.cls ≠ "java/lang/invoke/VarHandle" ∧ (parseMethodDescriptor yX0_number.desc).map (fun d => d.parameters.length) = some 2 := by decide +kernel
theorem ydv_X0_pairs : yX0_pairs.cls = RX0 ∧ yX0_pairs.cls ≠ "java/lang/invoke/MethodHandle" ∧ yX0_pairs.cls ≠ "java/lang/invoke/VarHandle" ∧ (parseMethodDescriptor yX0_pairs.desc).map (fun d => d.parameters.length) = some 2 := by decide +kernel
theorem ydv_X0_puts : yX0_puts.cls = RX0 ∧ yX0_puts.cls ≠ "java/lang/invoke/MethodHandle" ∧ yX0_puts.cls ≠ "java/lang/invoke/VarHandle" ∧ (parseMethodDescriptor yX0_puts.desc).map (fun d => d.parameters.length) = some 1 := by decide +kernel
theorem ydv_X0_ringMany : yX0_ringMany.cls = RX0 ∧ yX0_ringMany.cls ≠ "java/lang/invoke/MethodHandle" ∧ yX0_ringMany.cls ≠ "java/lang/invoke/VarHandle" ∧ (parseMethodDescriptor yX0_ringMany.desc).map (fun d => d.parameters.length) = some 0 := by decide +kernel
theorem ydv_X0_ringOf : yX0_ringOf.cls = RX0 ∧ yX0_ringOf.cls ≠ "java/lang/invoke/MethodHandle" ∧ yX0_ringOf.cls ≠ "java/lang/invoke/VarHandle" ∧ (parseMethodDescriptor yX0_ringOf.desc).map (fun d => d.parameters.length) = some 1 := by decide +kernel
theorem ydv_X0_timeOf : yX0_timeOf.cls = RX0 ∧ yX0_timeOf.cls ≠ "java/lang/invoke/MethodHandle" ∧ yX0_timeOf.cls ≠ "java/lang/invoke/VarHandle" ∧ (parseMethodDescriptor yX0_timeOf.desc).map (fun d => d.parameters.length) = some 2 := by decide +kernel
theorem ydv_X0_underOf : yX0_underOf.cls = RX0 ∧ yX0_underOf.cls ≠ "java/lang/invoke/MethodHandle" ∧ yX0_underOf.cls ≠ "java/lang/invoke/VarHandle" ∧ (parseMethodDescriptor yX0_underOf.desc).map (fun d => d.parameters.length) = some 1 := by decide +kernel
theorem ydv_X0_watchOf : yX0_watchOf.cls = RX0 ∧ yX0_watchOf.cls ≠ "java/lang/invoke/MethodHandle" ∧ yX0_watchOf.cls ≠ "java/lang/invoke/VarHandle" ∧ (parseMethodDescriptor yX0_watchOf.desc).map (fun d => d.parameters.length) = some 1 := by decide +kernel
theorem ydv_X0_winsBy : yX0_winsBy.cls = RX0 ∧ yX0_winsBy.cls ≠ "java/lang/invoke/MethodHandle" ∧ yX0_winsBy.cls ≠ "java/lang/invoke/VarHandle" ∧ (parseMethodDescriptor yX0_winsBy.desc).map (fun d => d.parameters.length) = some 2 := by decide +kernel
theorem ydv_X0_wishing : yX0_wishing.cls = RX0 ∧ yX0_wishing.cls ≠ "java/lang/invoke/MethodHandle" ∧ yX0_wishing.cls ≠ "java/lang/invoke/VarHandle" ∧ (parseMethodDescriptor yX0_wishing.desc).map (fun d => d.parameters.length) = some 1 := by decide +kernel
theorem ydv_X0_won : yX0_won.cls = RX0 ∧ yX0_won.cls ≠ "java/lang/invoke/MethodHandle" ∧ yX0_won.cls ≠ "java/lang/invoke/VarHandle" ∧ (parseMethodDescriptor yX0_won.desc).map (fun d => d.parameters.length) = some 2 := by decide +kernel
theorem ydv_X0_worthOf : yX0_worthOf.cls = RX0 ∧ yX0_worthOf.cls ≠ "java/lang/invoke/MethodHandle" ∧ yX0_worthOf.cls ≠ "java/lang/invoke/VarHandle" ∧ (parseMethodDescriptor yX0_worthOf.desc).map (fun d => d.parameters.length) = some 1 := by decide +kernel
theorem lk_X0_63 : GoodIn lw_all (wsV RX0 63 RX0 yX0_puts (ws_ yX0_puts cX0_puts 3 none)) := lw_V q371 q373 qs0 q136 q374
theorem lk_X0_67 : GoodIn lw_all (va_wsS RX0 67 yX0_isIn (ws_ yX0_isIn cX0_isIn 6 (some .boolean))) := lw_S q379 q380 q136 q381
theorem lk_X0_114 : GoodIn lw_all (va_wsS RX0 114 yX0_isOf (ws_ yX0_isOf cX0_isOf 2 (some .boolean))) := lw_S q803 q624 q136 q625
theorem lk_X0_198 : GoodIn lw_all (wsV RX0 198 RX0 yX0_handOf (ws_ yX0_handOf cX0_handOf 4 (some .int))) := lw_V q818 q820 qs24 q136 q821
theorem lk_X0_211 : GoodIn lw_all (wsV RX0 211 RX0 yX0_cost (ws_ yX0_cost cX0_cost 2 (some .int))) := lw_V q847 q849 qs28 q136 q850
theorem lk_X0_218 : GoodIn lw_all (wsV RX0 218 RX0 yX0_ringOf (ws_ yX0_ringOf cX0_ringOf 4 (some .int))) := lw_V q859 q861 qs29 q136 q862
theorem lk_X0_226 : GoodIn lw_all (wsV RX0 226 RX0 yX0_leastOf (ws_ yX0_leastOf cX0_leastOf 4 (some .int))) := lw_V q871 q873 qs31 q136 q874
theorem lk_X0_97 : GoodIn lw_all (va_wsS RX0 97 yX0_isOneOf (ws_ yX0_isOneOf cX0_isOneOf 3 (some .boolean))) := lw_S q640 q641 q136 q642
theorem lk_X0_214 : GoodIn lw_all (wsV RX0 214 RX0 yX0_timeOf (ws_ yX0_timeOf cX0_timeOf 6 (some .int))) := lw_V q843 q845 qs27 q136 q846
theorem lk_X0_186 : GoodIn lw_all (wsV RX0 186 RX0 yX0_isPerson (ws_ yX0_isPerson cX0_isPerson 3 (some .boolean))) := lw_V q636 q638 qs15 q136 q639
theorem lk_X0_232 : GoodIn lw_all (va_wsS RX0 232 yX0_isDeed (ws_ yX0_isDeed cX0_isDeed 2 (some .boolean))) := lw_S q880 q881 q136 q882
theorem lk_X0_103 : GoodIn lw_all (wsV RX0 103 RX0 yX0_isCity (ws_ yX0_isCity cX0_isCity 1 (some .boolean))) := lw_V q827 q829 qs25 q136 q830
theorem lk_X0_281 : GoodIn lw_all (va_wsS RX0 281 yX0_areDeeds (ws_ yX0_areDeeds cX0_areDeeds 1 (some .boolean))) := lw_S q991 q992 q136 q993
theorem lk_X0_107 : GoodIn lw_all (wsV RX0 107 RX0 yX0_all (ws_ yX0_all cX0_all 1 (some .int))) := lw_V q999 q1001 qs43 q136 q1002
theorem lk_X0_238 : GoodIn lw_all (wsV RX0 238 RX0 yX0_deedsOf (ws_ yX0_deedsOf cX0_deedsOf 4 (some .int))) := lw_V q899 q901 qs33 q136 q902
theorem lk_X0_288 : GoodIn lw_all (wsV RX0 288 RX0 yX0_worthOf (ws_ yX0_worthOf cX0_worthOf 4 (some .int))) := lw_V q1025 q1027 qs46 q136 q1028
theorem lk_X0_291 : GoodIn lw_all (wsV RX0 291 RX0 yX0_buyOf (ws_ yX0_buyOf cX0_buyOf 4 (some .int))) := lw_V q1021 q1023 qs45 q136 q1024
theorem lk_X0_296 : GoodIn lw_all (wsV RX0 296 RX0 yX0_isBudget (ws_ yX0_isBudget cX0_isBudget 2 (some .boolean))) := lw_V q1037 q1039 qs47 q136 q1040
theorem lk_X0_273 : GoodIn lw_all (va_wsS RX0 273 yJ13_bitCount (ws_ yJ13_bitCount cJ13_bitCount 1 (some .int))) := lw_S q1003 q1004 q164 q1005
theorem lk_X0_299 : GoodIn lw_all (wsV RX0 299 RX0 yX0_hireOf (ws_ yX0_hireOf cX0_hireOf 4 (some .int))) := lw_V q1042 q1044 qs48 q136 q1045
theorem lk_X0_306 : GoodIn lw_all (va_wsS RX0 306 yX0_isSlot (ws_ yX0_isSlot cX0_isSlot 1 (some .boolean))) := lw_S q1085 q1086 q136 q1087
theorem lk_X0_309 : GoodIn lw_all (wsV RX0 309 RX2 yX2_size (ws_ yX2_size cX2_size 1 (some .int))) := lw_V q1089 q1090 q1091 q141 q1092
theorem lk_X0_302 : GoodIn lw_all (wsV RX0 302 RX2 yX2_at (ws_ yX2_at cX2_at 2 (some .long))) := lw_V q1097 q1098 q1099 q141 q1100
theorem lk_X0_317 : GoodIn lw_all (wsV RX0 317 RX0 yX0_asksDeeds (wsW_ yX0_asksDeeds cX0_asksDeeds 4 (some .int) [(17, 52, 61, 312), (53, 60, 61, 312)])) := lw_VW q1054 q1056 qs49 q136 q1057
theorem lk_X0_314 : GoodIn lw_all (wsV RX0 314 RX0 yX0_number (ws_ yX0_number cX0_number 3 (some .int))) := lw_V q1105 q1107 qs51 q136 q1108
theorem lk_X0_320 : GoodIn lw_all (wsV RX0 320 RX0 yX0_deedsIn (ws_ yX0_deedsIn cX0_deedsIn 4 (some .int))) := lw_V q1101 q1103 qs50 q136 q1104
theorem lk_X0_323 : GoodIn lw_all (wsV RX0 323 RX0 yX0_wishing (ws_ yX0_wishing cX0_wishing 4 (some .int))) := lw_V q1109 q1111 qs52 q136 q1112
theorem lk_X0_332 : GoodIn lw_all (wsV RX0 332 RX0 yX0_watchOf (ws_ yX0_watchOf cX0_watchOf 7 (some .int))) := lw_V q1117 q1119 qs53 q136 q1120
theorem lk_X0_345 : GoodIn lw_all (wsV RX0 345 RX0 yX0_won (ws_ yX0_won cX0_won 3 (some .int))) := lw_V q1150 q1152 qs56 q136 q1153
theorem lk_X0_358 : GoodIn lw_all (wsV RX0 358 RX0 yX0_winsBy (ws_ yX0_winsBy cX0_winsBy 4 (some .int))) := lw_V q1174 q1176 qs59 q136 q1177
theorem lk_X0_208 : GoodIn lw_all (wsV RX0 208 RX0 yX0_underOf (ws_ yX0_underOf cX0_underOf 5 (some .int))) := lw_V q835 q837 qs26 q136 q838
theorem lk_X0_375 : GoodIn lw_all (wsV RX0 375 RX0 yX0_isDayEnd (ws_ yX0_isDayEnd cX0_isDayEnd 3 (some .boolean))) := lw_V q1230 q1232 qs63 q136 q1233
theorem lk_X0_392 : GoodIn lw_all (va_wsS RX0 392 yX0_isSeed (ws_ yX0_isSeed cX0_isSeed 1 (some .boolean))) := lw_S q1247 q1248 q136 q1249
theorem lk_X0_395 : GoodIn lw_all (wsV RX0 395 RX0 yX0_deals (ws_ yX0_deals cX0_deals 9 none)) := lw_V q1251 q1253 qs65 q136 q1254
theorem lk_X0_229 : GoodIn lw_all (wsV RX0 229 RX0 yX0_ringMany (ws_ yX0_ringMany cX0_ringMany 3 (some .int))) := lw_V q867 q869 qs30 q136 q870
theorem lk_X0_419 : GoodIn lw_all (wsV RX0 419 RX2 yX2_make (ws_ yX2_make cX2_make 3 none)) := lw_V q1336 q1337 q1338 q141 q1339
theorem lk_X0_424 : GoodIn lw_all (wsV RX0 424 RX2 yX2_put (ws_ yX2_put cX2_put 4 none)) := lw_V q1365 q1366 q1367 q141 q1368
theorem lk_X0_256 : GoodIn lw_all (wsV RX0 256 RX0 yX0_canAsk (ws_ yX0_canAsk cX0_canAsk 3 (some .boolean))) := lw_V q975 q977 qs40 q136 q978
theorem lk_X0_262 : GoodIn lw_all (wsV RX0 262 RX0 yX0_pairs (ws_ yX0_pairs cX0_pairs 5 (some .boolean))) := lw_V q971 q973 qs39 q136 q974
