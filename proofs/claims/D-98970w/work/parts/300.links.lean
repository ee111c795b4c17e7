set_option maxRecDepth 100000
theorem ydv_X3_acts : yX3_acts.cls = RX3 ∧ yX3_acts.cls ≠ "java/lang/invoke/MethodHandle" ∧ yX3_acts.cls ≠ "java/lang/invoke/VarHandle" ∧ (parseMethodDescriptor yX3_acts.desc).map (fun d => d.parameters.length) = some 5 := by decide +kernel
theorem ydv_X3_areDeeds : yX3_areDeeds.cls = RX3 ∧ yX3_areDeeds.cls ≠ "java/lang/invoke/MethodHandle" ∧ yX3_areDeeds.cls ≠ "java/lang/invoke/VarHandle" ∧ (parseMethodDescriptor yX3_areDeeds.desc).map (fun d => d.parameters.length) = some 1 := by decide +kernel
theorem ydv_X3_areEven : yX3_areEven.cls = RX3 ∧ yX3_areEven.cls ≠ "java/lang/invoke/MethodHandle" ∧ yX3_areEven.cls ≠ "java/lang/invoke/VarHandle" ∧ (parseMethodDescriptor yX3_areEven.desc).map (fun d => d.parameters.length) = some 0 := by decide +kernel
theorem ydv_X3_arePeople : yX3_arePeople.cls = RX3 ∧ yX3_arePeople.cls ≠ "java/lang/invoke/MethodHandle" ∧ yX3_arePeople.cls ≠ "java/lang/invoke/VarHandle" ∧ (parseMethodDescriptor yX3_arePeople.desc).map (fun d => d.parameters.length) = some 2 := by decide +kernel
theorem ydv_X3_asks : yX3_asks.cls = RX3 ∧ yX3_asks.cls ≠ "java/lang/invoke/MethodHandle" ∧ yX3_asks.cls ≠ "java/lang/invoke/VarHandle" ∧ (parseMethodDescriptor yX3_asks.desc).map (fun d => d.parameters.length) = some 1 := by decide +kernel
theorem ydv_X3_begins : yX3_begins.cls = RX3 ∧ yX3_begins.cls ≠ "java/lang/invoke/MethodHandle" ∧ yX3_begins.cls ≠ "java/lang/invoke/VarHandle" ∧ (parseMethodDescriptor yX3_begins.desc).map (fun d => d.parameters.length) = some 0 := by decide +kernel
theorem ydv_X3_boughtOf : yX3_boughtOf.cls = RX3 ∧ yX3_boughtOf.cls ≠ "java/lang/invoke/MethodHandle" ∧ yX3_boughtOf.cls ≠ "java/lang/invoke/VarHandle" ∧ (parseMethodDescriptor yX3_boughtOf.desc).map (fun d => d.parameters.length) = some 1 := by decide +kernel
theorem ydv_X3_cardLine : yX3_cardLine.cls = RX3 ∧ yX3_cardLine.cls ≠ "java/lang/invoke/MethodHandle" ∧ yX3_cardLine.cls ≠ "java/lang/invoke/VarHandle" ∧ (parseMethodDescriptor yX3_cardLine.desc).map (fun d => d.parameters.length) = some 0 := by decide +kernel
theorem ydv_X3_clears : yX3_clears.cls = RX3 ∧ yX3_clears.cls ≠ "java/lang/invoke/MethodHandle" ∧ yX3_clears.cls ≠ "java/lang/invoke/VarHandle" ∧ (parseMethodDescriptor yX3_clears.desc).map (fun d => d.parameters.length) = some 0 := by decide +kernel
theorem yd_X3_common : yX3_common.cls ≠ "java/lang/invoke/MethodHandle" ∧ yX3_common.cls ≠ "java/lang/invoke/VarHandle" ∧ (parseMethodDescriptor yX3_common.desc).map (fun d => d.parameters.length) = some 2 := by decide +kernel
theorem ydv_X3_copyCity : yX3_copyCity.cls = RX3 ∧ yX3_copyCity.cls ≠ "java/lang/invoke/MethodHandle" ∧ yX3_copyCity.cls ≠ "java/lang/invoke/VarHandle" ∧ (parseMethodDescriptor yX3_copyCity.desc).map (fun d => d.parameters.length) = some 2 := by decide +kernel
theorem yd_X3_copyRow : yX3_copyRow.cls ≠ "java/lang/invoke/MethodHandle" ∧ yX3_copyRow.cls ≠ "java/lang/invoke/VarHandle" ∧ (parseMethodDescriptor yX3_copyRow.desc).map (fun d => d.parameters.length) = some 4 := by decide +kernel
theorem ydv_X3_coversOf : yX3_coversOf.cls = RX3 ∧ yX3_coversOf.cls ≠ "java/lang/invoke/MethodHandle" ∧ yX3_coversOf.cls ≠ "java/lang/invoke/VarHandle" ∧ (parseMethodDescriptor yX3_coversOf.desc).map (fun d => d.parameters.length) = some 1 := by decide +kernel
theorem yd_X3_cut : yX3_cut.cls ≠ "java/lang/invoke/MethodHandle" ∧ yX3_cut.cls ≠ "java/lang/invoke/VarHandle" ∧ (parseMethodDescriptor yX3_cut.desc).map (fun d => d.parameters.length) = some 2 := by decide +kernel
theorem ydv_X3_dayEnds : yX3_dayEnds.cls = RX3 ∧ yX3_dayEnds.cls ≠ "java/lang/invoke/MethodHandle" ∧ yX3_dayEnds.cls ≠ "java/lang/invoke/VarHandle" ∧ (parseMethodDescriptor yX3_dayEnds.desc).map (fun d => d.parameters.length) = some 0 := by decide +kernel
theorem ydv_X3_deedsHere : yX3_deedsHere.cls = RX3 ∧ yX3_deedsHere.cls ≠ "java/lang/invoke/MethodHandle" ∧ yX3_deedsHere.cls ≠ "java/lang/invoke/VarHandle" ∧ (parseMethodDescriptor yX3_deedsHere.desc).map (fun d => d.parameters.length) = some 0 := by decide +kernel
theorem ydv_X3_doerOf : yX3_doerOf.cls = RX3 ∧ yX3_doerOf.cls ≠ "java/lang/invoke/MethodHandle" ∧ yX3_doerOf.cls ≠ "java/lang/invoke/VarHandle" ∧ (parseMethodDescriptor yX3_doerOf.desc).map (fun d => d.parameters.length) = some 2 := by decide +kernel
theorem ydv_X3_does : yX3_does.cls = RX3 ∧ yX3_does.cls ≠ "java/lang/invoke/MethodHandle" ∧ yX3_does.cls ≠ "java/lang/invoke/VarHandle" ∧ (parseMethodDescriptor yX3_does.desc).map (fun d => d.parameters.length) = some 5 := by decide +kernel
theorem ydv_X3_doneBy : yX3_doneBy.cls = RX3 ∧ yX3_doneBy.cls ≠ "java/lang/invoke/MethodHandle" ∧ yX3_doneBy.cls ≠ "java/lang/invoke/VarHandle" ∧ (parseMethodDescriptor yX3_doneBy.desc).map (fun d => d.parameters.length) = some 1 := by decide +kernel
theorem ydv_X3_draws : yX3_draws.cls = RX3 ∧ yX3_draws.cls ≠ "java/lang/invoke/MethodHandle" ∧ yX3_draws.cls ≠ "java/lang/invoke/VarHandle" ∧ (parseMethodDescriptor yX3_draws.desc).map (fun d => d.parameters.length) = some 1 := by decide +kernel
theorem ydv_X3_ends : yX3_ends.cls = RX3 ∧ yX3_ends.cls ≠ "java/lang/invoke/MethodHandle" ∧ yX3_ends.cls ≠ "java/lang/invoke/VarHandle" ∧ (parseMethodDescriptor yX3_ends.desc).map (fun d => d.parameters.length) = some 0 := by decide +kernel
theorem ydv_X3_fails : yX3_fails.cls = RX3 ∧ yX3_fails.cls ≠ "java/lang/invoke/MethodHandle" ∧ yX3_fails.cls ≠ "java/lang/invoke/VarHandle" ∧ (parseMethodDescriptor yX3_fails.desc).map (fun d => d.parameters.length) = some 1 := by decide +kernel
theorem ydv_X3_four : yX3_four.cls = RX3 ∧ yX3_four.cls ≠ "java/lang/invoke/MethodHandle" ∧ yX3_four.cls ≠ "java/lang/invoke/VarHandle" ∧ (parseMethodDescriptor yX3_four.desc).map (fun d => d.parameters.length) = some 1 := by decide +kernel
theorem ydv_X3_freeNow : yX3_freeNow.cls = RX3 ∧ yX3_freeNow.cls ≠ "java/lang/invoke/MethodHandle" ∧ yX3_freeNow.cls ≠ "java/lang/invoke/VarHandle" ∧ (parseMethodDescriptor yX3_freeNow.desc).map (fun d => d.parameters.length) = some 0 := by decide +kernel
theorem ydv_X3_handOf : yX3_handOf.cls = RX3 ∧ yX3_handOf.cls ≠ "java/lang/invoke/MethodHandle" ∧ yX3_handOf.cls ≠ "java/lang/invoke/VarHandle" ∧ (parseMethodDescriptor yX3_handOf.desc).map (fun d => d.parameters.length) = some 1 := by decide +kernel
theorem ydv_X3_handsOf : yX3_handsOf.cls = RX3 ∧ yX3_handsOf.cls ≠ "java/lang/invoke/MethodHandle" ∧ yX3_handsOf.cls ≠ "java/lang/invoke/VarHandle" ∧ (parseMethodDescriptor yX3_handsOf.desc).map (fun d => d.parameters.length) = some 1 := by decide +kernel
theorem ydv_X3_hasRead : yX3_hasRead.cls = RX3 ∧ yX3_hasRead.cls ≠ "java/lang/invoke/MethodHandle" ∧ yX3_hasRead.cls ≠ "java/lang/invoke/VarHandle" ∧ (parseMethodDescriptor yX3_hasRead.desc).map (fun d => d.parameters.length) = some 1 := by decide +kernel
theorem ydv_X3_hiredOf : yX3_hiredOf.cls = RX3 ∧ yX3_hiredOf.cls ≠ "java/lang/invoke/MethodHandle" ∧ yX3_hiredOf.cls ≠ "java/lang/invoke/VarHandle" ∧ (parseMethodDescriptor yX3_hiredOf.desc).map (fun d => d.parameters.length) = some 1 := by decide +kernel
theorem yd_X3_in : yX3_in.cls ≠ "java/lang/invoke/MethodHandle" ∧ yX3_in.cls ≠ "java/lang/invoke/VarHandle" ∧ (parseMethodDescriptor yX3_in.desc).map (fun d => d.parameters.length) = some 3 := by decide +kernel
theorem ydv_X3_is : yX3_is.cls = RX3 ∧ yX3_is.cls ≠ "java/lang/invoke/MethodHandle" ∧ yX3_is.cls ≠ "java/lang/invoke/VarHandle" ∧ (parseMethodDescriptor yX3_is.desc).map (fun d => d.parameters.length) = some 1 := by decide +kernel
theorem ydv_X3_isAsked : yX3_isAsked.cls = RX3 ∧ yX3_isAsked.cls ≠ "java/lang/invoke/MethodHandle" ∧ yX3_isAsked.cls ≠ "java/lang/invoke/VarHandle" ∧ (parseMethodDescriptor yX3_isAsked.desc).map (fun d => d.parameters.length) = some 1 := by decide +kernel
theorem yd_X3_isBit : yX3_isBit.cls ≠ "java/lang/invoke/MethodHandle" ∧ yX3_isBit.cls ≠ "java/lang/invoke/VarHandle" ∧ (parseMethodDescriptor yX3_isBit.desc).map (fun d => d.parameters.length) = some 2 := by decide +kernel
theorem ydv_X3_isByte : yX3_isByte.cls = RX3 ∧ yX3_isByte.cls ≠ "java/lang/invoke/MethodHandle" ∧ yX3_isByte.cls ≠ "java/lang/invoke/VarHandle" ∧ (parseMethodDescriptor yX3_isByte.desc).map (fun d => d.parameters.length) = some 3 := by decide +kernel
theorem ydv_X3_isChain : yX3_isChain.cls = RX3 ∧ yX3_isChain.cls ≠ "java/lang/invoke/MethodHandle" ∧ yX3_isChain.cls ≠ "java/lang/invoke/VarHandle" ∧ (parseMethodDescriptor yX3_isChain.desc).map (fun d => d.parameters.length) = some 2 := by decide +kernel
theorem ydv_X3_isCity : yX3_isCity.cls = RX3 ∧ yX3_isCity.cls ≠ "java/lang/invoke/MethodHandle" ∧ yX3_isCity.cls ≠ "java/lang/invoke/VarHandle" ∧ (parseMethodDescriptor yX3_isCity.desc).map (fun d => d.parameters.length) = some 0 := by decide +kernel
theorem yd_X3_isDeed : yX3_isDeed.cls ≠ "java/lang/invoke/MethodHandle" ∧ yX3_isDeed.cls ≠ "java/lang/invoke/VarHandle" ∧ (parseMethodDescriptor yX3_isDeed.desc).map (fun d => d.parameters.length) = some 1 := by decide +kernel
theorem ydv_X3_isDuel : yX3_isDuel.cls = RX3 ∧ yX3_isDuel.cls ≠ "java/lang/invoke/MethodHandle" ∧ yX3_isDuel.cls ≠ "java/lang/invoke/VarHandle" ∧ (parseMethodDescriptor yX3_isDuel.desc).map (fun d => d.parameters.length) = some 2 := by decide +kernel
theorem ydv_X3_isFull : yX3_isFull.cls = RX3 ∧ yX3_isFull.cls ≠ "java/lang/invoke/MethodHandle" ∧ yX3_isFull.cls ≠ "java/lang/invoke/VarHandle" ∧ (parseMethodDescriptor yX3_isFull.desc).map (fun d => d.parameters.length) = some 0 := by decide +kernel
theorem ydv_X3_isGood : yX3_isGood.cls = RX3 ∧ yX3_isGood.cls ≠ "java/lang/invoke/MethodHandle" ∧ yX3_isGood.cls ≠ "java/lang/invoke/VarHandle" ∧ (parseMethodDescriptor yX3_isGood.desc).map (fun d => d.parameters.length) = some 0 := by decide +kernel
theorem ydv_X3_isOver : yX3_isOver.cls = RX3 ∧ yX3_isOver.cls ≠ "java/lang/invoke/MethodHandle" ∧ yX3_isOver.cls ≠ "java/lang/invoke/VarHandle" ∧ (parseMethodDescriptor yX3_isOver.desc).map (fun d => d.parameters.length) = some 0 := by decide +kernel
theorem ydv_X3_isPerson : yX3_isPerson.cls = RX3 ∧ yX3_isPerson.cls ≠ "java/lang/invoke/MethodHandle" ∧ yX3_isPerson.cls ≠ "java/lang/invoke/VarHandle" ∧ (parseMethodDescriptor yX3_isPerson.desc).map (fun d => d.parameters.length) = some 1 := by decide +kernel
theorem yd_X3_isSeed : yX3_isSeed.cls ≠ "java/lang/invoke/MethodHandle" ∧ yX3_isSeed.cls ≠ "java/lang/invoke/VarHandle" ∧ (parseMethodDescriptor yX3_isSeed.desc).map (fun d => d.parameters.length) = some 1 := by decide +kernel
theorem ydv_X3_isSet : yX3_isSet.cls = RX3 ∧ yX3_isSet.cls ≠ "java/lang/invoke/MethodHandle" ∧ yX3_isSet.cls ≠ "java/lang/invoke/VarHandle" ∧ (parseMethodDescriptor yX3_isSet.desc).map (fun d => d.parameters.length) = some 1 := by decide +kernel
theorem yd_X3_isSlot : yX3_isSlot.cls ≠ "java/lang/invoke/MethodHandle" ∧ yX3_isSlot.cls ≠ "java/lang/invoke/VarHandle" ∧ (parseMethodDescriptor yX3_isSlot.desc).map (fun d => d.parameters.length) = some 1 := by decide +kernel
theorem ydv_X3_judges : yX3_judges.cls = RX3 ∧ yX3_judges.cls ≠ "java/lang/invoke/MethodHandle" ∧ yX3_judges.cls ≠ "java/lang/invoke/VarHandle" ∧ (parseMethodDescriptor yX3_judges.desc).map (fun d => d.parameters.length) = some 1 := by decide +kernel
theorem ydv_X3_laidBy : yX3_laidBy.cls = RX3 ∧ yX3_laidBy.cls ≠ "java/lang/invoke/MethodHandle" ∧ yX3_laidBy.cls ≠ "java/lang/invoke/VarHandle" ∧ (parseMethodDescriptor yX3_laidBy.desc).map (fun d => d.parameters.length) = some 2 := by decide +kernel
theorem ydv_X3_laysNow : yX3_laysNow.cls = RX3 ∧ yX3_laysNow.cls ≠ "java/lang/invoke/MethodHandle" ∧ yX3_laysNow.cls ≠ "java/lang/invoke/VarHandle" ∧ (parseMethodDescriptor yX3_laysNow.desc).map (fun d => d.parameters.length) = some 0 := by decide +kernel
theorem ydv_X3_laysWatch : yX3_laysWatch.cls = RX3 ∧ yX3_laysWatch.cls ≠ "java/lang/invoke/MethodHandle" ∧ yX3_laysWatch.cls ≠ "java/lang/invoke/VarHandle" ∧ (parseMethodDescriptor yX3_laysWatch.desc).map (fun d => d.parameters.length) = some 1 := by decide +kernel
theorem ydv_X3_laysWork : yX3_laysWork.cls = RX3 ∧ yX3_laysWork.cls ≠ "java/lang/invoke/MethodHandle" ∧ yX3_laysWork.cls ≠ "java/lang/invoke/VarHandle" ∧ (parseMethodDescriptor yX3_laysWork.desc).map (fun d => d.parameters.length) = some 1 := by decide +kernel
theorem ydv_X3_leaveOf : yX3_leaveOf.cls = RX3 ∧ yX3_leaveOf.cls ≠ "java/lang/invoke/MethodHandle" ∧ yX3_leaveOf.cls ≠ "java/lang/invoke/VarHandle" ∧ (parseMethodDescriptor yX3_leaveOf.desc).map (fun d => d.parameters.length) = some 1 := by decide +kernel
theorem ydv_X3_line : yX3_line.cls = RX3 ∧ yX3_line.cls ≠ "java/lang/invoke/MethodHandle" ∧ yX3_line.cls ≠ "java/lang/invoke/VarHandle" ∧ (parseMethodDescriptor yX3_line.desc).map (fun d => d.parameters.length) = some 0 := by decide +kernel
theorem ydv_X3_mayDo : yX3_mayDo.cls = RX3 ∧ yX3_mayDo.cls ≠ "java/lang/invoke/MethodHandle" ∧ yX3_mayDo.cls ≠ "java/lang/invoke/VarHandle" ∧ (parseMethodDescriptor yX3_mayDo.desc).map (fun d => d.parameters.length) = some 3 := by decide +kernel
theorem ydv_X3_next : yX3_next.cls = RX3 ∧ yX3_next.cls ≠ "java/lang/invoke/MethodHandle" ∧ yX3_next.cls ≠ "java/lang/invoke/VarHandle" ∧ (parseMethodDescriptor yX3_next.desc).map (fun d => d.parameters.length) = some 0 := by decide +kernel
theorem ydv_X3_number : yX3_number.cls = RX3 ∧ yX3_number.cls ≠ "java/lang/invoke/MethodHandle" ∧ yX3_number.cls ≠ "java/lang/invoke/VarHandle" ∧ (parseMethodDescriptor yX3_number.desc).map (fun d => d.parameters.length) = some 3 := by decide +kernel
theorem ydv_X3_number_2 : yX3_number_2.cls = RX3 ∧ yX3_number_2.cls ≠ "java/lang/invoke/MethodHandle" ∧ yX3_number_2.cls ≠ "java/lang/invoke/VarHandle" ∧ (parseMethodDescriptor yX3_number_2.desc).map (fun d => d.parameters.length) = some 2 := by decide +kernel
theorem ydv_X3_of : yX3_of.cls = RX3 ∧ yX3_of.cls ≠ "java/lang/invoke/MethodHandle" ∧ yX3_of.cls ≠ "java/lang/invoke/VarHandle" ∧ (parseMethodDescriptor yX3_of.desc).map (fun d => d.parameters.length) = some 2 := by decide +kernel
theorem ydv_X3_personLine : yX3_personLine.cls = RX3 ∧ yX3_personLine.cls ≠ "java/lang/invoke/MethodHandle" ∧ yX3_personLine.cls ≠ "java/lang/invoke/VarHandle" ∧ (parseMethodDescriptor yX3_personLine.desc).map (fun d => d.parameters.length) = some 0 := by decide +kernel
theorem ydv_X3_powerOf : yX3_powerOf.cls = RX3 ∧ yX3_powerOf.cls ≠ "java/lang/invoke/MethodHandle" ∧ yX3_powerOf.cls ≠ "java/lang/invoke/VarHandle" ∧ (parseMethodDescriptor yX3_powerOf.desc).map (fun d => d.parameters.length) = some 1 := by decide +kernel
theorem ydv_X3_ransomOf : yX3_ransomOf.cls = RX3 ∧ yX3_ransomOf.cls ≠ "java/lang/invoke/MethodHandle" ∧ yX3_ransomOf.cls ≠ "java/lang/invoke/VarHandle" ∧ (parseMethodDescriptor yX3_ransomOf.desc).map (fun d => d.parameters.length) = some 2 := by decide +kernel
theorem ydv_X3_readable : yX3_readable.cls = RX3 ∧ yX3_readable.cls ≠ "java/lang/invoke/MethodHandle" ∧ yX3_readable.cls ≠ "java/lang/invoke/VarHandle" ∧ (parseMethodDescriptor yX3_readable.desc).map (fun d => d.parameters.length) = some 1 := by decide +kernel
theorem ydv_X3_replyTo : yX3_replyTo.cls = RX3 ∧ yX3_replyTo.cls ≠ "java/lang/invoke/MethodHandle" ∧ yX3_replyTo.cls ≠ "java/lang/invoke/VarHandle" ∧ (parseMethodDescriptor yX3_replyTo.desc).map (fun d => d.parameters.length) = some 2 := by decide +kernel
theorem ydv_X3_ringOf : yX3_ringOf.cls = RX3 ∧ yX3_ringOf.cls ≠ "java/lang/invoke/MethodHandle" ∧ yX3_ringOf.cls ≠ "java/lang/invoke/VarHandle" ∧ (parseMethodDescriptor yX3_ringOf.desc).map (fun d => d.parameters.length) = some 1 := by decide +kernel
theorem ydv_X3_ringsNow : yX3_ringsNow.cls = RX3 ∧ yX3_ringsNow.cls ≠ "java/lang/invoke/MethodHandle" ∧ yX3_ringsNow.cls ≠ "java/lang/invoke/VarHandle" ∧ (parseMethodDescriptor yX3_ringsNow.desc).map (fun d => d.parameters.length) = some 0 := by decide +kernel
theorem ydv_X3_rowOf : yX3_rowOf.cls = RX3 ∧ yX3_rowOf.cls ≠ "java/lang/invoke/MethodHandle" ∧ yX3_rowOf.cls ≠ "java/lang/invoke/VarHandle" ∧ (parseMethodDescriptor yX3_rowOf.desc).map (fun d => d.parameters.length) = some 1 := by decide +kernel
theorem yd_X3_sizeOf : yX3_sizeOf.cls ≠ "java/lang/invoke/MethodHandle" ∧ yX3_sizeOf.cls ≠ "java/lang/invoke/VarHandle" ∧ (parseMethodDescriptor yX3_sizeOf.desc).map (fun d => d.parameters.length) = some 1 := by decide +kernel
theorem ydv_X3_start : yX3_start.cls = RX3 ∧ yX3_start.cls ≠ "java/lang/invoke/MethodHandle" ∧ yX3_start.cls ≠ "java/lang/invoke/VarHandle" ∧ (parseMethodDescriptor yX3_start.desc).map (fun d => d.parameters.length) = some 0 := by decide +kernel
theorem ydv_X3_takes : yX3_takes.cls = RX3 ∧ yX3_takes.cls ≠ "java/lang/invoke/MethodHandle" ∧ yX3_takes.cls ≠ "java/lang/invoke/VarHandle" ∧ (parseMethodDescriptor yX3_takes.desc).map (fun d => d.parameters.length) = some 1 := by decide +kernel
theorem ydv_X3_tells : yX3_tells.cls = RX3 ∧ yX3_tells.cls ≠ "java/lang/invoke/MethodHandle" ∧ yX3_tells.cls ≠ "java/lang/invoke/VarHandle" ∧ (parseMethodDescriptor yX3_tells.desc).map (fun d => d.parameters.length) = some 2 := by decide +kernel
theorem ydv_X3_timeOf : yX3_timeOf.cls = RX3 ∧ yX3_timeOf.cls ≠ "java/lang/invoke/MethodHandle" ∧ yX3_timeOf.cls ≠ "java/lang/invoke/VarHandle" ∧ (parseMethodDescriptor yX3_timeOf.desc).map (fun d => d.parameters.length) = some 2 := by decide +kernel
theorem ydv_X3_underOf : yX3_underOf.cls = RX3 ∧ yX3_underOf.cls ≠ "java/lang/invoke/MethodHandle" ∧ yX3_underOf.cls ≠ "java/lang/invoke/VarHandle" ∧ (parseMethodDescriptor yX3_underOf.desc).map (fun d => d.parameters.length) = some 1 := by decide +kernel
theorem ydv_X3_whyNot : yX3_whyNot.cls = RX3 ∧ yX3_whyNot.cls ≠ "java/lang/invoke/MethodHandle" ∧ yX3_whyNot.cls ≠ "java/lang/invoke/VarHandle" ∧ (parseMethodDescriptor yX3_whyNot.desc).map (fun d => d.parameters.length) = some 1 := by decide +kernel
theorem ydv_X3_whyNotJudge : yX3_whyNotJudge.cls = RX3 ∧ yX3_whyNotJudge.cls ≠ "java/lang/invoke/MethodHandle" ∧ yX3_whyNotJudge.cls ≠ "java/lang/invoke/VarHandle" ∧ (parseMethodDescriptor yX3_whyNotJudge.desc).map (fun d => d.parameters.length) = some 1 := by decide +kernel
theorem ydv_X3_whyOf : yX3_whyOf.cls = RX3 ∧ yX3_whyOf.cls ≠ "java/lang/invoke/MethodHandle" ∧ yX3_whyOf.cls ≠ "java/lang/invoke/VarHandle" ∧ (parseMethodDescriptor yX3_whyOf.desc).map (fun d => d.parameters.length) = some 3 := by decide +kernel
theorem ydv_X3_winsOf : yX3_winsOf.cls = RX3 ∧ yX3_winsOf.cls ≠ "java/lang/invoke/MethodHandle" ∧ yX3_winsOf.cls ≠ "java/lang/invoke/VarHandle" ∧ (parseMethodDescriptor yX3_winsOf.desc).map (fun d => d.parameters.length) = some 2 := by decide +kernel
theorem ydv_X3_wishing : yX3_wishing.cls = RX3 ∧ yX3_wishing.cls ≠ "java/lang/invoke/MethodHandle" ∧ yX3_wishing.cls ≠ "java/lang/invoke/VarHandle" ∧ (parseMethodDescriptor yX3_wishing.desc).map (fun d => d.parameters.length) = some 1 := by decide +kernel
theorem ydv_X3_wonBy : yX3_wonBy.cls = RX3 ∧ yX3_wonBy.cls ≠ "java/lang/invoke/MethodHandle" ∧ yX3_wonBy.cls ≠ "java/lang/invoke/VarHandle" ∧ (parseMethodDescriptor yX3_wonBy.desc).map (fun d => d.parameters.length) = some 2 := by decide +kernel
theorem ydv_X3_worthOf : yX3_worthOf.cls = RX3 ∧ yX3_worthOf.cls ≠ "java/lang/invoke/MethodHandle" ∧ yX3_worthOf.cls ≠ "java/lang/invoke/VarHandle" ∧ (parseMethodDescriptor yX3_worthOf.desc).map (fun d => d.parameters.length) = some 1 := by decide +kernel
theorem ydv_X3_yetOf : yX3_yetOf.cls = RX3 ∧ yX3_yetOf.cls ≠ "java/lang/invoke/MethodHandle" ∧ yX3_yetOf.cls ≠ "java/lang/invoke/VarHandle" ∧ (parseMethodDescriptor yX3_yetOf.desc).map (fun d => d.parameters.length) = some 1 := by decide +kernel
theorem lk_X3_64 : GoodIn lw_all (va_wsS RX3 64 yX3_in (ws_ yX3_in cX3_in 6 (some .boolean))) := lw_S q1497 q1498 q142 q1499
theorem lk_X3_68 : GoodIn lw_all (va_wsS RX3 68 yX3_isSlot (ws_ yX3_isSlot cX3_isSlot 1 (some .boolean))) := lw_S q1493 q1494 q142 q1495
theorem lk_X3_72 : GoodIn lw_all (va_wsS RX3 72 yX3_cut (ws_ yX3_cut cX3_cut 3 (some .long))) := lw_S q1504 q1505 q142 q1506
theorem lk_X3_79 : GoodIn lw_all (wsV RX3 79 RX3 yX3_four (ws_ yX3_four cX3_four 3 none)) := lw_V q1515 q1517 qs66 q142 q1518
theorem lk_X3_162 : GoodIn lw_all (wsV RX3 162 RX3 yX3_tells (ws_ yX3_tells cX3_tells 3 none)) := lw_V q1535 q1537 qs68 q142 q1538
theorem lk_X3_180 : GoodIn lw_all (wsV RX3 180 RX3 yX3_clears (ws_ yX3_clears cX3_clears 2 none)) := lw_V q1531 q1533 qs67 q142 q1534
theorem lk_X3_86 : GoodIn lw_all (wsV RX3 86 RX3 yX3_isByte (ws_ yX3_isByte cX3_isByte 4 (some .boolean))) := lw_V q1547 q1549 qs71 q142 q1550
theorem lk_X3_121 : GoodIn lw_all (wsV RX3 121 RX3 yX3_next (ws_ yX3_next cX3_next 2 none)) := lw_V q1543 q1545 qs70 q142 q1546
theorem lk_X3_183 : GoodIn lw_all (wsV RX3 183 RX3 yX3_begins (ws_ yX3_begins cX3_begins 1 none)) := lw_V q1539 q1541 qs69 q142 q1542
theorem lk_X3_141 : GoodIn lw_all (wsV RX3 141 RX3 yX3_isGood (ws_ yX3_isGood cX3_isGood 1 (some .boolean))) := lw_V q1556 q1558 qs72 q142 q1559
theorem lk_X3_117 : GoodIn lw_all (wsV RX3 117 RX3 yX3_is (ws_ yX3_is cX3_is 3 (some .boolean))) := lw_V q1569 q1571 qs75 q142 q1572
theorem lk_X3_124 : GoodIn lw_all (wsV RX3 124 RX3 yX3_takes (ws_ yX3_takes cX3_takes 3 (some .boolean))) := lw_V q1565 q1567 qs74 q142 q1568
theorem lk_X3_127 : GoodIn lw_all (wsV RX3 127 RX3 yX3_fails (ws_ yX3_fails cX3_fails 2 none)) := lw_V q1573 q1575 qs76 q142 q1576
theorem lk_X3_130 : GoodIn lw_all (wsV RX3 130 RX3 yX3_asks (ws_ yX3_asks cX3_asks 3 none)) := lw_V q1561 q1563 qs73 q142 q1564
theorem lk_X3_145 : GoodIn lw_all (wsV RX3 145 RX3 yX3_hasRead (ws_ yX3_hasRead cX3_hasRead 2 (some .int))) := lw_V q1591 q1593 qs80 q142 q1594
theorem lk_X3_134 : GoodIn lw_all (wsV RX3 134 RX3 yX3_number_2 (ws_ yX3_number_2 cX3_number_2 4 (some .int))) := lw_V q1582 q1584 qs78 q142 q1585
theorem lk_X3_177 : GoodIn lw_all (wsV RX3 177 RX3 yX3_cardLine (ws_ yX3_cardLine cX3_cardLine 4 none)) := lw_V q1607 q1609 qs83 q142 q1610
theorem lk_X3_151 : GoodIn lw_all (wsV RX3 151 RX3 yX3_number (ws_ yX3_number cX3_number 5 (some .int))) := lw_V q1578 q1580 qs77 q142 q1581
theorem lk_X3_156 : GoodIn lw_all (wsV RX3 156 RX3 yX3_deedsHere (ws_ yX3_deedsHere cX3_deedsHere 2 (some .int))) := lw_V q1601 q1603 qs82 q142 q1604
theorem lk_X3_172 : GoodIn lw_all (wsV RX3 172 RX3 yX3_personLine (ws_ yX3_personLine cX3_personLine 2 none)) := lw_V q1595 q1597 qs81 q142 q1598
theorem lk_X3_190 : GoodIn lw_all (wsV RX3 190 RX3 yX3_line (ws_ yX3_line cX3_line 1 none)) := lw_V q1586 q1588 qs79 q142 q1589
theorem lk_X3_193 : GoodIn lw_all (wsV RX3 193 RX3 yX3_ends (ws_ yX3_ends cX3_ends 1 none)) := lw_V q1613 q1615 qs84 q142 q1616
theorem lk_X3_196 : GoodIn lw_all (wsV RX3 196 RX3 yX3_isOver (ws_ yX3_isOver cX3_isOver 1 none)) := lw_V q1617 q1619 qs85 q142 q1620
theorem lk_X3_202 : GoodIn lw_all (va_wsS RX3 202 yX3_copyRow (ws_ yX3_copyRow cX3_copyRow 5 none)) := lw_S q1625 q1626 q142 q1627
theorem lk_X3_199 : GoodIn lw_all (wsV RX3 199 RX3 yX3_copyCity (ws_ yX3_copyCity cX3_copyCity 3 none)) := lw_V q1621 q1623 qs86 q142 q1624
theorem lk_X3_206 : GoodIn lw_all (wsV RX3 206 RX3 yX3_isPerson (ws_ yX3_isPerson cX3_isPerson 3 (some .boolean))) := lw_V q1632 q1634 qs87 q142 q1635
theorem lk_X3_214 : GoodIn lw_all (wsV RX3 214 RX3 yX3_of (ws_ yX3_of cX3_of 3 (some .int))) := lw_V q1645 q1647 qs90 q142 q1648
theorem lk_X3_229 : GoodIn lw_all (wsV RX3 229 RX3 yX3_start (ws_ yX3_start cX3_start 2 none)) := lw_V q1641 q1643 qs89 q142 q1644
theorem lk_X3_239 : GoodIn lw_all (va_wsS RX3 239 yX3_isBit (ws_ yX3_isBit cX3_isBit 2 (some .boolean))) := lw_S q1665 q1666 q142 q1667
theorem lk_X3_246 : GoodIn lw_all (wsV RX3 246 RX3 yX3_dayEnds (ws_ yX3_dayEnds cX3_dayEnds 2 none)) := lw_V q1661 q1663 qs94 q142 q1664
theorem lk_X3_236 : GoodIn lw_all (wsV RX3 236 RX3 yX3_readable (ws_ yX3_readable cX3_readable 2 (some .int))) := lw_V q1657 q1659 qs93 q142 q1660
theorem lk_X3_243 : GoodIn lw_all (wsV RX3 243 RX3 yX3_isAsked (ws_ yX3_isAsked cX3_isAsked 2 none)) := lw_V q1653 q1655 qs92 q142 q1656
theorem lk_X3_232 : GoodIn lw_all (wsV RX3 232 RX3 yX3_does (ws_ yX3_does cX3_does 7 none)) := lw_V q1649 q1651 qs91 q142 q1652
theorem lk_X3_251 : GoodIn lw_all (wsV RX3 251 RX3 yX3_laysNow (ws_ yX3_laysNow cX3_laysNow 2 none)) := lw_V q1637 q1639 qs88 q142 q1640
theorem lk_X3_254 : GoodIn lw_all (wsV RX3 254 RX3 yX3_handOf (ws_ yX3_handOf cX3_handOf 4 (some .int))) := lw_V q1668 q1670 qs95 q142 q1671
theorem lk_X3_257 : GoodIn lw_all (wsV RX3 257 RX3 yX3_yetOf (ws_ yX3_yetOf cX3_yetOf 2 (some .int))) := lw_V q1672 q1674 qs96 q142 q1675
theorem lk_X3_209 : GoodIn lw_all (wsV RX3 209 RX3 yX3_isCity (ws_ yX3_isCity cX3_isCity 1 (some .boolean))) := lw_V q1680 q1682 qs97 q142 q1683
theorem lk_X3_260 : GoodIn lw_all (wsV RX3 260 RX3 yX3_freeNow (ws_ yX3_freeNow cX3_freeNow 3 (some .int))) := lw_V q1684 q1686 qs98 q142 q1687
theorem lk_X3_263 : GoodIn lw_all (wsV RX3 263 RX3 yX3_underOf (ws_ yX3_underOf cX3_underOf 5 (some .int))) := lw_V q1692 q1694 qs99 q142 q1695
theorem lk_X3_266 : GoodIn lw_all (wsV RX3 266 RX3 yX3_arePeople (ws_ yX3_arePeople cX3_arePeople 3 (some .boolean))) := lw_V q1700 q1702 qs100 q142 q1703
theorem lk_X3_269 : GoodIn lw_all (wsV RX3 269 RX3 yX3_timeOf (ws_ yX3_timeOf cX3_timeOf 6 (some .int))) := lw_V q1704 q1706 qs101 q142 q1707
theorem lk_X3_272 : GoodIn lw_all (wsV RX3 272 RX3 yX3_ringOf (ws_ yX3_ringOf cX3_ringOf 4 (some .int))) := lw_V q1716 q1718 qs102 q142 q1719
theorem lk_X3_275 : GoodIn lw_all (wsV RX3 275 RX3 yX3_ringsNow (ws_ yX3_ringsNow cX3_ringsNow 7 (some .int))) := lw_V q1724 q1726 qs103 q142 q1727
theorem lk_X3_278 : GoodIn lw_all (va_wsS RX3 278 yX3_isDeed (ws_ yX3_isDeed cX3_isDeed 2 (some .boolean))) := lw_S q1736 q1737 q142 q1738
theorem lk_X3_281 : GoodIn lw_all (wsV RX3 281 RX3 yX3_isChain (ws_ yX3_isChain cX3_isChain 3 (some .boolean))) := lw_V q1732 q1734 qs104 q142 q1735
theorem lk_X3_284 : GoodIn lw_all (wsV RX3 284 RX3 yX3_doerOf (ws_ yX3_doerOf cX3_doerOf 6 (some .int))) := lw_V q1740 q1742 qs105 q142 q1743
theorem lk_X3_287 : GoodIn lw_all (wsV RX3 287 RX3 yX3_whyOf (ws_ yX3_whyOf cX3_whyOf 4 (some .int))) := lw_V q1760 q1762 qs106 q142 q1763
theorem lk_X3_291 : GoodIn lw_all (wsV RX3 291 RX3 yX3_isFull (ws_ yX3_isFull cX3_isFull 1 (some .boolean))) := lw_V q1768 q1770 qs107 q142 q1771
theorem lk_X3_294 : GoodIn lw_all (wsV RX3 294 RX3 yX3_acts (ws_ yX3_acts cX3_acts 7 none)) := lw_V q1772 q1774 qs108 q142 q1775
theorem lk_X3_297 : GoodIn lw_all (va_wsS RX3 297 yX3_sizeOf (ws_ yX3_sizeOf cX3_sizeOf 3 (some .int))) := lw_S q1812 q1813 q142 q1814
theorem lk_X3_300 : GoodIn lw_all (wsV RX3 300 RX3 yX3_areEven (ws_ yX3_areEven cX3_areEven 2 (some .boolean))) := lw_V q1808 q1810 qs109 q142 q1811
theorem lk_X3_303 : GoodIn lw_all (wsV RX3 303 RX3 yX3_mayDo (ws_ yX3_mayDo cX3_mayDo 4 (some .int))) := lw_V q1827 q1829 qs111 q142 q1830
theorem lk_X3_306 : GoodIn lw_all (wsV RX3 306 RX3 yX3_laysWork (ws_ yX3_laysWork cX3_laysWork 8 none)) := lw_V q1823 q1825 qs110 q142 q1826
theorem lk_X3_317 : GoodIn lw_all (wsV RX3 317 RX3 yX3_areDeeds (ws_ yX3_areDeeds cX3_areDeeds 2 (some .boolean))) := lw_V q1839 q1841 qs112 q142 q1842
theorem lk_X3_311 : GoodIn lw_all (wsV RX3 311 RX3 yX3_handsOf (ws_ yX3_handsOf cX3_handsOf 4 (some .int))) := lw_V q1848 q1850 qs114 q142 q1851
theorem lk_X3_314 : GoodIn lw_all (wsV RX3 314 RX3 yX3_doneBy (ws_ yX3_doneBy cX3_doneBy 4 (some .int))) := lw_V q1852 q1854 qs115 q142 q1855
theorem lk_X3_320 : GoodIn lw_all (wsV RX3 320 RX3 yX3_coversOf (ws_ yX3_coversOf cX3_coversOf 4 (some .int))) := lw_V q1844 q1846 qs113 q142 q1847
theorem lk_X3_323 : GoodIn lw_all (wsV RX3 323 RX3 yX3_worthOf (ws_ yX3_worthOf cX3_worthOf 4 (some .int))) := lw_V q1868 q1870 qs117 q142 q1871
theorem lk_X3_326 : GoodIn lw_all (wsV RX3 326 RX3 yX3_boughtOf (ws_ yX3_boughtOf cX3_boughtOf 4 (some .int))) := lw_V q1864 q1866 qs116 q142 q1867
theorem lk_X3_331 : GoodIn lw_all (wsV RX3 331 RX3 yX3_hiredOf (ws_ yX3_hiredOf cX3_hiredOf 4 (some .int))) := lw_V q1881 q1883 qs118 q142 q1884
theorem lk_X3_334 : GoodIn lw_all (wsV RX3 334 RX3 yX3_whyNot (ws_ yX3_whyNot cX3_whyNot 3 (some .int))) := lw_V q1893 q1895 qs119 q142 q1896
theorem lk_X3_337 : GoodIn lw_all (wsV RX3 337 RX3 yX3_rowOf (ws_ yX3_rowOf cX3_rowOf 4 (some .int))) := lw_V q1897 q1899 qs120 q142 q1900
theorem lk_X3_340 : GoodIn lw_all (wsV RX3 340 RX3 yX3_wishing (ws_ yX3_wishing cX3_wishing 4 (some .int))) := lw_V q1901 q1903 qs121 q142 q1904
theorem lk_X3_349 : GoodIn lw_all (wsV RX3 349 RX3 yX3_laysWatch (ws_ yX3_laysWatch cX3_laysWatch 7 none)) := lw_V q1909 q1911 qs122 q142 q1912
theorem lk_X3_355 : GoodIn lw_all (wsV RX3 355 RX3 yX3_isDuel (ws_ yX3_isDuel cX3_isDuel 3 (some .boolean))) := lw_V q1925 q1927 qs123 q142 q1928
theorem lk_X3_352 : GoodIn lw_all (va_wsS RX3 352 yX3_common (ws_ yX3_common cX3_common 2 (some .int))) := lw_S q1929 q1930 q142 q1931
theorem lk_X3_358 : GoodIn lw_all (wsV RX3 358 RX3 yX3_wonBy (ws_ yX3_wonBy cX3_wonBy 3 (some .int))) := lw_V q1944 q1946 qs126 q142 q1947
theorem lk_X3_361 : GoodIn lw_all (wsV RX3 361 RX3 yX3_replyTo (ws_ yX3_replyTo cX3_replyTo 5 (some .int))) := lw_V q1940 q1942 qs125 q142 q1943
theorem lk_X3_364 : GoodIn lw_all (wsV RX3 364 RX3 yX3_laidBy (ws_ yX3_laidBy cX3_laidBy 5 (some .int))) := lw_V q1936 q1938 qs124 q142 q1939
theorem lk_X3_370 : GoodIn lw_all (wsV RX3 370 RX3 yX3_isSet (ws_ yX3_isSet cX3_isSet 2 (some .boolean))) := lw_V q1960 q1962 qs127 q142 q1963
theorem lk_X3_367 : GoodIn lw_all (wsV RX3 367 RX3 yX3_winsOf (ws_ yX3_winsOf cX3_winsOf 4 (some .int))) := lw_V q1968 q1970 qs129 q142 q1971
theorem lk_X3_373 : GoodIn lw_all (wsV RX3 373 RX3 yX3_leaveOf (ws_ yX3_leaveOf cX3_leaveOf 4 (some .int))) := lw_V q1964 q1966 qs128 q142 q1967
theorem lk_X3_376 : GoodIn lw_all (wsV RX3 376 RX3 yX3_ransomOf (ws_ yX3_ransomOf cX3_ransomOf 6 (some .int))) := lw_V q1992 q1994 qs130 q142 q1995
theorem lk_X3_379 : GoodIn lw_all (wsV RX3 379 RX3 yX3_powerOf (ws_ yX3_powerOf cX3_powerOf 2 (some .int))) := lw_V q2004 q2006 qs131 q142 q2007
theorem lk_X3_382 : GoodIn lw_all (wsV RX3 382 RX3 yX3_whyNotJudge (ws_ yX3_whyNotJudge cX3_whyNotJudge 5 (some .int))) := lw_V q2020 q2022 qs132 q142 q2023
theorem lk_X3_385 : GoodIn lw_all (wsV RX3 385 RX3 yX3_judges (ws_ yX3_judges cX3_judges 4 (some .int))) := lw_V q2024 q2026 qs133 q142 q2027
theorem lk_X3_398 : GoodIn lw_all (va_wsS RX3 398 yX3_isSeed (ws_ yX3_isSeed cX3_isSeed 1 (some .boolean))) := lw_S q2036 q2037 q142 q2038
theorem lk_X3_401 : GoodIn lw_all (wsV RX3 401 RX3 yX3_draws (ws_ yX3_draws cX3_draws 9 none)) := lw_V q2040 q2042 qs134 q142 q2043
