theorem yd_J13_bitCount : (yJ13_bitCount).cls ≠ "java/lang/invoke/MethodHandle" ∧ (yJ13_bitCount).cls ≠ "java/lang/invoke/VarHandle" ∧ (parseMethodDescriptor (yJ13_bitCount).desc).map (fun d => d.parameters.length) = some 1 := by decide +kernel
theorem yd_J13_numberOfTrailingZeros : (yJ13_numberOfTrailingZeros).cls ≠ "java/lang/invoke/MethodHandle" ∧ (yJ13_numberOfTrailingZeros).cls ≠ "java/lang/invoke/VarHandle" ∧ (parseMethodDescriptor (yJ13_numberOfTrailingZeros).desc).map (fun d => d.parameters.length) = some 1 := by decide +kernel
theorem yd_X2_within : (yX2_within).cls ≠ "java/lang/invoke/MethodHandle" ∧ (yX2_within).cls ≠ "java/lang/invoke/VarHandle" ∧ (parseMethodDescriptor (yX2_within).desc).map (fun d => d.parameters.length) = some 3 := by decide +kernel
theorem yd_X2_isShelf : (yX2_isShelf).cls ≠ "java/lang/invoke/MethodHandle" ∧ (yX2_isShelf).cls ≠ "java/lang/invoke/VarHandle" ∧ (parseMethodDescriptor (yX2_isShelf).desc).map (fun d => d.parameters.length) = some 1 := by decide +kernel
theorem yd_X2_isOne : (yX2_isOne).cls = RX2 ∧ (yX2_isOne).cls ≠ "java/lang/invoke/MethodHandle" ∧ (yX2_isOne).cls ≠ "java/lang/invoke/VarHandle" ∧ (parseMethodDescriptor (yX2_isOne).desc).map (fun d => d.parameters.length) = some 1 := by decide +kernel
theorem yd_X2_areTwo : (yX2_areTwo).cls = RX2 ∧ (yX2_areTwo).cls ≠ "java/lang/invoke/MethodHandle" ∧ (yX2_areTwo).cls ≠ "java/lang/invoke/VarHandle" ∧ (parseMethodDescriptor (yX2_areTwo).desc).map (fun d => d.parameters.length) = some 1 := by decide +kernel
theorem yd_X2_newSwimmer : (yX2_newSwimmer).cls = RX2 ∧ (yX2_newSwimmer).cls ≠ "java/lang/invoke/MethodHandle" ∧ (yX2_newSwimmer).cls ≠ "java/lang/invoke/VarHandle" ∧ (parseMethodDescriptor (yX2_newSwimmer).desc).map (fun d => d.parameters.length) = some 4 := by decide +kernel
theorem yd_X2_swimmer : (yX2_swimmer).cls = RX2 ∧ (yX2_swimmer).cls ≠ "java/lang/invoke/MethodHandle" ∧ (yX2_swimmer).cls ≠ "java/lang/invoke/VarHandle" ∧ (parseMethodDescriptor (yX2_swimmer).desc).map (fun d => d.parameters.length) = some 2 := by decide +kernel
theorem yd_X2_swimmers : (yX2_swimmers).cls = RX2 ∧ (yX2_swimmers).cls ≠ "java/lang/invoke/MethodHandle" ∧ (yX2_swimmers).cls ≠ "java/lang/invoke/VarHandle" ∧ (parseMethodDescriptor (yX2_swimmers).desc).map (fun d => d.parameters.length) = some 3 := by decide +kernel
theorem yd_X2_isOf : (yX2_isOf).cls = RX2 ∧ (yX2_isOf).cls ≠ "java/lang/invoke/MethodHandle" ∧ (yX2_isOf).cls ≠ "java/lang/invoke/VarHandle" ∧ (parseMethodDescriptor (yX2_isOf).desc).map (fun d => d.parameters.length) = some 2 := by decide +kernel
theorem yd_X2_isFit : (yX2_isFit).cls ≠ "java/lang/invoke/MethodHandle" ∧ (yX2_isFit).cls ≠ "java/lang/invoke/VarHandle" ∧ (parseMethodDescriptor (yX2_isFit).desc).map (fun d => d.parameters.length) = some 2 := by decide +kernel
theorem yd_X2_get : (yX2_get).cls = RX2 ∧ (yX2_get).cls ≠ "java/lang/invoke/MethodHandle" ∧ (yX2_get).cls ≠ "java/lang/invoke/VarHandle" ∧ (parseMethodDescriptor (yX2_get).desc).map (fun d => d.parameters.length) = some 2 := by decide +kernel
theorem yd_X2_becomes : (yX2_becomes).cls = RX2 ∧ (yX2_becomes).cls ≠ "java/lang/invoke/MethodHandle" ∧ (yX2_becomes).cls ≠ "java/lang/invoke/VarHandle" ∧ (parseMethodDescriptor (yX2_becomes).desc).map (fun d => d.parameters.length) = some 3 := by decide +kernel
theorem yd_X2_mend : (yX2_mend).cls = RX2 ∧ (yX2_mend).cls ≠ "java/lang/invoke/MethodHandle" ∧ (yX2_mend).cls ≠ "java/lang/invoke/VarHandle" ∧ (parseMethodDescriptor (yX2_mend).desc).map (fun d => d.parameters.length) = some 3 := by decide +kernel
theorem yd_X2_of : (yX2_of).cls = RX2 ∧ (yX2_of).cls ≠ "java/lang/invoke/MethodHandle" ∧ (yX2_of).cls ≠ "java/lang/invoke/VarHandle" ∧ (parseMethodDescriptor (yX2_of).desc).map (fun d => d.parameters.length) = some 2 := by decide +kernel
theorem yd_X2_undo : (yX2_undo).cls = RX2 ∧ (yX2_undo).cls ≠ "java/lang/invoke/MethodHandle" ∧ (yX2_undo).cls ≠ "java/lang/invoke/VarHandle" ∧ (parseMethodDescriptor (yX2_undo).desc).map (fun d => d.parameters.length) = some 0 := by decide +kernel
theorem yd_X2_redo : (yX2_redo).cls = RX2 ∧ (yX2_redo).cls ≠ "java/lang/invoke/MethodHandle" ∧ (yX2_redo).cls ≠ "java/lang/invoke/VarHandle" ∧ (parseMethodDescriptor (yX2_redo).desc).map (fun d => d.parameters.length) = some 0 := by decide +kernel
theorem yd_X2_feed : (yX2_feed).cls = RX2 ∧ (yX2_feed).cls ≠ "java/lang/invoke/MethodHandle" ∧ (yX2_feed).cls ≠ "java/lang/invoke/VarHandle" ∧ (parseMethodDescriptor (yX2_feed).desc).map (fun d => d.parameters.length) = some 1 := by decide +kernel
theorem yd_X2_sign : (yX2_sign).cls = RX2 ∧ (yX2_sign).cls ≠ "java/lang/invoke/MethodHandle" ∧ (yX2_sign).cls ≠ "java/lang/invoke/VarHandle" ∧ (parseMethodDescriptor (yX2_sign).desc).map (fun d => d.parameters.length) = some 0 := by decide +kernel
theorem yd_X2_is : (yX2_is).cls = RX2 ∧ (yX2_is).cls ≠ "java/lang/invoke/MethodHandle" ∧ (yX2_is).cls ≠ "java/lang/invoke/VarHandle" ∧ (parseMethodDescriptor (yX2_is).desc).map (fun d => d.parameters.length) = some 1 := by decide +kernel
theorem yd_X2_codes : (yX2_codes).cls = RX2 ∧ (yX2_codes).cls ≠ "java/lang/invoke/MethodHandle" ∧ (yX2_codes).cls ≠ "java/lang/invoke/VarHandle" ∧ (parseMethodDescriptor (yX2_codes).desc).map (fun d => d.parameters.length) = some 1 := by decide +kernel
theorem yd_X2_isDigit : (yX2_isDigit).cls = RX2 ∧ (yX2_isDigit).cls ≠ "java/lang/invoke/MethodHandle" ∧ (yX2_isDigit).cls ≠ "java/lang/invoke/VarHandle" ∧ (parseMethodDescriptor (yX2_isDigit).desc).map (fun d => d.parameters.length) = some 0 := by decide +kernel
theorem yd_X2_nameOf : (yX2_nameOf).cls ≠ "java/lang/invoke/MethodHandle" ∧ (yX2_nameOf).cls ≠ "java/lang/invoke/VarHandle" ∧ (parseMethodDescriptor (yX2_nameOf).desc).map (fun d => d.parameters.length) = some 1 := by decide +kernel
theorem yd_X2_isP : (yX2_isP).cls = RX2 ∧ (yX2_isP).cls ≠ "java/lang/invoke/MethodHandle" ∧ (yX2_isP).cls ≠ "java/lang/invoke/VarHandle" ∧ (parseMethodDescriptor (yX2_isP).desc).map (fun d => d.parameters.length) = some 0 := by decide +kernel
theorem yd_X2_isS : (yX2_isS).cls = RX2 ∧ (yX2_isS).cls ≠ "java/lang/invoke/MethodHandle" ∧ (yX2_isS).cls ≠ "java/lang/invoke/VarHandle" ∧ (parseMethodDescriptor (yX2_isS).desc).map (fun d => d.parameters.length) = some 0 := by decide +kernel
theorem yd_X2_isB : (yX2_isB).cls = RX2 ∧ (yX2_isB).cls ≠ "java/lang/invoke/MethodHandle" ∧ (yX2_isB).cls ≠ "java/lang/invoke/VarHandle" ∧ (parseMethodDescriptor (yX2_isB).desc).map (fun d => d.parameters.length) = some 0 := by decide +kernel
theorem yd_X2_isA : (yX2_isA).cls = RX2 ∧ (yX2_isA).cls ≠ "java/lang/invoke/MethodHandle" ∧ (yX2_isA).cls ≠ "java/lang/invoke/VarHandle" ∧ (parseMethodDescriptor (yX2_isA).desc).map (fun d => d.parameters.length) = some 0 := by decide +kernel
theorem yd_X2_isE : (yX2_isE).cls = RX2 ∧ (yX2_isE).cls ≠ "java/lang/invoke/MethodHandle" ∧ (yX2_isE).cls ≠ "java/lang/invoke/VarHandle" ∧ (parseMethodDescriptor (yX2_isE).desc).map (fun d => d.parameters.length) = some 0 := by decide +kernel
theorem yd_X2_isO : (yX2_isO).cls = RX2 ∧ (yX2_isO).cls ≠ "java/lang/invoke/MethodHandle" ∧ (yX2_isO).cls ≠ "java/lang/invoke/VarHandle" ∧ (parseMethodDescriptor (yX2_isO).desc).map (fun d => d.parameters.length) = some 0 := by decide +kernel
theorem yd_X2_isLine : (yX2_isLine).cls = RX2 ∧ (yX2_isLine).cls ≠ "java/lang/invoke/MethodHandle" ∧ (yX2_isLine).cls ≠ "java/lang/invoke/VarHandle" ∧ (parseMethodDescriptor (yX2_isLine).desc).map (fun d => d.parameters.length) = some 0 := by decide +kernel
theorem yd_X2_law : (yX2_law).cls = RX2 ∧ (yX2_law).cls ≠ "java/lang/invoke/MethodHandle" ∧ (yX2_law).cls ≠ "java/lang/invoke/VarHandle" ∧ (parseMethodDescriptor (yX2_law).desc).map (fun d => d.parameters.length) = some 0 := by decide +kernel
theorem yd_X2_both : (yX2_both).cls ≠ "java/lang/invoke/MethodHandle" ∧ (yX2_both).cls ≠ "java/lang/invoke/VarHandle" ∧ (parseMethodDescriptor (yX2_both).desc).map (fun d => d.parameters.length) = some 3 := by decide +kernel
theorem yd_X2_worked : (yX2_worked).cls = RX2 ∧ (yX2_worked).cls ≠ "java/lang/invoke/MethodHandle" ∧ (yX2_worked).cls ≠ "java/lang/invoke/VarHandle" ∧ (parseMethodDescriptor (yX2_worked).desc).map (fun d => d.parameters.length) = some 2 := by decide +kernel
theorem yd_X2_loss : (yX2_loss).cls = RX2 ∧ (yX2_loss).cls ≠ "java/lang/invoke/MethodHandle" ∧ (yX2_loss).cls ≠ "java/lang/invoke/VarHandle" ∧ (parseMethodDescriptor (yX2_loss).desc).map (fun d => d.parameters.length) = some 5 := by decide +kernel
theorem yd_X2_loses : (yX2_loses).cls = RX2 ∧ (yX2_loses).cls ≠ "java/lang/invoke/MethodHandle" ∧ (yX2_loses).cls ≠ "java/lang/invoke/VarHandle" ∧ (parseMethodDescriptor (yX2_loses).desc).map (fun d => d.parameters.length) = some 3 := by decide +kernel
theorem yd_X2_noRow : (yX2_noRow).cls = RX2 ∧ (yX2_noRow).cls ≠ "java/lang/invoke/MethodHandle" ∧ (yX2_noRow).cls ≠ "java/lang/invoke/VarHandle" ∧ (parseMethodDescriptor (yX2_noRow).desc).map (fun d => d.parameters.length) = some 2 := by decide +kernel
theorem yd_X2_reads : (yX2_reads).cls = RX2 ∧ (yX2_reads).cls ≠ "java/lang/invoke/MethodHandle" ∧ (yX2_reads).cls ≠ "java/lang/invoke/VarHandle" ∧ (parseMethodDescriptor (yX2_reads).desc).map (fun d => d.parameters.length) = some 1 := by decide +kernel
theorem yd_X2_drifts : (yX2_drifts).cls = RX2 ∧ (yX2_drifts).cls ≠ "java/lang/invoke/MethodHandle" ∧ (yX2_drifts).cls ≠ "java/lang/invoke/VarHandle" ∧ (parseMethodDescriptor (yX2_drifts).desc).map (fun d => d.parameters.length) = some 1 := by decide +kernel
theorem yd_X2_offOf : (yX2_offOf).cls = RX2 ∧ (yX2_offOf).cls ≠ "java/lang/invoke/MethodHandle" ∧ (yX2_offOf).cls ≠ "java/lang/invoke/VarHandle" ∧ (parseMethodDescriptor (yX2_offOf).desc).map (fun d => d.parameters.length) = some 2 := by decide +kernel
theorem yd_X2_apartOf : (yX2_apartOf).cls = RX2 ∧ (yX2_apartOf).cls ≠ "java/lang/invoke/MethodHandle" ∧ (yX2_apartOf).cls ≠ "java/lang/invoke/VarHandle" ∧ (parseMethodDescriptor (yX2_apartOf).desc).map (fun d => d.parameters.length) = some 3 := by decide +kernel
theorem yd_X2_farthest : (yX2_farthest).cls = RX2 ∧ (yX2_farthest).cls ≠ "java/lang/invoke/MethodHandle" ∧ (yX2_farthest).cls ≠ "java/lang/invoke/VarHandle" ∧ (parseMethodDescriptor (yX2_farthest).desc).map (fun d => d.parameters.length) = some 1 := by decide +kernel
theorem yd_X2_greatest : (yX2_greatest).cls = RX2 ∧ (yX2_greatest).cls ≠ "java/lang/invoke/MethodHandle" ∧ (yX2_greatest).cls ≠ "java/lang/invoke/VarHandle" ∧ (parseMethodDescriptor (yX2_greatest).desc).map (fun d => d.parameters.length) = some 1 := by decide +kernel
theorem yd_X2_marks : (yX2_marks).cls = RX2 ∧ (yX2_marks).cls ≠ "java/lang/invoke/MethodHandle" ∧ (yX2_marks).cls ≠ "java/lang/invoke/VarHandle" ∧ (parseMethodDescriptor (yX2_marks).desc).map (fun d => d.parameters.length) = some 0 := by decide +kernel
theorem yd_X2_marksNow : (yX2_marksNow).cls = RX2 ∧ (yX2_marksNow).cls ≠ "java/lang/invoke/MethodHandle" ∧ (yX2_marksNow).cls ≠ "java/lang/invoke/VarHandle" ∧ (parseMethodDescriptor (yX2_marksNow).desc).map (fun d => d.parameters.length) = some 0 := by decide +kernel
theorem yd_X2_firstApart : (yX2_firstApart).cls = RX2 ∧ (yX2_firstApart).cls ≠ "java/lang/invoke/MethodHandle" ∧ (yX2_firstApart).cls ≠ "java/lang/invoke/VarHandle" ∧ (parseMethodDescriptor (yX2_firstApart).desc).map (fun d => d.parameters.length) = some 0 := by decide +kernel
theorem yd_X2_losers : (yX2_losers).cls = RX2 ∧ (yX2_losers).cls ≠ "java/lang/invoke/MethodHandle" ∧ (yX2_losers).cls ≠ "java/lang/invoke/VarHandle" ∧ (parseMethodDescriptor (yX2_losers).desc).map (fun d => d.parameters.length) = some 0 := by decide +kernel
theorem yd_X2_routine : (yX2_routine).cls = RX2 ∧ (yX2_routine).cls ≠ "java/lang/invoke/MethodHandle" ∧ (yX2_routine).cls ≠ "java/lang/invoke/VarHandle" ∧ (parseMethodDescriptor (yX2_routine).desc).map (fun d => d.parameters.length) = some 2 := by decide +kernel
theorem yd_X2_off : (yX2_off).cls = RX2 ∧ (yX2_off).cls ≠ "java/lang/invoke/MethodHandle" ∧ (yX2_off).cls ≠ "java/lang/invoke/VarHandle" ∧ (parseMethodDescriptor (yX2_off).desc).map (fun d => d.parameters.length) = some 3 := by decide +kernel
theorem yd_X2_apart : (yX2_apart).cls = RX2 ∧ (yX2_apart).cls ≠ "java/lang/invoke/MethodHandle" ∧ (yX2_apart).cls ≠ "java/lang/invoke/VarHandle" ∧ (parseMethodDescriptor (yX2_apart).desc).map (fun d => d.parameters.length) = some 3 := by decide +kernel
theorem yd_X2_isUnder : (yX2_isUnder).cls ≠ "java/lang/invoke/MethodHandle" ∧ (yX2_isUnder).cls ≠ "java/lang/invoke/VarHandle" ∧ (parseMethodDescriptor (yX2_isUnder).desc).map (fun d => d.parameters.length) = some 1 := by decide +kernel
theorem yd_X2_goneAt : (yX2_goneAt).cls = RX2 ∧ (yX2_goneAt).cls ≠ "java/lang/invoke/MethodHandle" ∧ (yX2_goneAt).cls ≠ "java/lang/invoke/VarHandle" ∧ (parseMethodDescriptor (yX2_goneAt).desc).map (fun d => d.parameters.length) = some 1 := by decide +kernel
theorem yd_X2_goneBits : (yX2_goneBits).cls = RX2 ∧ (yX2_goneBits).cls ≠ "java/lang/invoke/MethodHandle" ∧ (yX2_goneBits).cls ≠ "java/lang/invoke/VarHandle" ∧ (parseMethodDescriptor (yX2_goneBits).desc).map (fun d => d.parameters.length) = some 0 := by decide +kernel
theorem yd_X2_gone : (yX2_gone).cls = RX2 ∧ (yX2_gone).cls ≠ "java/lang/invoke/MethodHandle" ∧ (yX2_gone).cls ≠ "java/lang/invoke/VarHandle" ∧ (parseMethodDescriptor (yX2_gone).desc).map (fun d => d.parameters.length) = some 2 := by decide +kernel
theorem yd_X2_least : (yX2_least).cls = RX2 ∧ (yX2_least).cls ≠ "java/lang/invoke/MethodHandle" ∧ (yX2_least).cls ≠ "java/lang/invoke/VarHandle" ∧ (parseMethodDescriptor (yX2_least).desc).map (fun d => d.parameters.length) = some 2 := by decide +kernel
theorem yd_X2_isNeverApart : (yX2_isNeverApart).cls = RX2 ∧ (yX2_isNeverApart).cls ≠ "java/lang/invoke/MethodHandle" ∧ (yX2_isNeverApart).cls ≠ "java/lang/invoke/VarHandle" ∧ (parseMethodDescriptor (yX2_isNeverApart).desc).map (fun d => d.parameters.length) = some 0 := by decide +kernel
theorem yd_X2_picks : (yX2_picks).cls = RX2 ∧ (yX2_picks).cls ≠ "java/lang/invoke/MethodHandle" ∧ (yX2_picks).cls ≠ "java/lang/invoke/VarHandle" ∧ (parseMethodDescriptor (yX2_picks).desc).map (fun d => d.parameters.length) = some 5 := by decide +kernel
theorem yd_X2_fewest : (yX2_fewest).cls = RX2 ∧ (yX2_fewest).cls ≠ "java/lang/invoke/MethodHandle" ∧ (yX2_fewest).cls ≠ "java/lang/invoke/VarHandle" ∧ (parseMethodDescriptor (yX2_fewest).desc).map (fun d => d.parameters.length) = some 4 := by decide +kernel
theorem yd_X2_gasps : (yX2_gasps).cls = RX2 ∧ (yX2_gasps).cls ≠ "java/lang/invoke/MethodHandle" ∧ (yX2_gasps).cls ≠ "java/lang/invoke/VarHandle" ∧ (parseMethodDescriptor (yX2_gasps).desc).map (fun d => d.parameters.length) = some 2 := by decide +kernel
theorem yd_X2_looks : (yX2_looks).cls = RX2 ∧ (yX2_looks).cls ≠ "java/lang/invoke/MethodHandle" ∧ (yX2_looks).cls ≠ "java/lang/invoke/VarHandle" ∧ (parseMethodDescriptor (yX2_looks).desc).map (fun d => d.parameters.length) = some 2 := by decide +kernel
theorem yd_X2_whose : (yX2_whose).cls = RX2 ∧ (yX2_whose).cls ≠ "java/lang/invoke/MethodHandle" ∧ (yX2_whose).cls ≠ "java/lang/invoke/VarHandle" ∧ (parseMethodDescriptor (yX2_whose).desc).map (fun d => d.parameters.length) = some 2 := by decide +kernel
theorem yd_X2_first : (yX2_first).cls = RX2 ∧ (yX2_first).cls ≠ "java/lang/invoke/MethodHandle" ∧ (yX2_first).cls ≠ "java/lang/invoke/VarHandle" ∧ (parseMethodDescriptor (yX2_first).desc).map (fun d => d.parameters.length) = some 2 := by decide +kernel
theorem yd_X2_slip : (yX2_slip).cls = RX2 ∧ (yX2_slip).cls ≠ "java/lang/invoke/MethodHandle" ∧ (yX2_slip).cls ≠ "java/lang/invoke/VarHandle" ∧ (parseMethodDescriptor (yX2_slip).desc).map (fun d => d.parameters.length) = some 3 := by decide +kernel
theorem yd_X2_unlike : (yX2_unlike).cls = RX2 ∧ (yX2_unlike).cls ≠ "java/lang/invoke/MethodHandle" ∧ (yX2_unlike).cls ≠ "java/lang/invoke/VarHandle" ∧ (parseMethodDescriptor (yX2_unlike).desc).map (fun d => d.parameters.length) = some 1 := by decide +kernel
theorem yd_X2_exchange : (yX2_exchange).cls = RX2 ∧ (yX2_exchange).cls ≠ "java/lang/invoke/MethodHandle" ∧ (yX2_exchange).cls ≠ "java/lang/invoke/VarHandle" ∧ (parseMethodDescriptor (yX2_exchange).desc).map (fun d => d.parameters.length) = some 2 := by decide +kernel
theorem yd_X2_nextOrder : (yX2_nextOrder).cls = RX2 ∧ (yX2_nextOrder).cls ≠ "java/lang/invoke/MethodHandle" ∧ (yX2_nextOrder).cls ≠ "java/lang/invoke/VarHandle" ∧ (parseMethodDescriptor (yX2_nextOrder).desc).map (fun d => d.parameters.length) = some 0 := by decide +kernel
theorem yd_X2_line : (yX2_line).cls = RX2 ∧ (yX2_line).cls ≠ "java/lang/invoke/MethodHandle" ∧ (yX2_line).cls ≠ "java/lang/invoke/VarHandle" ∧ (parseMethodDescriptor (yX2_line).desc).map (fun d => d.parameters.length) = some 2 := by decide +kernel
theorem yd_X2_lift : (yX2_lift).cls = RX2 ∧ (yX2_lift).cls ≠ "java/lang/invoke/MethodHandle" ∧ (yX2_lift).cls ≠ "java/lang/invoke/VarHandle" ∧ (parseMethodDescriptor (yX2_lift).desc).map (fun d => d.parameters.length) = some 1 := by decide +kernel
theorem yd_X2_span : (yX2_span).cls ≠ "java/lang/invoke/MethodHandle" ∧ (yX2_span).cls ≠ "java/lang/invoke/VarHandle" ∧ (parseMethodDescriptor (yX2_span).desc).map (fun d => d.parameters.length) = some 2 := by decide +kernel
theorem yd_X2_isAt : (yX2_isAt).cls = RX2 ∧ (yX2_isAt).cls ≠ "java/lang/invoke/MethodHandle" ∧ (yX2_isAt).cls ≠ "java/lang/invoke/VarHandle" ∧ (parseMethodDescriptor (yX2_isAt).desc).map (fun d => d.parameters.length) = some 3 := by decide +kernel
theorem yd_X2_star : (yX2_star).cls = RX2 ∧ (yX2_star).cls ≠ "java/lang/invoke/MethodHandle" ∧ (yX2_star).cls ≠ "java/lang/invoke/VarHandle" ∧ (parseMethodDescriptor (yX2_star).desc).map (fun d => d.parameters.length) = some 1 := by decide +kernel
theorem yd_X2_areShelves : (yX2_areShelves).cls ≠ "java/lang/invoke/MethodHandle" ∧ (yX2_areShelves).cls ≠ "java/lang/invoke/VarHandle" ∧ (parseMethodDescriptor (yX2_areShelves).desc).map (fun d => d.parameters.length) = some 1 := by decide +kernel
theorem yd_X2_noRipples : (yX2_noRipples).cls = RX2 ∧ (yX2_noRipples).cls ≠ "java/lang/invoke/MethodHandle" ∧ (yX2_noRipples).cls ≠ "java/lang/invoke/VarHandle" ∧ (parseMethodDescriptor (yX2_noRipples).desc).map (fun d => d.parameters.length) = some 1 := by decide +kernel
theorem yd_X2_wrong : (yX2_wrong).cls = RX2 ∧ (yX2_wrong).cls ≠ "java/lang/invoke/MethodHandle" ∧ (yX2_wrong).cls ≠ "java/lang/invoke/VarHandle" ∧ (parseMethodDescriptor (yX2_wrong).desc).map (fun d => d.parameters.length) = some 1 := by decide +kernel
theorem yd_X2_judge : (yX2_judge).cls = RX2 ∧ (yX2_judge).cls ≠ "java/lang/invoke/MethodHandle" ∧ (yX2_judge).cls ≠ "java/lang/invoke/VarHandle" ∧ (parseMethodDescriptor (yX2_judge).desc).map (fun d => d.parameters.length) = some 1 := by decide +kernel
theorem yd_X2_whoLed : (yX2_whoLed).cls = RX2 ∧ (yX2_whoLed).cls ≠ "java/lang/invoke/MethodHandle" ∧ (yX2_whoLed).cls ≠ "java/lang/invoke/VarHandle" ∧ (parseMethodDescriptor (yX2_whoLed).desc).map (fun d => d.parameters.length) = some 1 := by decide +kernel
theorem yd_X2_later : (yX2_later).cls = RX2 ∧ (yX2_later).cls ≠ "java/lang/invoke/MethodHandle" ∧ (yX2_later).cls ≠ "java/lang/invoke/VarHandle" ∧ (parseMethodDescriptor (yX2_later).desc).map (fun d => d.parameters.length) = some 2 := by decide +kernel
theorem yd_X2_quicker : (yX2_quicker).cls = RX2 ∧ (yX2_quicker).cls ≠ "java/lang/invoke/MethodHandle" ∧ (yX2_quicker).cls ≠ "java/lang/invoke/VarHandle" ∧ (parseMethodDescriptor (yX2_quicker).desc).map (fun d => d.parameters.length) = some 2 := by decide +kernel
theorem yd_X2_drawn : (yX2_drawn).cls = RX2 ∧ (yX2_drawn).cls ≠ "java/lang/invoke/MethodHandle" ∧ (yX2_drawn).cls ≠ "java/lang/invoke/VarHandle" ∧ (parseMethodDescriptor (yX2_drawn).desc).map (fun d => d.parameters.length) = some 4 := by decide +kernel
theorem yd_X2_swim : (yX2_swim).cls = RX2 ∧ (yX2_swim).cls ≠ "java/lang/invoke/MethodHandle" ∧ (yX2_swim).cls ≠ "java/lang/invoke/VarHandle" ∧ (parseMethodDescriptor (yX2_swim).desc).map (fun d => d.parameters.length) = some 1 := by decide +kernel
theorem yd_X2_led : (yX2_led).cls = RX2 ∧ (yX2_led).cls ≠ "java/lang/invoke/MethodHandle" ∧ (yX2_led).cls ≠ "java/lang/invoke/VarHandle" ∧ (parseMethodDescriptor (yX2_led).desc).map (fun d => d.parameters.length) = some 1 := by decide +kernel
theorem yd_X2_image : (yX2_image).cls = RX2 ∧ (yX2_image).cls ≠ "java/lang/invoke/MethodHandle" ∧ (yX2_image).cls ≠ "java/lang/invoke/VarHandle" ∧ (parseMethodDescriptor (yX2_image).desc).map (fun d => d.parameters.length) = some 0 := by decide +kernel
theorem yd_X2_back : (yX2_back).cls = RX2 ∧ (yX2_back).cls ≠ "java/lang/invoke/MethodHandle" ∧ (yX2_back).cls ≠ "java/lang/invoke/VarHandle" ∧ (parseMethodDescriptor (yX2_back).desc).map (fun d => d.parameters.length) = some 0 := by decide +kernel
theorem yd_X2_above : (yX2_above).cls ≠ "java/lang/invoke/MethodHandle" ∧ (yX2_above).cls ≠ "java/lang/invoke/VarHandle" ∧ (parseMethodDescriptor (yX2_above).desc).map (fun d => d.parameters.length) = some 1 := by decide +kernel
theorem yd_X2_ran : (yX2_ran).cls = RX2 ∧ (yX2_ran).cls ≠ "java/lang/invoke/MethodHandle" ∧ (yX2_ran).cls ≠ "java/lang/invoke/VarHandle" ∧ (parseMethodDescriptor (yX2_ran).desc).map (fun d => d.parameters.length) = some 1 := by decide +kernel
theorem yd_X2_countsBy : (yX2_countsBy).cls = RX2 ∧ (yX2_countsBy).cls ≠ "java/lang/invoke/MethodHandle" ∧ (yX2_countsBy).cls ≠ "java/lang/invoke/VarHandle" ∧ (parseMethodDescriptor (yX2_countsBy).desc).map (fun d => d.parameters.length) = some 3 := by decide +kernel
theorem yd_X2_sinksBy : (yX2_sinksBy).cls = RX2 ∧ (yX2_sinksBy).cls ≠ "java/lang/invoke/MethodHandle" ∧ (yX2_sinksBy).cls ≠ "java/lang/invoke/VarHandle" ∧ (parseMethodDescriptor (yX2_sinksBy).desc).map (fun d => d.parameters.length) = some 3 := by decide +kernel
theorem yd_X2_turnsBy : (yX2_turnsBy).cls = RX2 ∧ (yX2_turnsBy).cls ≠ "java/lang/invoke/MethodHandle" ∧ (yX2_turnsBy).cls ≠ "java/lang/invoke/VarHandle" ∧ (parseMethodDescriptor (yX2_turnsBy).desc).map (fun d => d.parameters.length) = some 3 := by decide +kernel
theorem yd_X2_tells : (yX2_tells).cls = RX2 ∧ (yX2_tells).cls ≠ "java/lang/invoke/MethodHandle" ∧ (yX2_tells).cls ≠ "java/lang/invoke/VarHandle" ∧ (parseMethodDescriptor (yX2_tells).desc).map (fun d => d.parameters.length) = some 3 := by decide +kernel
theorem yd_X2_body : (yX2_body).cls = RX2 ∧ (yX2_body).cls ≠ "java/lang/invoke/MethodHandle" ∧ (yX2_body).cls ≠ "java/lang/invoke/VarHandle" ∧ (parseMethodDescriptor (yX2_body).desc).map (fun d => d.parameters.length) = some 1 := by decide +kernel
theorem yd_X2_act : (yX2_act).cls = RX2 ∧ (yX2_act).cls ≠ "java/lang/invoke/MethodHandle" ∧ (yX2_act).cls ≠ "java/lang/invoke/VarHandle" ∧ (parseMethodDescriptor (yX2_act).desc).map (fun d => d.parameters.length) = some 3 := by decide +kernel
theorem yd_X2_trace : (yX2_trace).cls = RX2 ∧ (yX2_trace).cls ≠ "java/lang/invoke/MethodHandle" ∧ (yX2_trace).cls ≠ "java/lang/invoke/VarHandle" ∧ (parseMethodDescriptor (yX2_trace).desc).map (fun d => d.parameters.length) = some 1 := by decide +kernel
theorem yd_X2_keep : (yX2_keep).cls = RX2 ∧ (yX2_keep).cls ≠ "java/lang/invoke/MethodHandle" ∧ (yX2_keep).cls ≠ "java/lang/invoke/VarHandle" ∧ (parseMethodDescriptor (yX2_keep).desc).map (fun d => d.parameters.length) = some 2 := by decide +kernel
theorem yd_X2_row : (yX2_row).cls = RX2 ∧ (yX2_row).cls ≠ "java/lang/invoke/MethodHandle" ∧ (yX2_row).cls ≠ "java/lang/invoke/VarHandle" ∧ (parseMethodDescriptor (yX2_row).desc).map (fun d => d.parameters.length) = some 3 := by decide +kernel
theorem yd_X2_isRow : (yX2_isRow).cls = RX2 ∧ (yX2_isRow).cls ≠ "java/lang/invoke/MethodHandle" ∧ (yX2_isRow).cls ≠ "java/lang/invoke/VarHandle" ∧ (parseMethodDescriptor (yX2_isRow).desc).map (fun d => d.parameters.length) = some 1 := by decide +kernel
theorem yd_X2_kept : (yX2_kept).cls ≠ "java/lang/invoke/MethodHandle" ∧ (yX2_kept).cls ≠ "java/lang/invoke/VarHandle" ∧ (parseMethodDescriptor (yX2_kept).desc).map (fun d => d.parameters.length) = some 2 := by decide +kernel
theorem yd_X2_put : (yX2_put).cls = RX2 ∧ (yX2_put).cls ≠ "java/lang/invoke/MethodHandle" ∧ (yX2_put).cls ≠ "java/lang/invoke/VarHandle" ∧ (parseMethodDescriptor (yX2_put).desc).map (fun d => d.parameters.length) = some 3 := by decide +kernel
theorem yd_X2_element : (yX2_element).cls = RX2 ∧ (yX2_element).cls ≠ "java/lang/invoke/MethodHandle" ∧ (yX2_element).cls ≠ "java/lang/invoke/VarHandle" ∧ (parseMethodDescriptor (yX2_element).desc).map (fun d => d.parameters.length) = some 2 := by decide +kernel
theorem yd_X2_shift : (yX2_shift).cls = RX2 ∧ (yX2_shift).cls ≠ "java/lang/invoke/MethodHandle" ∧ (yX2_shift).cls ≠ "java/lang/invoke/VarHandle" ∧ (parseMethodDescriptor (yX2_shift).desc).map (fun d => d.parameters.length) = some 5 := by decide +kernel
theorem yd_X2_taken : (yX2_taken).cls = RX2 ∧ (yX2_taken).cls ≠ "java/lang/invoke/MethodHandle" ∧ (yX2_taken).cls ≠ "java/lang/invoke/VarHandle" ∧ (parseMethodDescriptor (yX2_taken).desc).map (fun d => d.parameters.length) = some 2 := by decide +kernel
theorem yd_X2_count : (yX2_count).cls = RX2 ∧ (yX2_count).cls ≠ "java/lang/invoke/MethodHandle" ∧ (yX2_count).cls ≠ "java/lang/invoke/VarHandle" ∧ (parseMethodDescriptor (yX2_count).desc).map (fun d => d.parameters.length) = some 1 := by decide +kernel
section PWALK
variable {p : Program} {l : Launch} {e : Env} {R : Room} {s : State} {m : MethodId} {args : Array Value} {below : List Frame} {meth : Method} {c : Code} {A : Nat → Prop}
variable {L : pL}
def fP_bitCount (N : Nat) (σ : pS) (a0 : Int32) : Option (pS × Int32) :=
  nmv (a0 - (((a0.toUInt32 >>> ((1 : Int32).toUInt32 &&& Int32.toUInt32 31)).toInt32) &&& 1431655765)) fun x_1 =>
  nmv ((x_1 &&& 858993459) + (((x_1.toUInt32 >>> ((2 : Int32).toUInt32 &&& Int32.toUInt32 31)).toInt32) &&& 858993459)) fun x_2 =>
  nmv ((x_2 + ((x_2.toUInt32 >>> ((4 : Int32).toUInt32 &&& Int32.toUInt32 31)).toInt32)) &&& 252645135) fun x_3 =>
  nmv (x_3 + ((x_3.toUInt32 >>> ((8 : Int32).toUInt32 &&& Int32.toUInt32 31)).toInt32)) fun x_4 =>
  nmv (x_4 + ((x_4.toUInt32 >>> ((16 : Int32).toUInt32 &&& Int32.toUInt32 31)).toInt32)) fun x_5 =>
  some (σ, x_5 &&& 63)
theorem bP_bitCount_e {N : Nat} (C0 : pCx p s m args meth c cJ13_bitCount 1 (some .int) L A) (hRo : 0 ≤ R.frames ∧ 0 ≤ R.locals) {σ' : pS} {r : Int32} (σ : pS) (a0 : Int32) (H : Heap) (locs : List Loc) (ls : Array Slot) (hG : pG A L s σ H locs) (hl : lv_has ls 1 [(0, .int a0)]) (hF : fP_bitCount N σ a0 = some (σ', r)) : W p l e R s m args below meth c H locs 0 0 (pZ below L A s args σ' (some (.int r))) (F0 m 0 ls []) := by
  have hx := C0.1
  have hb := C0.2.1
  unfold fP_bitCount at hF
  refine lv_iload_n hx hb dJ13_bitCount_0 rfl (lv_at hl 0 rfl) ?_
  refine lv_iload_n hx hb dJ13_bitCount_1 rfl (lv_at hl 0 rfl) ?_
  refine lv_iconst (v := 1) hx hb dJ13_bitCount_2 (by decide) ?_
  refine lv_iushr (v := (a0.toUInt32 >>> ((1 : Int32).toUInt32 &&& Int32.toUInt32 31)).toInt32) hx hb dJ13_bitCount_3 rfl ?_
  refine lv_ldcw (v := 1431655765) hx hb C0.2.2.2.1 (C0.2.2.2.2.1 _ q1002) dJ13_bitCount_4 ?_
  refine lv_iand hx hb dJ13_bitCount_7 ?_
  refine lv_isub hx hb dJ13_bitCount_8 ?_
  refine w_nm hF (fun x_1 hF => ?_)
  refine lv_istore_n (lv' := [(0, .int x_1)]) hx hb dJ13_bitCount_9 rfl hl (by decide) rfl (fun ls hl => ?_)
  refine lv_iload_n hx hb dJ13_bitCount_10 rfl (lv_at hl 0 rfl) ?_
  refine lv_ldcw (v := 858993459) hx hb C0.2.2.2.1 (C0.2.2.2.2.1 _ q1003) dJ13_bitCount_11 ?_
  refine lv_iand hx hb dJ13_bitCount_14 ?_
  refine lv_iload_n hx hb dJ13_bitCount_15 rfl (lv_at hl 0 rfl) ?_
  refine lv_iconst (v := 2) hx hb dJ13_bitCount_16 (by decide) ?_
  refine lv_iushr (v := (x_1.toUInt32 >>> ((2 : Int32).toUInt32 &&& Int32.toUInt32 31)).toInt32) hx hb dJ13_bitCount_17 rfl ?_
  refine lv_ldcw (v := 858993459) hx hb C0.2.2.2.1 (C0.2.2.2.2.1 _ q1003) dJ13_bitCount_18 ?_
  refine lv_iand hx hb dJ13_bitCount_21 ?_
  refine lv_iadd hx hb dJ13_bitCount_22 ?_
  refine w_nm hF (fun x_2 hF => ?_)
  refine lv_istore_n (lv' := [(0, .int x_2)]) hx hb dJ13_bitCount_23 rfl hl (by decide) rfl (fun ls hl => ?_)
  refine lv_iload_n hx hb dJ13_bitCount_24 rfl (lv_at hl 0 rfl) ?_
  refine lv_iload_n hx hb dJ13_bitCount_25 rfl (lv_at hl 0 rfl) ?_
  refine lv_iconst (v := 4) hx hb dJ13_bitCount_26 (by decide) ?_
  refine lv_iushr (v := (x_2.toUInt32 >>> ((4 : Int32).toUInt32 &&& Int32.toUInt32 31)).toInt32) hx hb dJ13_bitCount_27 rfl ?_
  refine lv_iadd hx hb dJ13_bitCount_28 ?_
  refine lv_ldcw (v := 252645135) hx hb C0.2.2.2.1 (C0.2.2.2.2.1 _ q1004) dJ13_bitCount_29 ?_
  refine lv_iand hx hb dJ13_bitCount_32 ?_
  refine w_nm hF (fun x_3 hF => ?_)
  refine lv_istore_n (lv' := [(0, .int x_3)]) hx hb dJ13_bitCount_33 rfl hl (by decide) rfl (fun ls hl => ?_)
  refine lv_iload_n hx hb dJ13_bitCount_34 rfl (lv_at hl 0 rfl) ?_
  refine lv_iload_n hx hb dJ13_bitCount_35 rfl (lv_at hl 0 rfl) ?_
  refine lv_bipush (v := 8) hx hb dJ13_bitCount_36 (by decide) ?_
  refine lv_iushr (v := (x_3.toUInt32 >>> ((8 : Int32).toUInt32 &&& Int32.toUInt32 31)).toInt32) hx hb dJ13_bitCount_38 rfl ?_
  refine lv_iadd hx hb dJ13_bitCount_39 ?_
  refine w_nm hF (fun x_4 hF => ?_)
  refine lv_istore_n (lv' := [(0, .int x_4)]) hx hb dJ13_bitCount_40 rfl hl (by decide) rfl (fun ls hl => ?_)
  refine lv_iload_n hx hb dJ13_bitCount_41 rfl (lv_at hl 0 rfl) ?_
  refine lv_iload_n hx hb dJ13_bitCount_42 rfl (lv_at hl 0 rfl) ?_
  refine lv_bipush (v := 16) hx hb dJ13_bitCount_43 (by decide) ?_
  refine lv_iushr (v := (x_4.toUInt32 >>> ((16 : Int32).toUInt32 &&& Int32.toUInt32 31)).toInt32) hx hb dJ13_bitCount_45 rfl ?_
  refine lv_iadd hx hb dJ13_bitCount_46 ?_
  refine w_nm hF (fun x_5 hF => ?_)
  refine lv_istore_n (lv' := [(0, .int x_5)]) hx hb dJ13_bitCount_47 rfl hl (by decide) rfl (fun ls hl => ?_)
  refine lv_iload_n hx hb dJ13_bitCount_48 rfl (lv_at hl 0 rfl) ?_
  refine lv_bipush (v := 63) hx hb dJ13_bitCount_49 (by decide) ?_
  refine lv_iand hx hb dJ13_bitCount_51 ?_
  exact p_iret C0 hG dJ13_bitCount_52 hF
theorem mtP_bitCount (l : Launch) {N : Nat} {L : pL} {σ σ' : pS} {r : Int32} {a0 : Int32} (hF : fP_bitCount N σ a0 = some (σ', r)) : pMet l yJ13_bitCount cJ13_bitCount 1 (some .int) (0) (0) [.int a0] L σ (some (.int r)) σ' := by
  refine p_head (by decide) rfl ?_
  intro p e s m below meth c A C0 hG
  have hl := lv_entry ([.int a0]) (n := 1) (Nat.le_of_ble_eq_true rfl)
  rw [lg_entry_eq]
  generalize (lg_sl ([.int a0]) ++ List.replicate (1 - (lg_sl ([.int a0])).length) Slot.unset).toArray = ls at hl ⊢
  have hl : lv_has ls 1 [(0, .int a0)] := hl
  exact bP_bitCount_e C0 ⟨Nat.le_refl _, Nat.le_refl _⟩ _ _ _ [] ls hG hl hF
def fP_numberOfTrailingZeros_b74 (N : Nat) (σ : pS) (x0 : Int32) (x1 : Int32) : Option (pS × Int32) :=
  some (σ, x1 + ((x0.toUInt32 >>> ((1 : Int32).toUInt32 &&& Int32.toUInt32 31)).toInt32))
def fP_numberOfTrailingZeros_b62 (N : Nat) (σ : pS) (x0 : Int32) (x1 : Int32) : Option (pS × Int32) :=
  if x0 ≤ 4 then (
    fP_numberOfTrailingZeros_b74 N σ x0 x1)
  else (
    nmv (x1 + 2) fun x_13 =>
    nmv ((x0.toUInt32 >>> ((2 : Int32).toUInt32 &&& Int32.toUInt32 31)).toInt32) fun x_14 =>
    fP_numberOfTrailingZeros_b74 N σ x_14 x_13)
def fP_numberOfTrailingZeros_b49 (N : Nat) (σ : pS) (x0 : Int32) (x1 : Int32) : Option (pS × Int32) :=
  if x0 ≤ 16 then (
    fP_numberOfTrailingZeros_b62 N σ x0 x1)
  else (
    nmv (x1 + 4) fun x_10 =>
    nmv ((x0.toUInt32 >>> ((4 : Int32).toUInt32 &&& Int32.toUInt32 31)).toInt32) fun x_11 =>
    fP_numberOfTrailingZeros_b62 N σ x_11 x_10)
def fP_numberOfTrailingZeros_b34 (N : Nat) (σ : pS) (x0 : Int32) (x1 : Int32) : Option (pS × Int32) :=
  if x0 ≤ 256 then (
    fP_numberOfTrailingZeros_b49 N σ x0 x1)
  else (
    nmv (x1 + 8) fun x_7 =>
    nmv ((x0.toUInt32 >>> ((8 : Int32).toUInt32 &&& Int32.toUInt32 31)).toInt32) fun x_8 =>
    fP_numberOfTrailingZeros_b49 N σ x_8 x_7)
def fP_numberOfTrailingZeros (N : Nat) (σ : pS) (a0 : Int32) : Option (pS × Int32) :=
  nmv ((a0 ^^^ (-1)) &&& (a0 - 1)) fun x_1 =>
  if 0 < x_1 then (
    if x_1 ≤ 65536 then (
      fP_numberOfTrailingZeros_b34 N σ x_1 1)
    else (
      nmv ((1 : Int32) + 16) fun x_4 =>
      nmv ((x_1.toUInt32 >>> ((16 : Int32).toUInt32 &&& Int32.toUInt32 31)).toInt32) fun x_5 =>
      fP_numberOfTrailingZeros_b34 N σ x_5 x_4))
  else (
    some (σ, x_1 &&& 32))
theorem bP_numberOfTrailingZeros_74 {N : Nat} (C0 : pCx p s m args meth c cJ13_numberOfTrailingZeros 2 (some .int) L A) (hRo : 0 ≤ R.frames ∧ 0 ≤ R.locals) {σ' : pS} {r : Int32} (σ : pS) (x0 : Int32) (x1 : Int32) (H : Heap) (locs : List Loc) (ls : Array Slot) (hG : pG A L s σ H locs) (hl : lv_has ls 2 [(0, .int x0), (1, .int x1)]) (hF : fP_numberOfTrailingZeros_b74 N σ x0 x1 = some (σ', r)) : W p l e R s m args below meth c H locs 0 0 (pZ below L A s args σ' (some (.int r))) (F0 m 74 ls []) := by
  have hx := C0.1
  have hb := C0.2.1
  unfold fP_numberOfTrailingZeros_b74 at hF
  refine lv_iload_n hx hb dJ13_numberOfTrailingZeros_74 rfl (lv_at hl 1 rfl) ?_
  refine lv_iload_n hx hb dJ13_numberOfTrailingZeros_75 rfl (lv_at hl 0 rfl) ?_
  refine lv_iconst (v := 1) hx hb dJ13_numberOfTrailingZeros_76 (by decide) ?_
  refine lv_iushr (v := (x0.toUInt32 >>> ((1 : Int32).toUInt32 &&& Int32.toUInt32 31)).toInt32) hx hb dJ13_numberOfTrailingZeros_77 rfl ?_
  refine lv_iadd hx hb dJ13_numberOfTrailingZeros_78 ?_
  exact p_iret C0 hG dJ13_numberOfTrailingZeros_79 hF
theorem bP_numberOfTrailingZeros_62 {N : Nat} (C0 : pCx p s m args meth c cJ13_numberOfTrailingZeros 2 (some .int) L A) (hRo : 0 ≤ R.frames ∧ 0 ≤ R.locals) {σ' : pS} {r : Int32} (σ : pS) (x0 : Int32) (x1 : Int32) (H : Heap) (locs : List Loc) (ls : Array Slot) (hG : pG A L s σ H locs) (hl : lv_has ls 2 [(0, .int x0), (1, .int x1)]) (hF : fP_numberOfTrailingZeros_b62 N σ x0 x1 = some (σ', r)) : W p l e R s m args below meth c H locs 0 0 (pZ below L A s args σ' (some (.int r))) (F0 m 62 ls []) := by
  have hx := C0.1
  have hb := C0.2.1
  unfold fP_numberOfTrailingZeros_b62 at hF
  refine lv_iload_n hx hb dJ13_numberOfTrailingZeros_62 rfl (lv_at hl 0 rfl) ?_
  refine lv_iconst (v := 4) hx hb dJ13_numberOfTrailingZeros_63 (by decide) ?_
  refine lv_icmp_le (tgt := 74) hx hb dJ13_numberOfTrailingZeros_64 (by decide) (fun c_12 => ?_) (fun c_12 => ?_)
  · have hF := ifp hF c_12
    exact bP_numberOfTrailingZeros_74 C0 hRo _ _ _ H locs ls hG (lv_sub hl [0, 1] rfl) hF
  · have hF := ifn hF c_12
    refine w_iinc hx hb dJ13_numberOfTrailingZeros_67 hl 1 rfl (v := 2) (by decide) (by decide) hF (fun x_13 ls hl hF => ?_)
    have hl : lv_has ls 2 [(1, .int x_13), (0, .int x0)] := hl
    refine lv_iload_n hx hb dJ13_numberOfTrailingZeros_70 rfl (lv_at hl 1 rfl) ?_
    refine lv_iconst (v := 2) hx hb dJ13_numberOfTrailingZeros_71 (by decide) ?_
    refine lv_iushr (v := (x0.toUInt32 >>> ((2 : Int32).toUInt32 &&& Int32.toUInt32 31)).toInt32) hx hb dJ13_numberOfTrailingZeros_72 rfl ?_
    refine w_nm hF (fun x_14 hF => ?_)
    refine lv_istore_n (lv' := [(0, .int x_14), (1, .int x_13)]) hx hb dJ13_numberOfTrailingZeros_73 rfl hl (by decide) rfl (fun ls hl => ?_)
    exact bP_numberOfTrailingZeros_74 C0 hRo _ _ _ H locs ls hG (lv_sub hl [0, 1] rfl) hF
theorem bP_numberOfTrailingZeros_49 {N : Nat} (C0 : pCx p s m args meth c cJ13_numberOfTrailingZeros 2 (some .int) L A) (hRo : 0 ≤ R.frames ∧ 0 ≤ R.locals) {σ' : pS} {r : Int32} (σ : pS) (x0 : Int32) (x1 : Int32) (H : Heap) (locs : List Loc) (ls : Array Slot) (hG : pG A L s σ H locs) (hl : lv_has ls 2 [(0, .int x0), (1, .int x1)]) (hF : fP_numberOfTrailingZeros_b49 N σ x0 x1 = some (σ', r)) : W p l e R s m args below meth c H locs 0 0 (pZ below L A s args σ' (some (.int r))) (F0 m 49 ls []) := by
  have hx := C0.1
  have hb := C0.2.1
  unfold fP_numberOfTrailingZeros_b49 at hF
  refine lv_iload_n hx hb dJ13_numberOfTrailingZeros_49 rfl (lv_at hl 0 rfl) ?_
  refine lv_bipush (v := 16) hx hb dJ13_numberOfTrailingZeros_50 (by decide) ?_
  refine lv_icmp_le (tgt := 62) hx hb dJ13_numberOfTrailingZeros_52 (by decide) (fun c_9 => ?_) (fun c_9 => ?_)
  · have hF := ifp hF c_9
    exact bP_numberOfTrailingZeros_62 C0 hRo _ _ _ H locs ls hG (lv_sub hl [0, 1] rfl) hF
  · have hF := ifn hF c_9
    refine w_iinc hx hb dJ13_numberOfTrailingZeros_55 hl 1 rfl (v := 4) (by decide) (by decide) hF (fun x_10 ls hl hF => ?_)
    have hl : lv_has ls 2 [(1, .int x_10), (0, .int x0)] := hl
    refine lv_iload_n hx hb dJ13_numberOfTrailingZeros_58 rfl (lv_at hl 1 rfl) ?_
    refine lv_iconst (v := 4) hx hb dJ13_numberOfTrailingZeros_59 (by decide) ?_
    refine lv_iushr (v := (x0.toUInt32 >>> ((4 : Int32).toUInt32 &&& Int32.toUInt32 31)).toInt32) hx hb dJ13_numberOfTrailingZeros_60 rfl ?_
    refine w_nm hF (fun x_11 hF => ?_)
    refine lv_istore_n (lv' := [(0, .int x_11), (1, .int x_10)]) hx hb dJ13_numberOfTrailingZeros_61 rfl hl (by decide) rfl (fun ls hl => ?_)
    exact bP_numberOfTrailingZeros_62 C0 hRo _ _ _ H locs ls hG (lv_sub hl [0, 1] rfl) hF
theorem bP_numberOfTrailingZeros_34 {N : Nat} (C0 : pCx p s m args meth c cJ13_numberOfTrailingZeros 2 (some .int) L A) (hRo : 0 ≤ R.frames ∧ 0 ≤ R.locals) {σ' : pS} {r : Int32} (σ : pS) (x0 : Int32) (x1 : Int32) (H : Heap) (locs : List Loc) (ls : Array Slot) (hG : pG A L s σ H locs) (hl : lv_has ls 2 [(0, .int x0), (1, .int x1)]) (hF : fP_numberOfTrailingZeros_b34 N σ x0 x1 = some (σ', r)) : W p l e R s m args below meth c H locs 0 0 (pZ below L A s args σ' (some (.int r))) (F0 m 34 ls []) := by
  have hx := C0.1
  have hb := C0.2.1
  unfold fP_numberOfTrailingZeros_b34 at hF
  refine lv_iload_n hx hb dJ13_numberOfTrailingZeros_34 rfl (lv_at hl 0 rfl) ?_
  refine lv_sipush (v := 256) hx hb dJ13_numberOfTrailingZeros_35 (by decide) ?_
  refine lv_icmp_le (tgt := 49) hx hb dJ13_numberOfTrailingZeros_38 (by decide) (fun c_6 => ?_) (fun c_6 => ?_)
  · have hF := ifp hF c_6
    exact bP_numberOfTrailingZeros_49 C0 hRo _ _ _ H locs ls hG (lv_sub hl [0, 1] rfl) hF
  · have hF := ifn hF c_6
    refine w_iinc hx hb dJ13_numberOfTrailingZeros_41 hl 1 rfl (v := 8) (by decide) (by decide) hF (fun x_7 ls hl hF => ?_)
    have hl : lv_has ls 2 [(1, .int x_7), (0, .int x0)] := hl
    refine lv_iload_n hx hb dJ13_numberOfTrailingZeros_44 rfl (lv_at hl 1 rfl) ?_
    refine lv_bipush (v := 8) hx hb dJ13_numberOfTrailingZeros_45 (by decide) ?_
    refine lv_iushr (v := (x0.toUInt32 >>> ((8 : Int32).toUInt32 &&& Int32.toUInt32 31)).toInt32) hx hb dJ13_numberOfTrailingZeros_47 rfl ?_
    refine w_nm hF (fun x_8 hF => ?_)
    refine lv_istore_n (lv' := [(0, .int x_8), (1, .int x_7)]) hx hb dJ13_numberOfTrailingZeros_48 rfl hl (by decide) rfl (fun ls hl => ?_)
    exact bP_numberOfTrailingZeros_49 C0 hRo _ _ _ H locs ls hG (lv_sub hl [0, 1] rfl) hF
theorem bP_numberOfTrailingZeros_e {N : Nat} (C0 : pCx p s m args meth c cJ13_numberOfTrailingZeros 2 (some .int) L A) (hRo : 0 ≤ R.frames ∧ 0 ≤ R.locals) {σ' : pS} {r : Int32} (σ : pS) (a0 : Int32) (H : Heap) (locs : List Loc) (ls : Array Slot) (hG : pG A L s σ H locs) (hl : lv_has ls 2 [(0, .int a0)]) (hF : fP_numberOfTrailingZeros N σ a0 = some (σ', r)) : W p l e R s m args below meth c H locs 0 0 (pZ below L A s args σ' (some (.int r))) (F0 m 0 ls []) := by
  have hx := C0.1
  have hb := C0.2.1
  unfold fP_numberOfTrailingZeros at hF
  refine lv_iload_n hx hb dJ13_numberOfTrailingZeros_0 rfl (lv_at hl 0 rfl) ?_
  refine lv_iconst (v := (-1)) hx hb dJ13_numberOfTrailingZeros_1 (by decide) ?_
  refine lv_ixor hx hb dJ13_numberOfTrailingZeros_2 ?_
  refine lv_iload_n hx hb dJ13_numberOfTrailingZeros_3 rfl (lv_at hl 0 rfl) ?_
  refine lv_iconst (v := 1) hx hb dJ13_numberOfTrailingZeros_4 (by decide) ?_
  refine lv_isub hx hb dJ13_numberOfTrailingZeros_5 ?_
  refine lv_iand hx hb dJ13_numberOfTrailingZeros_6 ?_
  refine w_nm hF (fun x_1 hF => ?_)
  refine lv_istore_n (lv' := [(0, .int x_1)]) hx hb dJ13_numberOfTrailingZeros_7 rfl hl (by decide) rfl (fun ls hl => ?_)
  refine lv_iload_n hx hb dJ13_numberOfTrailingZeros_8 rfl (lv_at hl 0 rfl) ?_
  refine lv_if_gt (tgt := 17) hx hb dJ13_numberOfTrailingZeros_9 (by decide) (fun c_2 => ?_) (fun c_2 => ?_)
  · have hF := ifp hF c_2
    refine lv_iconst (v := 1) hx hb dJ13_numberOfTrailingZeros_17 (by decide) ?_
    refine lv_istore_n (lv' := [(1, .int 1), (0, .int x_1)]) hx hb dJ13_numberOfTrailingZeros_18 rfl hl (by decide) rfl (fun ls hl => ?_)
    refine lv_iload_n hx hb dJ13_numberOfTrailingZeros_19 rfl (lv_at hl 1 rfl) ?_
    refine lv_ldcw (v := 65536) hx hb C0.2.2.2.1 (C0.2.2.2.2.1 _ q966) dJ13_numberOfTrailingZeros_20 ?_
    refine lv_icmp_le (tgt := 34) hx hb dJ13_numberOfTrailingZeros_23 (by decide) (fun c_3 => ?_) (fun c_3 => ?_)
    · have hF := ifp hF c_3
      exact bP_numberOfTrailingZeros_34 C0 hRo _ _ _ H locs ls hG (lv_sub hl [1, 0] rfl) hF
    · have hF := ifn hF c_3
      refine w_iinc hx hb dJ13_numberOfTrailingZeros_26 hl 0 rfl (v := 16) (by decide) (by decide) hF (fun x_4 ls hl hF => ?_)
      have hl : lv_has ls 2 [(1, .int x_4), (0, .int x_1)] := hl
      refine lv_iload_n hx hb dJ13_numberOfTrailingZeros_29 rfl (lv_at hl 1 rfl) ?_
      refine lv_bipush (v := 16) hx hb dJ13_numberOfTrailingZeros_30 (by decide) ?_
      refine lv_iushr (v := (x_1.toUInt32 >>> ((16 : Int32).toUInt32 &&& Int32.toUInt32 31)).toInt32) hx hb dJ13_numberOfTrailingZeros_32 rfl ?_
      refine w_nm hF (fun x_5 hF => ?_)
      refine lv_istore_n (lv' := [(0, .int x_5), (1, .int x_4)]) hx hb dJ13_numberOfTrailingZeros_33 rfl hl (by decide) rfl (fun ls hl => ?_)
      exact bP_numberOfTrailingZeros_34 C0 hRo _ _ _ H locs ls hG (lv_sub hl [0, 1] rfl) hF
  · have hF := ifn hF c_2
    refine lv_iload_n hx hb dJ13_numberOfTrailingZeros_12 rfl (lv_at hl 0 rfl) ?_
    refine lv_bipush (v := 32) hx hb dJ13_numberOfTrailingZeros_13 (by decide) ?_
    refine lv_iand hx hb dJ13_numberOfTrailingZeros_15 ?_
    exact p_iret C0 hG dJ13_numberOfTrailingZeros_16 hF
theorem mtP_numberOfTrailingZeros (l : Launch) {N : Nat} {L : pL} {σ σ' : pS} {r : Int32} {a0 : Int32} (hF : fP_numberOfTrailingZeros N σ a0 = some (σ', r)) : pMet l yJ13_numberOfTrailingZeros cJ13_numberOfTrailingZeros 2 (some .int) (0) (0) [.int a0] L σ (some (.int r)) σ' := by
  refine p_head (by decide) rfl ?_
  intro p e s m below meth c A C0 hG
  have hl := lv_entry ([.int a0]) (n := 2) (Nat.le_of_ble_eq_true rfl)
  rw [lg_entry_eq]
  generalize (lg_sl ([.int a0]) ++ List.replicate (2 - (lg_sl ([.int a0])).length) Slot.unset).toArray = ls at hl ⊢
  have hl : lv_has ls 2 [(0, .int a0)] := hl
  exact bP_numberOfTrailingZeros_e C0 ⟨Nat.le_refl _, Nat.le_refl _⟩ _ _ _ [] ls hG hl hF
end PWALK
/-- bitCount, as a number -/
def bitC (x : Int32) : Int32 := match fP_bitCount 0 () x with
  | some q => q.2
  | none => 0
theorem bitC_some (x : Int32) : fP_bitCount 0 () x = some ((), bitC x) := by
  unfold bitC fP_bitCount
  rfl
theorem mtP_bitC (l : Launch) (x : Int32) : qMet l yJ13_bitCount cJ13_bitCount 1 (some .int) 0 0 [.int x] (some (.int (bitC x))) := mtP_bitCount l (L := ()) (bitC_some x)
theorem tz_74 (N : Nat) (x y : Int32) : ∃ r, fP_numberOfTrailingZeros_b74 N () x y = some ((), r) := ⟨_, rfl⟩
theorem tz_62 (N : Nat) (x y : Int32) : ∃ r, fP_numberOfTrailingZeros_b62 N () x y = some ((), r) := by
  unfold fP_numberOfTrailingZeros_b62
  by_cases h : x ≤ 4
  · rw [if_pos h]; exact tz_74 N _ _
  · rw [if_neg h]; exact tz_74 N _ _
theorem tz_49 (N : Nat) (x y : Int32) : ∃ r, fP_numberOfTrailingZeros_b49 N () x y = some ((), r) := by
  unfold fP_numberOfTrailingZeros_b49
  by_cases h : x ≤ 16
  · rw [if_pos h]; exact tz_62 N _ _
  · rw [if_neg h]; exact tz_62 N _ _
theorem tz_34 (N : Nat) (x y : Int32) : ∃ r, fP_numberOfTrailingZeros_b34 N () x y = some ((), r) := by
  unfold fP_numberOfTrailingZeros_b34
  by_cases h : x ≤ 256
  · rw [if_pos h]; exact tz_49 N _ _
  · rw [if_neg h]; exact tz_49 N _ _
theorem tz_top (N : Nat) (x : Int32) : ∃ r, (if 0 < x then (if x ≤ 65536 then fP_numberOfTrailingZeros_b34 N () x 1 else fP_numberOfTrailingZeros_b34 N () (x.toUInt32 >>> ((16 : Int32).toUInt32 &&& Int32.toUInt32 31)).toInt32 ((1 : Int32) + 16)) else some ((), x &&& 32)) = some ((), r) := by
  by_cases h : 0 < x
  · rw [if_pos h]
    by_cases h2 : x ≤ 65536
    · rw [if_pos h2]; exact tz_34 N _ _
    · rw [if_neg h2]; exact tz_34 N _ _
  · rw [if_neg h]; exact ⟨_, rfl⟩
theorem fP_numberOfTrailingZeros_some (N : Nat) (x : Int32) : ∃ r, fP_numberOfTrailingZeros N () x = some ((), r) := tz_top N ((x ^^^ (-1)) &&& (x - 1))
def nTZ (x : Int32) : Int32 := match fP_numberOfTrailingZeros 0 () x with
  | some q => q.2
  | none => 0
theorem nTZ_some (x : Int32) : fP_numberOfTrailingZeros 0 () x = some ((), nTZ x) := by
  obtain ⟨r, h⟩ := fP_numberOfTrailingZeros_some 0 x
  unfold nTZ
  rw [h]
theorem mtP_nTZ (l : Launch) (x : Int32) : qMet l yJ13_numberOfTrailingZeros cJ13_numberOfTrailingZeros 2 (some .int) 0 0 [.int x] (some (.int (nTZ x))) := mtP_numberOfTrailingZeros l (L := ()) (nTZ_some x)
