theorem yd_X0_gives : (yX0_gives).cls = RX0 ∧ (yX0_gives).cls ≠ "java/lang/invoke/MethodHandle" ∧ (yX0_gives).cls ≠ "java/lang/invoke/VarHandle" ∧ (parseMethodDescriptor (yX0_gives).desc).map (fun d => d.parameters.length) = some 0 := by decide +kernel
theorem yd_X0_layRoutine : (yX0_layRoutine).cls = RX0 ∧ (yX0_layRoutine).cls ≠ "java/lang/invoke/MethodHandle" ∧ (yX0_layRoutine).cls ≠ "java/lang/invoke/VarHandle" ∧ (parseMethodDescriptor (yX0_layRoutine).desc).map (fun d => d.parameters.length) = some 1 := by decide +kernel
theorem yd_X0_layTold : (yX0_layTold).cls = RX0 ∧ (yX0_layTold).cls ≠ "java/lang/invoke/MethodHandle" ∧ (yX0_layTold).cls ≠ "java/lang/invoke/VarHandle" ∧ (parseMethodDescriptor (yX0_layTold).desc).map (fun d => d.parameters.length) = some 1 := by decide +kernel
theorem yd_X0_in : (yX0_in).cls ≠ "java/lang/invoke/MethodHandle" ∧ (yX0_in).cls ≠ "java/lang/invoke/VarHandle" ∧ (parseMethodDescriptor (yX0_in).desc).map (fun d => d.parameters.length) = some 3 := by decide +kernel
theorem yd_X0_has : (yX0_has).cls ≠ "java/lang/invoke/MethodHandle" ∧ (yX0_has).cls ≠ "java/lang/invoke/VarHandle" ∧ (parseMethodDescriptor (yX0_has).desc).map (fun d => d.parameters.length) = some 2 := by decide +kernel
theorem yd_X0_isOne : (yX0_isOne).cls = RX0 ∧ (yX0_isOne).cls ≠ "java/lang/invoke/MethodHandle" ∧ (yX0_isOne).cls ≠ "java/lang/invoke/VarHandle" ∧ (parseMethodDescriptor (yX0_isOne).desc).map (fun d => d.parameters.length) = some 1 := by decide +kernel
theorem yd_X0_isCell : (yX0_isCell).cls ≠ "java/lang/invoke/MethodHandle" ∧ (yX0_isCell).cls ≠ "java/lang/invoke/VarHandle" ∧ (parseMethodDescriptor (yX0_isCell).desc).map (fun d => d.parameters.length) = some 1 := by decide +kernel
theorem yd_X0_isShelf : (yX0_isShelf).cls ≠ "java/lang/invoke/MethodHandle" ∧ (yX0_isShelf).cls ≠ "java/lang/invoke/VarHandle" ∧ (parseMethodDescriptor (yX0_isShelf).desc).map (fun d => d.parameters.length) = some 1 := by decide +kernel
theorem yd_X0_setTo : (yX0_setTo).cls = RX0 ∧ (yX0_setTo).cls ≠ "java/lang/invoke/MethodHandle" ∧ (yX0_setTo).cls ≠ "java/lang/invoke/VarHandle" ∧ (parseMethodDescriptor (yX0_setTo).desc).map (fun d => d.parameters.length) = some 3 := by decide +kernel
theorem yd_X0_undo : (yX0_undo).cls = RX0 ∧ (yX0_undo).cls ≠ "java/lang/invoke/MethodHandle" ∧ (yX0_undo).cls ≠ "java/lang/invoke/VarHandle" ∧ (parseMethodDescriptor (yX0_undo).desc).map (fun d => d.parameters.length) = some 0 := by decide +kernel
theorem yd_X0_redo : (yX0_redo).cls = RX0 ∧ (yX0_redo).cls ≠ "java/lang/invoke/MethodHandle" ∧ (yX0_redo).cls ≠ "java/lang/invoke/VarHandle" ∧ (parseMethodDescriptor (yX0_redo).desc).map (fun d => d.parameters.length) = some 0 := by decide +kernel
theorem yd_X0_isOf : (yX0_isOf).cls = RX0 ∧ (yX0_isOf).cls ≠ "java/lang/invoke/MethodHandle" ∧ (yX0_isOf).cls ≠ "java/lang/invoke/VarHandle" ∧ (parseMethodDescriptor (yX0_isOf).desc).map (fun d => d.parameters.length) = some 2 := by decide +kernel
theorem yd_X0_valueOf : (yX0_valueOf).cls = RX0 ∧ (yX0_valueOf).cls ≠ "java/lang/invoke/MethodHandle" ∧ (yX0_valueOf).cls ≠ "java/lang/invoke/VarHandle" ∧ (parseMethodDescriptor (yX0_valueOf).desc).map (fun d => d.parameters.length) = some 2 := by decide +kernel
theorem yd_X0_mayBe : (yX0_mayBe).cls ≠ "java/lang/invoke/MethodHandle" ∧ (yX0_mayBe).cls ≠ "java/lang/invoke/VarHandle" ∧ (parseMethodDescriptor (yX0_mayBe).desc).map (fun d => d.parameters.length) = some 2 := by decide +kernel
theorem yd_X0_of : (yX0_of).cls = RX0 ∧ (yX0_of).cls ≠ "java/lang/invoke/MethodHandle" ∧ (yX0_of).cls ≠ "java/lang/invoke/VarHandle" ∧ (parseMethodDescriptor (yX0_of).desc).map (fun d => d.parameters.length) = some 2 := by decide +kernel
theorem yd_X0_feed : (yX0_feed).cls = RX0 ∧ (yX0_feed).cls ≠ "java/lang/invoke/MethodHandle" ∧ (yX0_feed).cls ≠ "java/lang/invoke/VarHandle" ∧ (parseMethodDescriptor (yX0_feed).desc).map (fun d => d.parameters.length) = some 1 := by decide +kernel
theorem yd_X0_begin : (yX0_begin).cls = RX0 ∧ (yX0_begin).cls ≠ "java/lang/invoke/MethodHandle" ∧ (yX0_begin).cls ≠ "java/lang/invoke/VarHandle" ∧ (parseMethodDescriptor (yX0_begin).desc).map (fun d => d.parameters.length) = some 0 := by decide +kernel
theorem yd_X0_goCount : (yX0_goCount).cls = RX0 ∧ (yX0_goCount).cls ≠ "java/lang/invoke/MethodHandle" ∧ (yX0_goCount).cls ≠ "java/lang/invoke/VarHandle" ∧ (parseMethodDescriptor (yX0_goCount).desc).map (fun d => d.parameters.length) = some 1 := by decide +kernel
theorem yd_X0_offOf : (yX0_offOf).cls = RX0 ∧ (yX0_offOf).cls ≠ "java/lang/invoke/MethodHandle" ∧ (yX0_offOf).cls ≠ "java/lang/invoke/VarHandle" ∧ (parseMethodDescriptor (yX0_offOf).desc).map (fun d => d.parameters.length) = some 1 := by decide +kernel
theorem yd_X0_apartOf : (yX0_apartOf).cls = RX0 ∧ (yX0_apartOf).cls ≠ "java/lang/invoke/MethodHandle" ∧ (yX0_apartOf).cls ≠ "java/lang/invoke/VarHandle" ∧ (parseMethodDescriptor (yX0_apartOf).desc).map (fun d => d.parameters.length) = some 2 := by decide +kernel
theorem yd_X0_apartNow : (yX0_apartNow).cls = RX0 ∧ (yX0_apartNow).cls ≠ "java/lang/invoke/MethodHandle" ∧ (yX0_apartNow).cls ≠ "java/lang/invoke/VarHandle" ∧ (parseMethodDescriptor (yX0_apartNow).desc).map (fun d => d.parameters.length) = some 0 := by decide +kernel
theorem yd_X0_firstApart : (yX0_firstApart).cls = RX0 ∧ (yX0_firstApart).cls ≠ "java/lang/invoke/MethodHandle" ∧ (yX0_firstApart).cls ≠ "java/lang/invoke/VarHandle" ∧ (parseMethodDescriptor (yX0_firstApart).desc).map (fun d => d.parameters.length) = some 0 := by decide +kernel
theorem yd_X3_farFrom : (yX3_farFrom).cls = RX3 ∧ (yX3_farFrom).cls ≠ "java/lang/invoke/MethodHandle" ∧ (yX3_farFrom).cls ≠ "java/lang/invoke/VarHandle" ∧ (parseMethodDescriptor (yX3_farFrom).desc).map (fun d => d.parameters.length) = some 1 := by decide +kernel
theorem yd_X3_isOn : (yX3_isOn).cls = RX3 ∧ (yX3_isOn).cls ≠ "java/lang/invoke/MethodHandle" ∧ (yX3_isOn).cls ≠ "java/lang/invoke/VarHandle" ∧ (parseMethodDescriptor (yX3_isOn).desc).map (fun d => d.parameters.length) = some 2 := by decide +kernel
theorem yd_X1_clear : (yX1_clear).cls = RX1 ∧ (yX1_clear).cls ≠ "java/lang/invoke/MethodHandle" ∧ (yX1_clear).cls ≠ "java/lang/invoke/VarHandle" ∧ (parseMethodDescriptor (yX1_clear).desc).map (fun d => d.parameters.length) = some 0 := by decide +kernel
theorem yd_X0_losesBy : (yX0_losesBy).cls = RX0 ∧ (yX0_losesBy).cls ≠ "java/lang/invoke/MethodHandle" ∧ (yX0_losesBy).cls ≠ "java/lang/invoke/VarHandle" ∧ (parseMethodDescriptor (yX0_losesBy).desc).map (fun d => d.parameters.length) = some 5 := by decide +kernel
theorem yd_X0_loses : (yX0_loses).cls = RX0 ∧ (yX0_loses).cls ≠ "java/lang/invoke/MethodHandle" ∧ (yX0_loses).cls ≠ "java/lang/invoke/VarHandle" ∧ (parseMethodDescriptor (yX0_loses).desc).map (fun d => d.parameters.length) = some 3 := by decide +kernel
theorem yd_X0_marksIn : (yX0_marksIn).cls = RX0 ∧ (yX0_marksIn).cls ≠ "java/lang/invoke/MethodHandle" ∧ (yX0_marksIn).cls ≠ "java/lang/invoke/VarHandle" ∧ (parseMethodDescriptor (yX0_marksIn).desc).map (fun d => d.parameters.length) = some 1 := by decide +kernel
theorem yd_X0_marks : (yX0_marks).cls = RX0 ∧ (yX0_marks).cls ≠ "java/lang/invoke/MethodHandle" ∧ (yX0_marks).cls ≠ "java/lang/invoke/VarHandle" ∧ (parseMethodDescriptor (yX0_marks).desc).map (fun d => d.parameters.length) = some 0 := by decide +kernel
theorem yd_X0_firstSeen : (yX0_firstSeen).cls = RX0 ∧ (yX0_firstSeen).cls ≠ "java/lang/invoke/MethodHandle" ∧ (yX0_firstSeen).cls ≠ "java/lang/invoke/VarHandle" ∧ (parseMethodDescriptor (yX0_firstSeen).desc).map (fun d => d.parameters.length) = some 0 := by decide +kernel
theorem yd_X0_worstTwo : (yX0_worstTwo).cls = RX0 ∧ (yX0_worstTwo).cls ≠ "java/lang/invoke/MethodHandle" ∧ (yX0_worstTwo).cls ≠ "java/lang/invoke/VarHandle" ∧ (parseMethodDescriptor (yX0_worstTwo).desc).map (fun d => d.parameters.length) = some 0 := by decide +kernel
theorem yd_X0_goCounts : (yX0_goCounts).cls = RX0 ∧ (yX0_goCounts).cls ≠ "java/lang/invoke/MethodHandle" ∧ (yX0_goCounts).cls ≠ "java/lang/invoke/VarHandle" ∧ (parseMethodDescriptor (yX0_goCounts).desc).map (fun d => d.parameters.length) = some 1 := by decide +kernel
theorem yd_X0_isBelow : (yX0_isBelow).cls ≠ "java/lang/invoke/MethodHandle" ∧ (yX0_isBelow).cls ≠ "java/lang/invoke/VarHandle" ∧ (parseMethodDescriptor (yX0_isBelow).desc).map (fun d => d.parameters.length) = some 1 := by decide +kernel
theorem yd_X0_goneAt : (yX0_goneAt).cls = RX0 ∧ (yX0_goneAt).cls ≠ "java/lang/invoke/MethodHandle" ∧ (yX0_goneAt).cls ≠ "java/lang/invoke/VarHandle" ∧ (parseMethodDescriptor (yX0_goneAt).desc).map (fun d => d.parameters.length) = some 1 := by decide +kernel
theorem yd_X0_allGone : (yX0_allGone).cls = RX0 ∧ (yX0_allGone).cls ≠ "java/lang/invoke/MethodHandle" ∧ (yX0_allGone).cls ≠ "java/lang/invoke/VarHandle" ∧ (parseMethodDescriptor (yX0_allGone).desc).map (fun d => d.parameters.length) = some 0 := by decide +kernel
theorem yd_X0_isEnough : (yX0_isEnough).cls = RX0 ∧ (yX0_isEnough).cls ≠ "java/lang/invoke/MethodHandle" ∧ (yX0_isEnough).cls ≠ "java/lang/invoke/VarHandle" ∧ (parseMethodDescriptor (yX0_isEnough).desc).map (fun d => d.parameters.length) = some 1 := by decide +kernel
theorem yd_X0_choose : (yX0_choose).cls = RX0 ∧ (yX0_choose).cls ≠ "java/lang/invoke/MethodHandle" ∧ (yX0_choose).cls ≠ "java/lang/invoke/VarHandle" ∧ (parseMethodDescriptor (yX0_choose).desc).map (fun d => d.parameters.length) = some 3 := by decide +kernel
theorem yd_X0_bitAt : (yX0_bitAt).cls ≠ "java/lang/invoke/MethodHandle" ∧ (yX0_bitAt).cls ≠ "java/lang/invoke/VarHandle" ∧ (parseMethodDescriptor (yX0_bitAt).desc).map (fun d => d.parameters.length) = some 2 := by decide +kernel
theorem yd_X0_fewest : (yX0_fewest).cls = RX0 ∧ (yX0_fewest).cls ≠ "java/lang/invoke/MethodHandle" ∧ (yX0_fewest).cls ≠ "java/lang/invoke/VarHandle" ∧ (parseMethodDescriptor (yX0_fewest).desc).map (fun d => d.parameters.length) = some 2 := by decide +kernel
theorem yd_X0_meetsOrder : (yX0_meetsOrder).cls = RX0 ∧ (yX0_meetsOrder).cls ≠ "java/lang/invoke/MethodHandle" ∧ (yX0_meetsOrder).cls ≠ "java/lang/invoke/VarHandle" ∧ (parseMethodDescriptor (yX0_meetsOrder).desc).map (fun d => d.parameters.length) = some 1 := by decide +kernel
theorem yd_X0_goOrders : (yX0_goOrders).cls = RX0 ∧ (yX0_goOrders).cls ≠ "java/lang/invoke/MethodHandle" ∧ (yX0_goOrders).cls ≠ "java/lang/invoke/VarHandle" ∧ (parseMethodDescriptor (yX0_goOrders).desc).map (fun d => d.parameters.length) = some 3 := by decide +kernel
theorem yd_X0_line : (yX0_line).cls = RX0 ∧ (yX0_line).cls ≠ "java/lang/invoke/MethodHandle" ∧ (yX0_line).cls ≠ "java/lang/invoke/VarHandle" ∧ (parseMethodDescriptor (yX0_line).desc).map (fun d => d.parameters.length) = some 2 := by decide +kernel
theorem yd_X0_tallOf : (yX0_tallOf).cls = RX0 ∧ (yX0_tallOf).cls ≠ "java/lang/invoke/MethodHandle" ∧ (yX0_tallOf).cls ≠ "java/lang/invoke/VarHandle" ∧ (parseMethodDescriptor (yX0_tallOf).desc).map (fun d => d.parameters.length) = some 1 := by decide +kernel
theorem yd_X0_lift : (yX0_lift).cls = RX0 ∧ (yX0_lift).cls ≠ "java/lang/invoke/MethodHandle" ∧ (yX0_lift).cls ≠ "java/lang/invoke/VarHandle" ∧ (parseMethodDescriptor (yX0_lift).desc).map (fun d => d.parameters.length) = some 1 := by decide +kernel
theorem yd_X0_sideOf : (yX0_sideOf).cls = RX0 ∧ (yX0_sideOf).cls ≠ "java/lang/invoke/MethodHandle" ∧ (yX0_sideOf).cls ≠ "java/lang/invoke/VarHandle" ∧ (parseMethodDescriptor (yX0_sideOf).desc).map (fun d => d.parameters.length) = some 1 := by decide +kernel
theorem yd_X0_onOne : (yX0_onOne).cls = RX0 ∧ (yX0_onOne).cls ≠ "java/lang/invoke/MethodHandle" ∧ (yX0_onOne).cls ≠ "java/lang/invoke/VarHandle" ∧ (parseMethodDescriptor (yX0_onOne).desc).map (fun d => d.parameters.length) = some 0 := by decide +kernel
theorem yd_X0_isMirrored : (yX0_isMirrored).cls = RX0 ∧ (yX0_isMirrored).cls ≠ "java/lang/invoke/MethodHandle" ∧ (yX0_isMirrored).cls ≠ "java/lang/invoke/VarHandle" ∧ (parseMethodDescriptor (yX0_isMirrored).desc).map (fun d => d.parameters.length) = some 0 := by decide +kernel
theorem yd_X0_star : (yX0_star).cls = RX0 ∧ (yX0_star).cls ≠ "java/lang/invoke/MethodHandle" ∧ (yX0_star).cls ≠ "java/lang/invoke/VarHandle" ∧ (parseMethodDescriptor (yX0_star).desc).map (fun d => d.parameters.length) = some 1 := by decide +kernel
theorem yd_X0_areShelves : (yX0_areShelves).cls ≠ "java/lang/invoke/MethodHandle" ∧ (yX0_areShelves).cls ≠ "java/lang/invoke/VarHandle" ∧ (parseMethodDescriptor (yX0_areShelves).desc).map (fun d => d.parameters.length) = some 1 := by decide +kernel
theorem yd_X0_wrongAt : (yX0_wrongAt).cls = RX0 ∧ (yX0_wrongAt).cls ≠ "java/lang/invoke/MethodHandle" ∧ (yX0_wrongAt).cls ≠ "java/lang/invoke/VarHandle" ∧ (parseMethodDescriptor (yX0_wrongAt).desc).map (fun d => d.parameters.length) = some 0 := by decide +kernel
theorem yd_X0_underMany : (yX0_underMany).cls = RX0 ∧ (yX0_underMany).cls ≠ "java/lang/invoke/MethodHandle" ∧ (yX0_underMany).cls ≠ "java/lang/invoke/VarHandle" ∧ (parseMethodDescriptor (yX0_underMany).desc).map (fun d => d.parameters.length) = some 0 := by decide +kernel
theorem yd_X0_led : (yX0_led).cls = RX0 ∧ (yX0_led).cls ≠ "java/lang/invoke/MethodHandle" ∧ (yX0_led).cls ≠ "java/lang/invoke/VarHandle" ∧ (parseMethodDescriptor (yX0_led).desc).map (fun d => d.parameters.length) = some 1 := by decide +kernel
theorem yd_X0_image : (yX0_image).cls = RX0 ∧ (yX0_image).cls ≠ "java/lang/invoke/MethodHandle" ∧ (yX0_image).cls ≠ "java/lang/invoke/VarHandle" ∧ (parseMethodDescriptor (yX0_image).desc).map (fun d => d.parameters.length) = some 0 := by decide +kernel
theorem yd_X0_back : (yX0_back).cls = RX0 ∧ (yX0_back).cls ≠ "java/lang/invoke/MethodHandle" ∧ (yX0_back).cls ≠ "java/lang/invoke/VarHandle" ∧ (parseMethodDescriptor (yX0_back).desc).map (fun d => d.parameters.length) = some 0 := by decide +kernel
theorem yd_X0_ran : (yX0_ran).cls = RX0 ∧ (yX0_ran).cls ≠ "java/lang/invoke/MethodHandle" ∧ (yX0_ran).cls ≠ "java/lang/invoke/VarHandle" ∧ (parseMethodDescriptor (yX0_ran).desc).map (fun d => d.parameters.length) = some 1 := by decide +kernel
theorem yd_X0_trace : (yX0_trace).cls = RX0 ∧ (yX0_trace).cls ≠ "java/lang/invoke/MethodHandle" ∧ (yX0_trace).cls ≠ "java/lang/invoke/VarHandle" ∧ (parseMethodDescriptor (yX0_trace).desc).map (fun d => d.parameters.length) = some 1 := by decide +kernel
theorem yd_X0_isBody : (yX0_isBody).cls = RX0 ∧ (yX0_isBody).cls ≠ "java/lang/invoke/MethodHandle" ∧ (yX0_isBody).cls ≠ "java/lang/invoke/VarHandle" ∧ (parseMethodDescriptor (yX0_isBody).desc).map (fun d => d.parameters.length) = some 1 := by decide +kernel
theorem yd_X0_count : (yX0_count).cls = RX0 ∧ (yX0_count).cls ≠ "java/lang/invoke/MethodHandle" ∧ (yX0_count).cls ≠ "java/lang/invoke/VarHandle" ∧ (parseMethodDescriptor (yX0_count).desc).map (fun d => d.parameters.length) = some 1 := by decide +kernel
theorem yd_X0_routine : (yX0_routine).cls = RX0 ∧ (yX0_routine).cls ≠ "java/lang/invoke/MethodHandle" ∧ (yX0_routine).cls ≠ "java/lang/invoke/VarHandle" ∧ (parseMethodDescriptor (yX0_routine).desc).map (fun d => d.parameters.length) = some 2 := by decide +kernel
theorem yd_X0_off : (yX0_off).cls = RX0 ∧ (yX0_off).cls ≠ "java/lang/invoke/MethodHandle" ∧ (yX0_off).cls ≠ "java/lang/invoke/VarHandle" ∧ (parseMethodDescriptor (yX0_off).desc).map (fun d => d.parameters.length) = some 3 := by decide +kernel
theorem yd_X0_apart : (yX0_apart).cls = RX0 ∧ (yX0_apart).cls ≠ "java/lang/invoke/MethodHandle" ∧ (yX0_apart).cls ≠ "java/lang/invoke/VarHandle" ∧ (parseMethodDescriptor (yX0_apart).desc).map (fun d => d.parameters.length) = some 3 := by decide +kernel
theorem yd_X0_gone : (yX0_gone).cls = RX0 ∧ (yX0_gone).cls ≠ "java/lang/invoke/MethodHandle" ∧ (yX0_gone).cls ≠ "java/lang/invoke/VarHandle" ∧ (parseMethodDescriptor (yX0_gone).desc).map (fun d => d.parameters.length) = some 2 := by decide +kernel
theorem yd_X0_least : (yX0_least).cls = RX0 ∧ (yX0_least).cls ≠ "java/lang/invoke/MethodHandle" ∧ (yX0_least).cls ≠ "java/lang/invoke/VarHandle" ∧ (parseMethodDescriptor (yX0_least).desc).map (fun d => d.parameters.length) = some 2 := by decide +kernel
theorem yd_X0_gasps : (yX0_gasps).cls = RX0 ∧ (yX0_gasps).cls ≠ "java/lang/invoke/MethodHandle" ∧ (yX0_gasps).cls ≠ "java/lang/invoke/VarHandle" ∧ (parseMethodDescriptor (yX0_gasps).desc).map (fun d => d.parameters.length) = some 2 := by decide +kernel
theorem yd_X0_looks : (yX0_looks).cls = RX0 ∧ (yX0_looks).cls ≠ "java/lang/invoke/MethodHandle" ∧ (yX0_looks).cls ≠ "java/lang/invoke/VarHandle" ∧ (parseMethodDescriptor (yX0_looks).desc).map (fun d => d.parameters.length) = some 2 := by decide +kernel
theorem yd_X0_whose : (yX0_whose).cls = RX0 ∧ (yX0_whose).cls ≠ "java/lang/invoke/MethodHandle" ∧ (yX0_whose).cls ≠ "java/lang/invoke/VarHandle" ∧ (parseMethodDescriptor (yX0_whose).desc).map (fun d => d.parameters.length) = some 2 := by decide +kernel
theorem yd_X0_first : (yX0_first).cls = RX0 ∧ (yX0_first).cls ≠ "java/lang/invoke/MethodHandle" ∧ (yX0_first).cls ≠ "java/lang/invoke/VarHandle" ∧ (parseMethodDescriptor (yX0_first).desc).map (fun d => d.parameters.length) = some 2 := by decide +kernel
theorem yd_X0_slip : (yX0_slip).cls = RX0 ∧ (yX0_slip).cls ≠ "java/lang/invoke/MethodHandle" ∧ (yX0_slip).cls ≠ "java/lang/invoke/VarHandle" ∧ (parseMethodDescriptor (yX0_slip).desc).map (fun d => d.parameters.length) = some 3 := by decide +kernel
theorem yd_X0_layBoth : (yX0_layBoth).cls = RX0 ∧ (yX0_layBoth).cls ≠ "java/lang/invoke/MethodHandle" ∧ (yX0_layBoth).cls ≠ "java/lang/invoke/VarHandle" ∧ (parseMethodDescriptor (yX0_layBoth).desc).map (fun d => d.parameters.length) = some 1 := by decide +kernel
theorem yd_X0_judge : (yX0_judge).cls = RX0 ∧ (yX0_judge).cls ≠ "java/lang/invoke/MethodHandle" ∧ (yX0_judge).cls ≠ "java/lang/invoke/VarHandle" ∧ (parseMethodDescriptor (yX0_judge).desc).map (fun d => d.parameters.length) = some 1 := by decide +kernel
theorem yd_X0_whoLed : (yX0_whoLed).cls = RX0 ∧ (yX0_whoLed).cls ≠ "java/lang/invoke/MethodHandle" ∧ (yX0_whoLed).cls ≠ "java/lang/invoke/VarHandle" ∧ (parseMethodDescriptor (yX0_whoLed).desc).map (fun d => d.parameters.length) = some 1 := by decide +kernel
theorem yd_X0_later : (yX0_later).cls = RX0 ∧ (yX0_later).cls ≠ "java/lang/invoke/MethodHandle" ∧ (yX0_later).cls ≠ "java/lang/invoke/VarHandle" ∧ (parseMethodDescriptor (yX0_later).desc).map (fun d => d.parameters.length) = some 2 := by decide +kernel
theorem yd_X0_quicker : (yX0_quicker).cls = RX0 ∧ (yX0_quicker).cls ≠ "java/lang/invoke/MethodHandle" ∧ (yX0_quicker).cls ≠ "java/lang/invoke/VarHandle" ∧ (parseMethodDescriptor (yX0_quicker).desc).map (fun d => d.parameters.length) = some 2 := by decide +kernel
theorem yd_X0_drawn : (yX0_drawn).cls = RX0 ∧ (yX0_drawn).cls ≠ "java/lang/invoke/MethodHandle" ∧ (yX0_drawn).cls ≠ "java/lang/invoke/VarHandle" ∧ (parseMethodDescriptor (yX0_drawn).desc).map (fun d => d.parameters.length) = some 4 := by decide +kernel
theorem yd_X0_swim : (yX0_swim).cls = RX0 ∧ (yX0_swim).cls ≠ "java/lang/invoke/MethodHandle" ∧ (yX0_swim).cls ≠ "java/lang/invoke/VarHandle" ∧ (parseMethodDescriptor (yX0_swim).desc).map (fun d => d.parameters.length) = some 1 := by decide +kernel
section XWALK0
variable {p : Program} {l : Launch} {e : Env} {R : Room} {s : State} {m : MethodId} {args : Array Value} {below : List Frame} {meth : Method} {c : Code} {A : Nat → Prop}
variable {L : xL} {g : xg}
def fX_in (N : Nat) (σ : xS) (a0 : Int32) (a1 : Int32) (a2 : Int32) : Option (xS × Int32) :=
  if a0 < a1 then (
    chb 0 (some (σ, 0)))
  else (
    if a2 < a0 then (
      chb 0 (some (σ, 0)))
    else (
      chb 1 (some (σ, 1))))
theorem bX_in_e {N : Nat} (C0 : xCx p l s m args meth c RX0 cX0_in 3 (some .boolean) L A) (hRo : 0 ≤ R.frames ∧ 0 ≤ R.locals) {σ' : xS} {r : Int32} (σ : xS) (a0 : Int32) (a1 : Int32) (a2 : Int32) (H : Heap) (locs : List Loc) (ls : Array Slot) (hG : xG A L g s σ H locs) (hl : lv_has ls 3 [(0, .int a0), (1, .int a1), (2, .int a2)]) (hF : fX_in N σ a0 a1 a2 = some (σ', r)) : W p l e R s m args below meth c H locs 0 0 (xZ below L g A s args σ' (some (.int r)) 0 0) (F0 m 0 ls []) := by
  have hx := C0.1
  have hb := C0.2.1
  have hst := C0.2.2.2.2.2.2.2.2.2.2
  unfold fX_in at hF
  refine lv_iload_n hx hb dX0_in_0 rfl (lv_at hl 0 rfl) ?_
  refine lv_iload_n hx hb dX0_in_1 rfl (lv_at hl 1 rfl) ?_
  refine lv_icmp_lt (tgt := 14) hx hb dX0_in_2 (by decide) (fun c_1 => ?_) (fun c_1 => ?_)
  · have hF := ifp hF c_1
    refine lv_iconst (v := 0) hx hb dX0_in_14 (by decide) ?_
    exact x_zret C0 hG ⟨by omega, by omega⟩ dX0_in_15 hF
  · have hF := ifn hF c_1
    refine lv_iload_n hx hb dX0_in_5 rfl (lv_at hl 0 rfl) ?_
    refine lv_iload_n hx hb dX0_in_6 rfl (lv_at hl 2 rfl) ?_
    refine lv_icmp_gt (tgt := 14) hx hb dX0_in_7 (by decide) (fun c_2 => ?_) (fun c_2 => ?_)
    · have hF := ifp hF c_2
      refine lv_iconst (v := 0) hx hb dX0_in_14 (by decide) ?_
      exact x_zret C0 hG ⟨by omega, by omega⟩ dX0_in_15 hF
    · have hF := ifn hF c_2
      refine lv_iconst (v := 1) hx hb dX0_in_10 (by decide) ?_
      refine lv_goto (tgt := 15) hx hb dX0_in_11 (by decide) ?_
      exact x_zret C0 hG ⟨by omega, by omega⟩ dX0_in_15 hF
theorem mtX_in (l : Launch) (hst : l.stackTraces = false) {N : Nat} {L : xL} {g : xg} {σ σ' : xS} {r : Int32} {a0 : Int32} {a1 : Int32} {a2 : Int32} (hF : fX_in N σ a0 a1 a2 = some (σ', r)) : xMet l yX0_in cX0_in 3 (some .boolean) (0) (0) 0 0 [.int a0, .int a1, .int a2] L g σ (some (.int r)) σ' := by
  refine x_head hst (by decide) rfl ?_
  intro p e s m below meth c A C0 hG
  have hl := lv_entry ([.int a0, .int a1, .int a2]) (n := 3) (Nat.le_of_ble_eq_true rfl)
  rw [lg_entry_eq]
  generalize (lg_sl ([.int a0, .int a1, .int a2]) ++ List.replicate (3 - (lg_sl ([.int a0, .int a1, .int a2])).length) Slot.unset).toArray = ls at hl ⊢
  have hl : lv_has ls 3 [(0, .int a0), (1, .int a1), (2, .int a2)] := hl
  exact bX_in_e C0 ⟨Nat.le_refl _, Nat.le_refl _⟩ _ _ _ _ _ [] ls hG hl hF
def fX_has (N : Nat) (σ : xS) (a0 : Int32) (a1 : Int32) : Option (xS × Int32) :=
  if ((a0 >>> (a1 &&& 31)) &&& 1) = 1 then (
    chb 1 (some (σ, 1)))
  else (
    chb 0 (some (σ, 0)))
theorem bX_has_e {N : Nat} (C0 : xCx p l s m args meth c RX0 cX0_has 2 (some .boolean) L A) (hRo : 0 ≤ R.frames ∧ 0 ≤ R.locals) {σ' : xS} {r : Int32} (σ : xS) (a0 : Int32) (a1 : Int32) (H : Heap) (locs : List Loc) (ls : Array Slot) (hG : xG A L g s σ H locs) (hl : lv_has ls 2 [(0, .int a0), (1, .int a1)]) (hF : fX_has N σ a0 a1 = some (σ', r)) : W p l e R s m args below meth c H locs 0 0 (xZ below L g A s args σ' (some (.int r)) 0 0) (F0 m 0 ls []) := by
  have hx := C0.1
  have hb := C0.2.1
  have hst := C0.2.2.2.2.2.2.2.2.2.2
  unfold fX_has at hF
  refine lv_iload_n hx hb dX0_has_0 rfl (lv_at hl 0 rfl) ?_
  refine lv_iload_n hx hb dX0_has_1 rfl (lv_at hl 1 rfl) ?_
  refine lv_ishr hx hb dX0_has_2 ?_
  refine lv_iconst (v := 1) hx hb dX0_has_3 (by decide) ?_
  refine lv_iand hx hb dX0_has_4 ?_
  refine lv_iconst (v := 1) hx hb dX0_has_5 (by decide) ?_
  refine lv_icmp_ne (tgt := 13) hx hb dX0_has_6 (by decide) (fun c_1 => ?_) (fun c_1 => ?_)
  · have hF := ifn hF c_1
    refine lv_iconst (v := 0) hx hb dX0_has_13 (by decide) ?_
    exact x_zret C0 hG ⟨by omega, by omega⟩ dX0_has_14 hF
  · have hF := ifp hF c_1
    refine lv_iconst (v := 1) hx hb dX0_has_9 (by decide) ?_
    refine lv_goto (tgt := 14) hx hb dX0_has_10 (by decide) ?_
    exact x_zret C0 hG ⟨by omega, by omega⟩ dX0_has_14 hF
theorem mtX_has (l : Launch) (hst : l.stackTraces = false) {N : Nat} {L : xL} {g : xg} {σ σ' : xS} {r : Int32} {a0 : Int32} {a1 : Int32} (hF : fX_has N σ a0 a1 = some (σ', r)) : xMet l yX0_has cX0_has 2 (some .boolean) (0) (0) 0 0 [.int a0, .int a1] L g σ (some (.int r)) σ' := by
  refine x_head hst (by decide) rfl ?_
  intro p e s m below meth c A C0 hG
  have hl := lv_entry ([.int a0, .int a1]) (n := 2) (Nat.le_of_ble_eq_true rfl)
  rw [lg_entry_eq]
  generalize (lg_sl ([.int a0, .int a1]) ++ List.replicate (2 - (lg_sl ([.int a0, .int a1])).length) Slot.unset).toArray = ls at hl ⊢
  have hl : lv_has ls 2 [(0, .int a0), (1, .int a1)] := hl
  exact bX_has_e C0 ⟨Nat.le_refl _, Nat.le_refl _⟩ _ _ _ _ [] ls hG hl hF
def fX_isOne (N : Nat) (σ : xS) (a0 : Int32) : Option (xS × Int32) :=
  nmv (xI σ 1) fun x_1 =>
  obi (fX_in N σ a0 0 (x_1 - 1)) fun σ_2 r_3 =>
  chb r_3 (some (σ_2, r_3))
theorem bX_isOne_e {N : Nat} (C0 : xCx p l s m args meth c RX0 cX0_isOne 2 (some .boolean) L A) (hRo : 1 ≤ R.frames ∧ 22 ≤ R.locals) {σ' : xS} {r : Int32} (σ : xS) (a0 : Int32) (H : Heap) (locs : List Loc) (ls : Array Slot) (hG : xG A L g s σ H locs) (hl : lv_has ls 2 [(0, .ref L.1), (1, .int a0)]) (hF : fX_isOne N σ a0 = some (σ', r)) : W p l e R s m args below meth c H locs 0 0 (xZ below L g A s args σ' (some (.int r)) 0 0) (F0 m 0 ls []) := by
  have hx := C0.1
  have hb := C0.2.1
  have hst := C0.2.2.2.2.2.2.2.2.2.2
  unfold fX_isOne at hF
  refine lv_iload_n hx hb dX0_isOne_0 rfl (lv_at hl 1 rfl) ?_
  refine lv_iconst (v := 0) hx hb dX0_isOne_1 (by decide) ?_
  refine lv_aload_n hx hb dX0_isOne_2 rfl (lv_at hl 0 rfl) ?_
  refine x_geti C0 hG 1 (by decide) rfl q175 dX0_isOne_3 hF (fun x_1 hF => ?_)
  refine lv_iconst (v := 1) hx hb dX0_isOne_6 (by decide) ?_
  refine lv_isub hx hb dX0_isOne_7 ?_
  obtain ⟨σ_2, r_3, e_4, hF⟩ := obi_of hF
  refine x_cSi0 (As := [.int a0, .int 0, .int (x_1 - 1)]) (rest := []) C0 hG (mtX_in l hst e_4) (lw_S q316 q317 q100 q318) yd_X0_in ⟨by omega, by omega⟩ ⟨by omega, by omega⟩ rfl rfl hl.1 (Nat.le_of_ble_eq_true rfl) dX0_isOne_8 (fun H locs hG => ?_)
  exact x_zret C0 hG ⟨by omega, by omega⟩ dX0_isOne_11 hF
theorem mtX_isOne (l : Launch) (hst : l.stackTraces = false) {N : Nat} {L : xL} {g : xg} {σ σ' : xS} {r : Int32} {a0 : Int32} (hF : fX_isOne N σ a0 = some (σ', r)) : xMet l yX0_isOne cX0_isOne 2 (some .boolean) (1) (22) 0 0 [.ref L.1, .int a0] L g σ (some (.int r)) σ' := by
  refine x_head hst (by decide) rfl ?_
  intro p e s m below meth c A C0 hG
  have hl := lv_entry ([.ref L.1, .int a0]) (n := 2) (Nat.le_of_ble_eq_true rfl)
  rw [lg_entry_eq]
  generalize (lg_sl ([.ref L.1, .int a0]) ++ List.replicate (2 - (lg_sl ([.ref L.1, .int a0])).length) Slot.unset).toArray = ls at hl ⊢
  have hl : lv_has ls 2 [(0, .ref L.1), (1, .int a0)] := hl
  exact bX_isOne_e C0 ⟨Nat.le_refl _, Nat.le_refl _⟩ _ _ _ [] ls hG hl hF
def fX_isCell (N : Nat) (σ : xS) (a0 : Int32) : Option (xS × Int32) :=
  obi (fX_in N σ a0 0 15) fun σ_1 r_2 =>
  chb r_2 (some (σ_1, r_2))
theorem bX_isCell_e {N : Nat} (C0 : xCx p l s m args meth c RX0 cX0_isCell 1 (some .boolean) L A) (hRo : 1 ≤ R.frames ∧ 22 ≤ R.locals) {σ' : xS} {r : Int32} (σ : xS) (a0 : Int32) (H : Heap) (locs : List Loc) (ls : Array Slot) (hG : xG A L g s σ H locs) (hl : lv_has ls 1 [(0, .int a0)]) (hF : fX_isCell N σ a0 = some (σ', r)) : W p l e R s m args below meth c H locs 0 0 (xZ below L g A s args σ' (some (.int r)) 0 0) (F0 m 0 ls []) := by
  have hx := C0.1
  have hb := C0.2.1
  have hst := C0.2.2.2.2.2.2.2.2.2.2
  unfold fX_isCell at hF
  refine lv_iload_n hx hb dX0_isCell_0 rfl (lv_at hl 0 rfl) ?_
  refine lv_iconst (v := 0) hx hb dX0_isCell_1 (by decide) ?_
  refine lv_bipush (v := 15) hx hb dX0_isCell_2 (by decide) ?_
  obtain ⟨σ_1, r_2, e_3, hF⟩ := obi_of hF
  refine x_cSi0 (As := [.int a0, .int 0, .int 15]) (rest := []) C0 hG (mtX_in l hst e_3) (lw_S q316 q317 q100 q318) yd_X0_in ⟨by omega, by omega⟩ ⟨by omega, by omega⟩ rfl rfl hl.1 (Nat.le_of_ble_eq_true rfl) dX0_isCell_4 (fun H locs hG => ?_)
  exact x_zret C0 hG ⟨by omega, by omega⟩ dX0_isCell_7 hF
theorem mtX_isCell (l : Launch) (hst : l.stackTraces = false) {N : Nat} {L : xL} {g : xg} {σ σ' : xS} {r : Int32} {a0 : Int32} (hF : fX_isCell N σ a0 = some (σ', r)) : xMet l yX0_isCell cX0_isCell 1 (some .boolean) (1) (22) 0 0 [.int a0] L g σ (some (.int r)) σ' := by
  refine x_head hst (by decide) rfl ?_
  intro p e s m below meth c A C0 hG
  have hl := lv_entry ([.int a0]) (n := 1) (Nat.le_of_ble_eq_true rfl)
  rw [lg_entry_eq]
  generalize (lg_sl ([.int a0]) ++ List.replicate (1 - (lg_sl ([.int a0])).length) Slot.unset).toArray = ls at hl ⊢
  have hl : lv_has ls 1 [(0, .int a0)] := hl
  exact bX_isCell_e C0 ⟨Nat.le_refl _, Nat.le_refl _⟩ _ _ _ [] ls hG hl hF
def fX_isShelf (N : Nat) (σ : xS) (a0 : Int32) : Option (xS × Int32) :=
  obi (fX_in N σ a0 0 5) fun σ_1 r_2 =>
  chb r_2 (some (σ_1, r_2))
theorem bX_isShelf_e {N : Nat} (C0 : xCx p l s m args meth c RX0 cX0_isShelf 1 (some .boolean) L A) (hRo : 1 ≤ R.frames ∧ 22 ≤ R.locals) {σ' : xS} {r : Int32} (σ : xS) (a0 : Int32) (H : Heap) (locs : List Loc) (ls : Array Slot) (hG : xG A L g s σ H locs) (hl : lv_has ls 1 [(0, .int a0)]) (hF : fX_isShelf N σ a0 = some (σ', r)) : W p l e R s m args below meth c H locs 0 0 (xZ below L g A s args σ' (some (.int r)) 0 0) (F0 m 0 ls []) := by
  have hx := C0.1
  have hb := C0.2.1
  have hst := C0.2.2.2.2.2.2.2.2.2.2
  unfold fX_isShelf at hF
  refine lv_iload_n hx hb dX0_isShelf_0 rfl (lv_at hl 0 rfl) ?_
  refine lv_iconst (v := 0) hx hb dX0_isShelf_1 (by decide) ?_
  refine lv_iconst (v := 5) hx hb dX0_isShelf_2 (by decide) ?_
  obtain ⟨σ_1, r_2, e_3, hF⟩ := obi_of hF
  refine x_cSi0 (As := [.int a0, .int 0, .int 5]) (rest := []) C0 hG (mtX_in l hst e_3) (lw_S q316 q317 q100 q318) yd_X0_in ⟨by omega, by omega⟩ ⟨by omega, by omega⟩ rfl rfl hl.1 (Nat.le_of_ble_eq_true rfl) dX0_isShelf_3 (fun H locs hG => ?_)
  exact x_zret C0 hG ⟨by omega, by omega⟩ dX0_isShelf_6 hF
theorem mtX_isShelf (l : Launch) (hst : l.stackTraces = false) {N : Nat} {L : xL} {g : xg} {σ σ' : xS} {r : Int32} {a0 : Int32} (hF : fX_isShelf N σ a0 = some (σ', r)) : xMet l yX0_isShelf cX0_isShelf 1 (some .boolean) (1) (22) 0 0 [.int a0] L g σ (some (.int r)) σ' := by
  refine x_head hst (by decide) rfl ?_
  intro p e s m below meth c A C0 hG
  have hl := lv_entry ([.int a0]) (n := 1) (Nat.le_of_ble_eq_true rfl)
  rw [lg_entry_eq]
  generalize (lg_sl ([.int a0]) ++ List.replicate (1 - (lg_sl ([.int a0])).length) Slot.unset).toArray = ls at hl ⊢
  have hl : lv_has ls 1 [(0, .int a0)] := hl
  exact bX_isShelf_e C0 ⟨Nat.le_refl _, Nat.le_refl _⟩ _ _ _ [] ls hG hl hF
def fX_setTo (N : Nat) (σ : xS) (a0 : Int32) (a1 : Int32) (a2 : Int32) : Option (xS × Unit) :=
  if a0 = 0 then (
    chk a1 8 <| chl a1.toNatClampNeg (xn σ) <| nmv a1.toNatClampNeg fun u_2 =>
    chl u_2 (xn σ) <| nmv (xSe σ u_2 0 a2) fun σ_3 =>
    some (σ_3, ()))
  else (
  if a0 = 1 then (
    chk a1 8 <| chl a1.toNatClampNeg (xn σ) <| nmv a1.toNatClampNeg fun u_5 =>
    chl u_5 (xn σ) <| nmv (xSe σ u_5 1 a2) fun σ_6 =>
    some (σ_6, ()))
  else (
  if a0 = 2 then (
    chk a1 8 <| chl a1.toNatClampNeg (xn σ) <| nmv a1.toNatClampNeg fun u_8 =>
    chl u_8 (xn σ) <| nmv (xSe σ u_8 2 a2) fun σ_9 =>
    some (σ_9, ()))
  else (
  if a0 = 3 then (
    chk a1 8 <| chl a1.toNatClampNeg (xn σ) <| nmv a1.toNatClampNeg fun u_11 =>
    chl u_11 (xn σ) <| nmv (xSe σ u_11 3 a2) fun σ_12 =>
    some (σ_12, ()))
  else (
  if a0 = 4 then (
    chk a1 8 <| chl a1.toNatClampNeg (xn σ) <| nmv a1.toNatClampNeg fun u_14 =>
    chl u_14 (xn σ) <| nmv (xSe σ u_14 4 a2) fun σ_15 =>
    some (σ_15, ()))
  else (
  if a0 = 5 then (
    chk a1 8 <| chl a1.toNatClampNeg (xn σ) <| nmv a1.toNatClampNeg fun u_17 =>
    chl u_17 (xn σ) <| nmv (xSe σ u_17 5 a2) fun σ_18 =>
    some (σ_18, ()))
  else (
  if a0 = 6 then (
    nmv (xSi σ 2 a2) fun σ_20 =>
    some (σ_20, ()))
  else (
  if a0 = 7 then (
    nmv (xSi σ 3 a2) fun σ_22 =>
    some (σ_22, ()))
  else (
    nmv (xSi σ 4 a2) fun σ_23 =>
    some (σ_23, ())))))))))
theorem bX_setTo_e {N : Nat} (C0 : xCx p l s m args meth c RX0 cX0_setTo 4 none L A) (hRo : 0 ≤ R.frames ∧ 0 ≤ R.locals) {σ' : xS} {r : Unit} (σ : xS) (a0 : Int32) (a1 : Int32) (a2 : Int32) (H : Heap) (locs : List Loc) (ls : Array Slot) (hG : xG A L g s σ H locs) (hl : lv_has ls 4 [(0, .ref L.1), (1, .int a0), (2, .int a1), (3, .int a2)]) (hF : fX_setTo N σ a0 a1 a2 = some (σ', r)) : W p l e R s m args below meth c H locs 0 0 (xZ below L g A s args σ' none 0 0) (F0 m 0 ls []) := by
  have hx := C0.1
  have hb := C0.2.1
  have hst := C0.2.2.2.2.2.2.2.2.2.2
  unfold fX_setTo at hF
  refine lv_iload_n hx hb dX0_setTo_0 rfl (lv_at hl 1 rfl) ?_
  by_cases c_1 : a0 = 0
  · have hF := ifp hF c_1
    refine lv_tableIn (off := 47) (tgt := 48) hx hb dX0_setTo_1 (by rw [c_1]; decide) (by rw [c_1]; decide) (by rw [c_1]; rfl) (by decide) ?_
    refine lv_aload_n hx hb dX0_setTo_48 rfl (lv_at hl 0 rfl) ?_
    refine x_geta C0 hG 0 (by decide) rfl (by decide) q174 dX0_setTo_49 ?_
    refine lv_iload_n hx hb dX0_setTo_52 rfl (lv_at hl 2 rfl) ?_
    refine x_swld C0 hG dX0_setTo_53 hF (fun u_2 hF => ?_)
    refine lv_iload_n hx hb dX0_setTo_54 rfl (lv_at hl 3 rfl) ?_
    refine x_swp C0 hG 0 (by decide) q329 dX0_setTo_55 hF (fun σ_3 H locs hG hF => ?_)
    refine lv_goto (tgt := 147) hx hb dX0_setTo_58 (by decide) ?_
    exact x_vret C0 hG ⟨by omega, by omega⟩ dX0_setTo_147 hF
  have hF := ifn hF c_1
  by_cases c_4 : a0 = 1
  · have hF := ifp hF c_4
    refine lv_tableIn (off := 60) (tgt := 61) hx hb dX0_setTo_1 (by rw [c_4]; decide) (by rw [c_4]; decide) (by rw [c_4]; rfl) (by decide) ?_
    refine lv_aload_n hx hb dX0_setTo_61 rfl (lv_at hl 0 rfl) ?_
    refine x_geta C0 hG 0 (by decide) rfl (by decide) q174 dX0_setTo_62 ?_
    refine lv_iload_n hx hb dX0_setTo_65 rfl (lv_at hl 2 rfl) ?_
    refine x_swld C0 hG dX0_setTo_66 hF (fun u_5 hF => ?_)
    refine lv_iload_n hx hb dX0_setTo_67 rfl (lv_at hl 3 rfl) ?_
    refine x_swp C0 hG 1 (by decide) q331 dX0_setTo_68 hF (fun σ_6 H locs hG hF => ?_)
    refine lv_goto (tgt := 147) hx hb dX0_setTo_71 (by decide) ?_
    exact x_vret C0 hG ⟨by omega, by omega⟩ dX0_setTo_147 hF
  have hF := ifn hF c_4
  by_cases c_7 : a0 = 2
  · have hF := ifp hF c_7
    refine lv_tableIn (off := 73) (tgt := 74) hx hb dX0_setTo_1 (by rw [c_7]; decide) (by rw [c_7]; decide) (by rw [c_7]; rfl) (by decide) ?_
    refine lv_aload_n hx hb dX0_setTo_74 rfl (lv_at hl 0 rfl) ?_
    refine x_geta C0 hG 0 (by decide) rfl (by decide) q174 dX0_setTo_75 ?_
    refine lv_iload_n hx hb dX0_setTo_78 rfl (lv_at hl 2 rfl) ?_
    refine x_swld C0 hG dX0_setTo_79 hF (fun u_8 hF => ?_)
    refine lv_iload_n hx hb dX0_setTo_80 rfl (lv_at hl 3 rfl) ?_
    refine x_swp C0 hG 2 (by decide) q333 dX0_setTo_81 hF (fun σ_9 H locs hG hF => ?_)
    refine lv_goto (tgt := 147) hx hb dX0_setTo_84 (by decide) ?_
    exact x_vret C0 hG ⟨by omega, by omega⟩ dX0_setTo_147 hF
  have hF := ifn hF c_7
  by_cases c_10 : a0 = 3
  · have hF := ifp hF c_10
    refine lv_tableIn (off := 86) (tgt := 87) hx hb dX0_setTo_1 (by rw [c_10]; decide) (by rw [c_10]; decide) (by rw [c_10]; rfl) (by decide) ?_
    refine lv_aload_n hx hb dX0_setTo_87 rfl (lv_at hl 0 rfl) ?_
    refine x_geta C0 hG 0 (by decide) rfl (by decide) q174 dX0_setTo_88 ?_
    refine lv_iload_n hx hb dX0_setTo_91 rfl (lv_at hl 2 rfl) ?_
    refine x_swld C0 hG dX0_setTo_92 hF (fun u_11 hF => ?_)
    refine lv_iload_n hx hb dX0_setTo_93 rfl (lv_at hl 3 rfl) ?_
    refine x_swp C0 hG 3 (by decide) q335 dX0_setTo_94 hF (fun σ_12 H locs hG hF => ?_)
    refine lv_goto (tgt := 147) hx hb dX0_setTo_97 (by decide) ?_
    exact x_vret C0 hG ⟨by omega, by omega⟩ dX0_setTo_147 hF
  have hF := ifn hF c_10
  by_cases c_13 : a0 = 4
  · have hF := ifp hF c_13
    refine lv_tableIn (off := 99) (tgt := 100) hx hb dX0_setTo_1 (by rw [c_13]; decide) (by rw [c_13]; decide) (by rw [c_13]; rfl) (by decide) ?_
    refine lv_aload_n hx hb dX0_setTo_100 rfl (lv_at hl 0 rfl) ?_
    refine x_geta C0 hG 0 (by decide) rfl (by decide) q174 dX0_setTo_101 ?_
    refine lv_iload_n hx hb dX0_setTo_104 rfl (lv_at hl 2 rfl) ?_
    refine x_swld C0 hG dX0_setTo_105 hF (fun u_14 hF => ?_)
    refine lv_iload_n hx hb dX0_setTo_106 rfl (lv_at hl 3 rfl) ?_
    refine x_swp C0 hG 4 (by decide) q336 dX0_setTo_107 hF (fun σ_15 H locs hG hF => ?_)
    refine lv_goto (tgt := 147) hx hb dX0_setTo_110 (by decide) ?_
    exact x_vret C0 hG ⟨by omega, by omega⟩ dX0_setTo_147 hF
  have hF := ifn hF c_13
  by_cases c_16 : a0 = 5
  · have hF := ifp hF c_16
    refine lv_tableIn (off := 112) (tgt := 113) hx hb dX0_setTo_1 (by rw [c_16]; decide) (by rw [c_16]; decide) (by rw [c_16]; rfl) (by decide) ?_
    refine lv_aload_n hx hb dX0_setTo_113 rfl (lv_at hl 0 rfl) ?_
    refine x_geta C0 hG 0 (by decide) rfl (by decide) q174 dX0_setTo_114 ?_
    refine lv_iload_n hx hb dX0_setTo_117 rfl (lv_at hl 2 rfl) ?_
    refine x_swld C0 hG dX0_setTo_118 hF (fun u_17 hF => ?_)
    refine lv_iload_n hx hb dX0_setTo_119 rfl (lv_at hl 3 rfl) ?_
    refine x_swp C0 hG 5 (by decide) q337 dX0_setTo_120 hF (fun σ_18 H locs hG hF => ?_)
    refine lv_goto (tgt := 147) hx hb dX0_setTo_123 (by decide) ?_
    exact x_vret C0 hG ⟨by omega, by omega⟩ dX0_setTo_147 hF
  have hF := ifn hF c_16
  by_cases c_19 : a0 = 6
  · have hF := ifp hF c_19
    refine lv_tableIn (off := 125) (tgt := 126) hx hb dX0_setTo_1 (by rw [c_19]; decide) (by rw [c_19]; decide) (by rw [c_19]; rfl) (by decide) ?_
    refine lv_aload_n hx hb dX0_setTo_126 rfl (lv_at hl 0 rfl) ?_
    refine lv_iload_n hx hb dX0_setTo_127 rfl (lv_at hl 3 rfl) ?_
    refine x_puti C0 hG 2 (by decide) rfl q176 dX0_setTo_128 (Or.inl (by decide)) hF (fun σ_20 H locs hG hF => ?_)
    refine lv_goto (tgt := 147) hx hb dX0_setTo_131 (by decide) ?_
    exact x_vret C0 hG ⟨by omega, by omega⟩ dX0_setTo_147 hF
  have hF := ifn hF c_19
  by_cases c_21 : a0 = 7
  · have hF := ifp hF c_21
    refine lv_tableIn (off := 133) (tgt := 134) hx hb dX0_setTo_1 (by rw [c_21]; decide) (by rw [c_21]; decide) (by rw [c_21]; rfl) (by decide) ?_
    refine lv_aload_n hx hb dX0_setTo_134 rfl (lv_at hl 0 rfl) ?_
    refine lv_iload_n hx hb dX0_setTo_135 rfl (lv_at hl 3 rfl) ?_
    refine x_puti C0 hG 3 (by decide) rfl q177 dX0_setTo_136 (Or.inl (by decide)) hF (fun σ_22 H locs hG hF => ?_)
    refine lv_goto (tgt := 147) hx hb dX0_setTo_139 (by decide) ?_
    exact x_vret C0 hG ⟨by omega, by omega⟩ dX0_setTo_147 hF
  have hF := ifn hF c_21
  refine lv_tableOut (tgt := 142) hx hb dX0_setTo_1 (sw_out (fun q_ => by
      have zc_1 := lv_neT c_1 (show ((0 : Int32)).toInt = 0 from by decide)
      have zc_4 := lv_neT c_4 (show ((1 : Int32)).toInt = 1 from by decide)
      have zc_7 := lv_neT c_7 (show ((2 : Int32)).toInt = 2 from by decide)
      have zc_10 := lv_neT c_10 (show ((3 : Int32)).toInt = 3 from by decide)
      have zc_13 := lv_neT c_13 (show ((4 : Int32)).toInt = 4 from by decide)
      have zc_16 := lv_neT c_16 (show ((5 : Int32)).toInt = 5 from by decide)
      have zc_19 := lv_neT c_19 (show ((6 : Int32)).toInt = 6 from by decide)
      have zc_21 := lv_neT c_21 (show ((7 : Int32)).toInt = 7 from by decide)
      omega)) (by decide) ?_
  refine lv_aload_n hx hb dX0_setTo_142 rfl (lv_at hl 0 rfl) ?_
  refine lv_iload_n hx hb dX0_setTo_143 rfl (lv_at hl 3 rfl) ?_
  refine x_puti C0 hG 4 (by decide) rfl q178 dX0_setTo_144 (Or.inl (by decide)) hF (fun σ_23 H locs hG hF => ?_)
  exact x_vret C0 hG ⟨by omega, by omega⟩ dX0_setTo_147 hF
theorem mtX_setTo (l : Launch) (hst : l.stackTraces = false) {N : Nat} {L : xL} {g : xg} {σ σ' : xS} {r : Unit} {a0 : Int32} {a1 : Int32} {a2 : Int32} (hF : fX_setTo N σ a0 a1 a2 = some (σ', r)) : xMet l yX0_setTo cX0_setTo 4 none (0) (0) 0 0 [.ref L.1, .int a0, .int a1, .int a2] L g σ none σ' := by
  refine x_head hst (by decide) rfl ?_
  intro p e s m below meth c A C0 hG
  have hl := lv_entry ([.ref L.1, .int a0, .int a1, .int a2]) (n := 4) (Nat.le_of_ble_eq_true rfl)
  rw [lg_entry_eq]
  generalize (lg_sl ([.ref L.1, .int a0, .int a1, .int a2]) ++ List.replicate (4 - (lg_sl ([.ref L.1, .int a0, .int a1, .int a2])).length) Slot.unset).toArray = ls at hl ⊢
  have hl : lv_has ls 4 [(0, .ref L.1), (1, .int a0), (2, .int a1), (3, .int a2)] := hl
  exact bX_setTo_e C0 ⟨Nat.le_refl _, Nat.le_refl _⟩ _ _ _ _ _ [] ls hG hl hF
def fX_undo (N : Nat) (σ : xS) : Option (xS × Int32) :=
  nmv (xI σ 6) fun x_1 =>
  if x_1 = 0 then (
    some (σ, (-5)))
  else (
    nmv (xI σ 6) fun x_3 =>
    nmv (xSi σ 6 (x_3 - 1)) fun σ_4 =>
    nmv (xI σ_4 7) fun x_5 =>
    nmv (xSi σ_4 7 (x_5 + 1)) fun σ_6 =>
    nmv (xI σ_6 6) fun x_7 =>
    chk x_7 40 <| chl x_7.toNatClampNeg (xm σ_6) <| nmv x_7.toNatClampNeg fun u_8 =>
    chl u_8 (xm σ_6) <| nmv (xC σ_6 u_8 0) fun x_9 =>
    nmv (xI σ_6 6) fun x_10 =>
    chk x_10 40 <| chl x_10.toNatClampNeg (xm σ_6) <| nmv x_10.toNatClampNeg fun u_11 =>
    chl u_11 (xm σ_6) <| nmv (xC σ_6 u_11 1) fun x_12 =>
    nmv (xI σ_6 6) fun x_13 =>
    chk x_13 40 <| chl x_13.toNatClampNeg (xm σ_6) <| nmv x_13.toNatClampNeg fun u_14 =>
    chl u_14 (xm σ_6) <| nmv (xC σ_6 u_14 2) fun x_15 =>
    obi (fX_setTo N σ_6 x_9 x_12 x_15) fun σ_16 r_17 =>
    nmv (xI σ_16 6) fun x_19 =>
    some (σ_16, x_19))
theorem bX_undo_e {N : Nat} (C0 : xCx p l s m args meth c RX0 cX0_undo 1 (some .int) L A) (hRo : 1 ≤ R.frames ∧ 23 ≤ R.locals) {σ' : xS} {r : Int32} (σ : xS) (H : Heap) (locs : List Loc) (ls : Array Slot) (hG : xG A L g s σ H locs) (hl : lv_has ls 1 [(0, .ref L.1)]) (hF : fX_undo N σ = some (σ', r)) : W p l e R s m args below meth c H locs 0 0 (xZ below L g A s args σ' (some (.int r)) 0 0) (F0 m 0 ls []) := by
  have hx := C0.1
  have hb := C0.2.1
  have hst := C0.2.2.2.2.2.2.2.2.2.2
  unfold fX_undo at hF
  refine lv_aload_n hx hb dX0_undo_0 rfl (lv_at hl 0 rfl) ?_
  refine x_geti C0 hG 6 (by decide) rfl q180 dX0_undo_1 hF (fun x_1 hF => ?_)
  refine lv_if_ne (tgt := 10) hx hb dX0_undo_4 (by decide) (fun c_2 => ?_) (fun c_2 => ?_)
  · have hF := ifn hF c_2
    refine lv_aload_n hx hb dX0_undo_10 rfl (lv_at hl 0 rfl) ?_
    refine lv_dup hx hb dX0_undo_11 rfl ?_
    refine x_geti C0 hG 6 (by decide) rfl q180 dX0_undo_12 hF (fun x_3 hF => ?_)
    refine lv_iconst (v := 1) hx hb dX0_undo_15 (by decide) ?_
    refine lv_isub hx hb dX0_undo_16 ?_
    refine x_puti C0 hG 6 (by decide) rfl q180 dX0_undo_17 (Or.inl (by decide)) hF (fun σ_4 H locs hG hF => ?_)
    refine lv_aload_n hx hb dX0_undo_20 rfl (lv_at hl 0 rfl) ?_
    refine lv_dup hx hb dX0_undo_21 rfl ?_
    refine x_geti C0 hG 7 (by decide) rfl q181 dX0_undo_22 hF (fun x_5 hF => ?_)
    refine lv_iconst (v := 1) hx hb dX0_undo_25 (by decide) ?_
    refine lv_iadd hx hb dX0_undo_26 ?_
    refine x_puti C0 hG 7 (by decide) rfl q181 dX0_undo_27 (Or.inl (by decide)) hF (fun σ_6 H locs hG hF => ?_)
    refine lv_aload_n hx hb dX0_undo_30 rfl (lv_at hl 0 rfl) ?_
    refine lv_aload_n hx hb dX0_undo_31 rfl (lv_at hl 0 rfl) ?_
    refine x_geta C0 hG 5 (by decide) rfl (by decide) q179 dX0_undo_32 ?_
    refine lv_aload_n hx hb dX0_undo_35 rfl (lv_at hl 0 rfl) ?_
    refine x_geti C0 hG 6 (by decide) rfl q180 dX0_undo_36 hF (fun x_7 hF => ?_)
    refine x_chld C0 hG dX0_undo_39 hF (fun u_8 hF => ?_)
    refine x_chg C0 hG 0 (by decide) q538 dX0_undo_40 hF (fun x_9 hF => ?_)
    refine lv_aload_n hx hb dX0_undo_43 rfl (lv_at hl 0 rfl) ?_
    refine x_geta C0 hG 5 (by decide) rfl (by decide) q179 dX0_undo_44 ?_
    refine lv_aload_n hx hb dX0_undo_47 rfl (lv_at hl 0 rfl) ?_
    refine x_geti C0 hG 6 (by decide) rfl q180 dX0_undo_48 hF (fun x_10 hF => ?_)
    refine x_chld C0 hG dX0_undo_51 hF (fun u_11 hF => ?_)
    refine x_chg C0 hG 1 (by decide) q540 dX0_undo_52 hF (fun x_12 hF => ?_)
    refine lv_aload_n hx hb dX0_undo_55 rfl (lv_at hl 0 rfl) ?_
    refine x_geta C0 hG 5 (by decide) rfl (by decide) q179 dX0_undo_56 ?_
    refine lv_aload_n hx hb dX0_undo_59 rfl (lv_at hl 0 rfl) ?_
    refine x_geti C0 hG 6 (by decide) rfl q180 dX0_undo_60 hF (fun x_13 hF => ?_)
    refine x_chld C0 hG dX0_undo_63 hF (fun u_14 hF => ?_)
    refine x_chg C0 hG 2 (by decide) q542 dX0_undo_64 hF (fun x_15 hF => ?_)
    obtain ⟨σ_16, r_17, e_18, hF⟩ := obi_of hF
    refine x_cVv0 (As := [.int x_9, .int x_12, .int x_15]) (rest := []) C0 hG (mtX_setTo l hst e_18) (lw_V q501 q503 qs3 q100 q504) yd_X0_setTo (x_rc0 C0 hG) ⟨by omega, by omega⟩ ⟨by omega, by omega⟩ rfl rfl hl.1 (Nat.le_of_ble_eq_true rfl) dX0_undo_67 (fun H locs hG => ?_)
    refine lv_aload_n hx hb dX0_undo_70 rfl (lv_at hl 0 rfl) ?_
    refine x_geti C0 hG 6 (by decide) rfl q180 dX0_undo_71 hF (fun x_19 hF => ?_)
    exact x_iret C0 hG ⟨by omega, by omega⟩ dX0_undo_74 hF
  · have hF := ifp hF c_2
    refine lv_bipush (v := (-5)) hx hb dX0_undo_7 (by decide) ?_
    exact x_iret C0 hG ⟨by omega, by omega⟩ dX0_undo_9 hF
theorem mtX_undo (l : Launch) (hst : l.stackTraces = false) {N : Nat} {L : xL} {g : xg} {σ σ' : xS} {r : Int32} (hF : fX_undo N σ = some (σ', r)) : xMet l yX0_undo cX0_undo 1 (some .int) (1) (23) 0 0 [.ref L.1] L g σ (some (.int r)) σ' := by
  refine x_head hst (by decide) rfl ?_
  intro p e s m below meth c A C0 hG
  have hl := lv_entry ([.ref L.1]) (n := 1) (Nat.le_of_ble_eq_true rfl)
  rw [lg_entry_eq]
  generalize (lg_sl ([.ref L.1]) ++ List.replicate (1 - (lg_sl ([.ref L.1])).length) Slot.unset).toArray = ls at hl ⊢
  have hl : lv_has ls 1 [(0, .ref L.1)] := hl
  exact bX_undo_e C0 ⟨Nat.le_refl _, Nat.le_refl _⟩ _ _ [] ls hG hl hF
def fX_redo (N : Nat) (σ : xS) : Option (xS × Int32) :=
  nmv (xI σ 7) fun x_1 =>
  if x_1 = 0 then (
    some (σ, (-5)))
  else (
    nmv (xI σ 6) fun x_3 =>
    chk x_3 40 <| chl x_3.toNatClampNeg (xm σ) <| nmv x_3.toNatClampNeg fun u_4 =>
    chl u_4 (xm σ) <| nmv (xC σ u_4 0) fun x_5 =>
    nmv (xI σ 6) fun x_6 =>
    chk x_6 40 <| chl x_6.toNatClampNeg (xm σ) <| nmv x_6.toNatClampNeg fun u_7 =>
    chl u_7 (xm σ) <| nmv (xC σ u_7 1) fun x_8 =>
    nmv (xI σ 6) fun x_9 =>
    chk x_9 40 <| chl x_9.toNatClampNeg (xm σ) <| nmv x_9.toNatClampNeg fun u_10 =>
    chl u_10 (xm σ) <| nmv (xC σ u_10 3) fun x_11 =>
    obi (fX_setTo N σ x_5 x_8 x_11) fun σ_12 r_13 =>
    nmv (xI σ_12 6) fun x_15 =>
    nmv (xSi σ_12 6 (x_15 + 1)) fun σ_16 =>
    nmv (xI σ_16 7) fun x_17 =>
    nmv (xSi σ_16 7 (x_17 - 1)) fun σ_18 =>
    nmv (xI σ_18 7) fun x_19 =>
    some (σ_18, x_19))
theorem bX_redo_e {N : Nat} (C0 : xCx p l s m args meth c RX0 cX0_redo 1 (some .int) L A) (hRo : 1 ≤ R.frames ∧ 23 ≤ R.locals) {σ' : xS} {r : Int32} (σ : xS) (H : Heap) (locs : List Loc) (ls : Array Slot) (hG : xG A L g s σ H locs) (hl : lv_has ls 1 [(0, .ref L.1)]) (hF : fX_redo N σ = some (σ', r)) : W p l e R s m args below meth c H locs 0 0 (xZ below L g A s args σ' (some (.int r)) 0 0) (F0 m 0 ls []) := by
  have hx := C0.1
  have hb := C0.2.1
  have hst := C0.2.2.2.2.2.2.2.2.2.2
  unfold fX_redo at hF
  refine lv_aload_n hx hb dX0_redo_0 rfl (lv_at hl 0 rfl) ?_
  refine x_geti C0 hG 7 (by decide) rfl q181 dX0_redo_1 hF (fun x_1 hF => ?_)
  refine lv_if_ne (tgt := 10) hx hb dX0_redo_4 (by decide) (fun c_2 => ?_) (fun c_2 => ?_)
  · have hF := ifn hF c_2
    refine lv_aload_n hx hb dX0_redo_10 rfl (lv_at hl 0 rfl) ?_
    refine lv_aload_n hx hb dX0_redo_11 rfl (lv_at hl 0 rfl) ?_
    refine x_geta C0 hG 5 (by decide) rfl (by decide) q179 dX0_redo_12 ?_
    refine lv_aload_n hx hb dX0_redo_15 rfl (lv_at hl 0 rfl) ?_
    refine x_geti C0 hG 6 (by decide) rfl q180 dX0_redo_16 hF (fun x_3 hF => ?_)
    refine x_chld C0 hG dX0_redo_19 hF (fun u_4 hF => ?_)
    refine x_chg C0 hG 0 (by decide) q538 dX0_redo_20 hF (fun x_5 hF => ?_)
    refine lv_aload_n hx hb dX0_redo_23 rfl (lv_at hl 0 rfl) ?_
    refine x_geta C0 hG 5 (by decide) rfl (by decide) q179 dX0_redo_24 ?_
    refine lv_aload_n hx hb dX0_redo_27 rfl (lv_at hl 0 rfl) ?_
    refine x_geti C0 hG 6 (by decide) rfl q180 dX0_redo_28 hF (fun x_6 hF => ?_)
    refine x_chld C0 hG dX0_redo_31 hF (fun u_7 hF => ?_)
    refine x_chg C0 hG 1 (by decide) q540 dX0_redo_32 hF (fun x_8 hF => ?_)
    refine lv_aload_n hx hb dX0_redo_35 rfl (lv_at hl 0 rfl) ?_
    refine x_geta C0 hG 5 (by decide) rfl (by decide) q179 dX0_redo_36 ?_
    refine lv_aload_n hx hb dX0_redo_39 rfl (lv_at hl 0 rfl) ?_
    refine x_geti C0 hG 6 (by decide) rfl q180 dX0_redo_40 hF (fun x_9 hF => ?_)
    refine x_chld C0 hG dX0_redo_43 hF (fun u_10 hF => ?_)
    refine x_chg C0 hG 3 (by decide) q544 dX0_redo_44 hF (fun x_11 hF => ?_)
    obtain ⟨σ_12, r_13, e_14, hF⟩ := obi_of hF
    refine x_cVv0 (As := [.int x_5, .int x_8, .int x_11]) (rest := []) C0 hG (mtX_setTo l hst e_14) (lw_V q501 q503 qs3 q100 q504) yd_X0_setTo (x_rc0 C0 hG) ⟨by omega, by omega⟩ ⟨by omega, by omega⟩ rfl rfl hl.1 (Nat.le_of_ble_eq_true rfl) dX0_redo_47 (fun H locs hG => ?_)
    refine lv_aload_n hx hb dX0_redo_50 rfl (lv_at hl 0 rfl) ?_
    refine lv_dup hx hb dX0_redo_51 rfl ?_
    refine x_geti C0 hG 6 (by decide) rfl q180 dX0_redo_52 hF (fun x_15 hF => ?_)
    refine lv_iconst (v := 1) hx hb dX0_redo_55 (by decide) ?_
    refine lv_iadd hx hb dX0_redo_56 ?_
    refine x_puti C0 hG 6 (by decide) rfl q180 dX0_redo_57 (Or.inl (by decide)) hF (fun σ_16 H locs hG hF => ?_)
    refine lv_aload_n hx hb dX0_redo_60 rfl (lv_at hl 0 rfl) ?_
    refine lv_dup hx hb dX0_redo_61 rfl ?_
    refine x_geti C0 hG 7 (by decide) rfl q181 dX0_redo_62 hF (fun x_17 hF => ?_)
    refine lv_iconst (v := 1) hx hb dX0_redo_65 (by decide) ?_
    refine lv_isub hx hb dX0_redo_66 ?_
    refine x_puti C0 hG 7 (by decide) rfl q181 dX0_redo_67 (Or.inl (by decide)) hF (fun σ_18 H locs hG hF => ?_)
    refine lv_aload_n hx hb dX0_redo_70 rfl (lv_at hl 0 rfl) ?_
    refine x_geti C0 hG 7 (by decide) rfl q181 dX0_redo_71 hF (fun x_19 hF => ?_)
    exact x_iret C0 hG ⟨by omega, by omega⟩ dX0_redo_74 hF
  · have hF := ifp hF c_2
    refine lv_bipush (v := (-5)) hx hb dX0_redo_7 (by decide) ?_
    exact x_iret C0 hG ⟨by omega, by omega⟩ dX0_redo_9 hF
theorem mtX_redo (l : Launch) (hst : l.stackTraces = false) {N : Nat} {L : xL} {g : xg} {σ σ' : xS} {r : Int32} (hF : fX_redo N σ = some (σ', r)) : xMet l yX0_redo cX0_redo 1 (some .int) (1) (23) 0 0 [.ref L.1] L g σ (some (.int r)) σ' := by
  refine x_head hst (by decide) rfl ?_
  intro p e s m below meth c A C0 hG
  have hl := lv_entry ([.ref L.1]) (n := 1) (Nat.le_of_ble_eq_true rfl)
  rw [lg_entry_eq]
  generalize (lg_sl ([.ref L.1]) ++ List.replicate (1 - (lg_sl ([.ref L.1])).length) Slot.unset).toArray = ls at hl ⊢
  have hl : lv_has ls 1 [(0, .ref L.1)] := hl
  exact bX_redo_e C0 ⟨Nat.le_refl _, Nat.le_refl _⟩ _ _ [] ls hG hl hF
def fX_isOf (N : Nat) (σ : xS) (a0 : Int32) (a1 : Int32) : Option (xS × Int32) :=
  obi (fX_in N σ a1 0 5) fun σ_1 r_2 =>
  if r_2 = 0 then (
    obi (fX_in N σ_1 a1 6 8) fun σ_5 r_6 =>
    if r_6 = 0 then (
      chb 0 (some (σ_5, 0)))
    else (
      if a0 = 0 then (
        chb 1 (some (σ_5, 1)))
      else (
        chb 0 (some (σ_5, 0)))))
  else (
    obi (fX_isOne N σ_1 a0) fun σ_10 r_11 =>
    chb r_11 (some (σ_10, r_11)))
theorem bX_isOf_e {N : Nat} (C0 : xCx p l s m args meth c RX0 cX0_isOf 3 (some .boolean) L A) (hRo : 2 ≤ R.frames ∧ 43 ≤ R.locals) {σ' : xS} {r : Int32} (σ : xS) (a0 : Int32) (a1 : Int32) (H : Heap) (locs : List Loc) (ls : Array Slot) (hG : xG A L g s σ H locs) (hl : lv_has ls 3 [(0, .ref L.1), (1, .int a0), (2, .int a1)]) (hF : fX_isOf N σ a0 a1 = some (σ', r)) : W p l e R s m args below meth c H locs 0 0 (xZ below L g A s args σ' (some (.int r)) 0 0) (F0 m 0 ls []) := by
  have hx := C0.1
  have hb := C0.2.1
  have hst := C0.2.2.2.2.2.2.2.2.2.2
  unfold fX_isOf at hF
  refine lv_iload_n hx hb dX0_isOf_0 rfl (lv_at hl 2 rfl) ?_
  refine lv_iconst (v := 0) hx hb dX0_isOf_1 (by decide) ?_
  refine lv_iconst (v := 5) hx hb dX0_isOf_2 (by decide) ?_
  obtain ⟨σ_1, r_2, e_3, hF⟩ := obi_of hF
  refine x_cSi0 (As := [.int a1, .int 0, .int 5]) (rest := []) C0 hG (mtX_in l hst e_3) (lw_S q316 q317 q100 q318) yd_X0_in ⟨by omega, by omega⟩ ⟨by omega, by omega⟩ rfl rfl hl.1 (Nat.le_of_ble_eq_true rfl) dX0_isOf_3 (fun H locs hG => ?_)
  refine lv_if_eq (tgt := 17) hx hb dX0_isOf_6 (by decide) (fun c_4 => ?_) (fun c_4 => ?_)
  · have hF := ifp hF c_4
    refine lv_iload_n hx hb dX0_isOf_17 rfl (lv_at hl 2 rfl) ?_
    refine lv_bipush (v := 6) hx hb dX0_isOf_18 (by decide) ?_
    refine lv_bipush (v := 8) hx hb dX0_isOf_20 (by decide) ?_
    obtain ⟨σ_5, r_6, e_7, hF⟩ := obi_of hF
    refine x_cSi0 (As := [.int a1, .int 6, .int 8]) (rest := []) C0 hG (mtX_in l hst e_7) (lw_S q316 q317 q100 q318) yd_X0_in ⟨by omega, by omega⟩ ⟨by omega, by omega⟩ rfl rfl hl.1 (Nat.le_of_ble_eq_true rfl) dX0_isOf_22 (fun H locs hG => ?_)
    refine lv_if_eq (tgt := 36) hx hb dX0_isOf_25 (by decide) (fun c_8 => ?_) (fun c_8 => ?_)
    · have hF := ifp hF c_8
      refine lv_iconst (v := 0) hx hb dX0_isOf_36 (by decide) ?_
      exact x_zret C0 hG ⟨by omega, by omega⟩ dX0_isOf_37 hF
    · have hF := ifn hF c_8
      refine lv_iload_n hx hb dX0_isOf_28 rfl (lv_at hl 1 rfl) ?_
      refine lv_if_ne (tgt := 36) hx hb dX0_isOf_29 (by decide) (fun c_9 => ?_) (fun c_9 => ?_)
      · have hF := ifn hF c_9
        refine lv_iconst (v := 0) hx hb dX0_isOf_36 (by decide) ?_
        exact x_zret C0 hG ⟨by omega, by omega⟩ dX0_isOf_37 hF
      · have hF := ifp hF c_9
        refine lv_iconst (v := 1) hx hb dX0_isOf_32 (by decide) ?_
        refine lv_goto (tgt := 37) hx hb dX0_isOf_33 (by decide) ?_
        exact x_zret C0 hG ⟨by omega, by omega⟩ dX0_isOf_37 hF
  · have hF := ifn hF c_4
    refine lv_aload_n hx hb dX0_isOf_9 rfl (lv_at hl 0 rfl) ?_
    refine lv_iload_n hx hb dX0_isOf_10 rfl (lv_at hl 1 rfl) ?_
    obtain ⟨σ_10, r_11, e_12, hF⟩ := obi_of hF
    refine x_cVi0 (As := [.int a0]) (rest := []) C0 hG (mtX_isOne l hst e_12) (lw_V q517 q519 qs5 q100 q520) yd_X0_isOne (x_rc0 C0 hG) ⟨by omega, by omega⟩ ⟨by omega, by omega⟩ rfl rfl hl.1 (Nat.le_of_ble_eq_true rfl) dX0_isOf_11 (fun H locs hG => ?_)
    refine lv_goto (tgt := 37) hx hb dX0_isOf_14 (by decide) ?_
    exact x_zret C0 hG ⟨by omega, by omega⟩ dX0_isOf_37 hF
theorem mtX_isOf (l : Launch) (hst : l.stackTraces = false) {N : Nat} {L : xL} {g : xg} {σ σ' : xS} {r : Int32} {a0 : Int32} {a1 : Int32} (hF : fX_isOf N σ a0 a1 = some (σ', r)) : xMet l yX0_isOf cX0_isOf 3 (some .boolean) (2) (43) 0 0 [.ref L.1, .int a0, .int a1] L g σ (some (.int r)) σ' := by
  refine x_head hst (by decide) rfl ?_
  intro p e s m below meth c A C0 hG
  have hl := lv_entry ([.ref L.1, .int a0, .int a1]) (n := 3) (Nat.le_of_ble_eq_true rfl)
  rw [lg_entry_eq]
  generalize (lg_sl ([.ref L.1, .int a0, .int a1]) ++ List.replicate (3 - (lg_sl ([.ref L.1, .int a0, .int a1])).length) Slot.unset).toArray = ls at hl ⊢
  have hl : lv_has ls 3 [(0, .ref L.1), (1, .int a0), (2, .int a1)] := hl
  exact bX_isOf_e C0 ⟨Nat.le_refl _, Nat.le_refl _⟩ _ _ _ _ [] ls hG hl hF
def fX_valueOf (N : Nat) (σ : xS) (a0 : Int32) (a1 : Int32) : Option (xS × Int32) :=
  if a1 = 0 then (
    chk a0 8 <| chl a0.toNatClampNeg (xn σ) <| nmv a0.toNatClampNeg fun u_2 =>
    chl u_2 (xn σ) <| nmv (xE σ u_2 0) fun x_3 =>
    some (σ, x_3))
  else (
  if a1 = 1 then (
    chk a0 8 <| chl a0.toNatClampNeg (xn σ) <| nmv a0.toNatClampNeg fun u_5 =>
    chl u_5 (xn σ) <| nmv (xE σ u_5 1) fun x_6 =>
    some (σ, x_6))
  else (
  if a1 = 2 then (
    chk a0 8 <| chl a0.toNatClampNeg (xn σ) <| nmv a0.toNatClampNeg fun u_8 =>
    chl u_8 (xn σ) <| nmv (xE σ u_8 2) fun x_9 =>
    some (σ, x_9))
  else (
  if a1 = 3 then (
    chk a0 8 <| chl a0.toNatClampNeg (xn σ) <| nmv a0.toNatClampNeg fun u_11 =>
    chl u_11 (xn σ) <| nmv (xE σ u_11 3) fun x_12 =>
    some (σ, x_12))
  else (
  if a1 = 4 then (
    chk a0 8 <| chl a0.toNatClampNeg (xn σ) <| nmv a0.toNatClampNeg fun u_14 =>
    chl u_14 (xn σ) <| nmv (xE σ u_14 4) fun x_15 =>
    some (σ, x_15))
  else (
  if a1 = 5 then (
    chk a0 8 <| chl a0.toNatClampNeg (xn σ) <| nmv a0.toNatClampNeg fun u_17 =>
    chl u_17 (xn σ) <| nmv (xE σ u_17 5) fun x_18 =>
    some (σ, x_18))
  else (
  if a1 = 6 then (
    nmv (xI σ 2) fun x_20 =>
    some (σ, x_20))
  else (
  if a1 = 7 then (
    nmv (xI σ 3) fun x_22 =>
    some (σ, x_22))
  else (
    nmv (xI σ 4) fun x_23 =>
    some (σ, x_23)))))))))
theorem bX_valueOf_e {N : Nat} (C0 : xCx p l s m args meth c RX0 cX0_valueOf 3 (some .int) L A) (hRo : 0 ≤ R.frames ∧ 0 ≤ R.locals) {σ' : xS} {r : Int32} (σ : xS) (a0 : Int32) (a1 : Int32) (H : Heap) (locs : List Loc) (ls : Array Slot) (hG : xG A L g s σ H locs) (hl : lv_has ls 3 [(0, .ref L.1), (1, .int a0), (2, .int a1)]) (hF : fX_valueOf N σ a0 a1 = some (σ', r)) : W p l e R s m args below meth c H locs 0 0 (xZ below L g A s args σ' (some (.int r)) 0 0) (F0 m 0 ls []) := by
  have hx := C0.1
  have hb := C0.2.1
  have hst := C0.2.2.2.2.2.2.2.2.2.2
  unfold fX_valueOf at hF
  refine lv_iload_n hx hb dX0_valueOf_0 rfl (lv_at hl 2 rfl) ?_
  by_cases c_1 : a1 = 0
  · have hF := ifp hF c_1
    refine lv_tableIn (off := 47) (tgt := 48) hx hb dX0_valueOf_1 (by rw [c_1]; decide) (by rw [c_1]; decide) (by rw [c_1]; rfl) (by decide) ?_
    refine lv_aload_n hx hb dX0_valueOf_48 rfl (lv_at hl 0 rfl) ?_
    refine x_geta C0 hG 0 (by decide) rfl (by decide) q174 dX0_valueOf_49 ?_
    refine lv_iload_n hx hb dX0_valueOf_52 rfl (lv_at hl 1 rfl) ?_
    refine x_swld C0 hG dX0_valueOf_53 hF (fun u_2 hF => ?_)
    refine x_swg C0 hG 0 (by decide) q329 dX0_valueOf_54 hF (fun x_3 hF => ?_)
    exact x_iret C0 hG ⟨by omega, by omega⟩ dX0_valueOf_57 hF
  have hF := ifn hF c_1
  by_cases c_4 : a1 = 1
  · have hF := ifp hF c_4
    refine lv_tableIn (off := 57) (tgt := 58) hx hb dX0_valueOf_1 (by rw [c_4]; decide) (by rw [c_4]; decide) (by rw [c_4]; rfl) (by decide) ?_
    refine lv_aload_n hx hb dX0_valueOf_58 rfl (lv_at hl 0 rfl) ?_
    refine x_geta C0 hG 0 (by decide) rfl (by decide) q174 dX0_valueOf_59 ?_
    refine lv_iload_n hx hb dX0_valueOf_62 rfl (lv_at hl 1 rfl) ?_
    refine x_swld C0 hG dX0_valueOf_63 hF (fun u_5 hF => ?_)
    refine x_swg C0 hG 1 (by decide) q331 dX0_valueOf_64 hF (fun x_6 hF => ?_)
    exact x_iret C0 hG ⟨by omega, by omega⟩ dX0_valueOf_67 hF
  have hF := ifn hF c_4
  by_cases c_7 : a1 = 2
  · have hF := ifp hF c_7
    refine lv_tableIn (off := 67) (tgt := 68) hx hb dX0_valueOf_1 (by rw [c_7]; decide) (by rw [c_7]; decide) (by rw [c_7]; rfl) (by decide) ?_
    refine lv_aload_n hx hb dX0_valueOf_68 rfl (lv_at hl 0 rfl) ?_
    refine x_geta C0 hG 0 (by decide) rfl (by decide) q174 dX0_valueOf_69 ?_
    refine lv_iload_n hx hb dX0_valueOf_72 rfl (lv_at hl 1 rfl) ?_
    refine x_swld C0 hG dX0_valueOf_73 hF (fun u_8 hF => ?_)
    refine x_swg C0 hG 2 (by decide) q333 dX0_valueOf_74 hF (fun x_9 hF => ?_)
    exact x_iret C0 hG ⟨by omega, by omega⟩ dX0_valueOf_77 hF
  have hF := ifn hF c_7
  by_cases c_10 : a1 = 3
  · have hF := ifp hF c_10
    refine lv_tableIn (off := 77) (tgt := 78) hx hb dX0_valueOf_1 (by rw [c_10]; decide) (by rw [c_10]; decide) (by rw [c_10]; rfl) (by decide) ?_
    refine lv_aload_n hx hb dX0_valueOf_78 rfl (lv_at hl 0 rfl) ?_
    refine x_geta C0 hG 0 (by decide) rfl (by decide) q174 dX0_valueOf_79 ?_
    refine lv_iload_n hx hb dX0_valueOf_82 rfl (lv_at hl 1 rfl) ?_
    refine x_swld C0 hG dX0_valueOf_83 hF (fun u_11 hF => ?_)
    refine x_swg C0 hG 3 (by decide) q335 dX0_valueOf_84 hF (fun x_12 hF => ?_)
    exact x_iret C0 hG ⟨by omega, by omega⟩ dX0_valueOf_87 hF
  have hF := ifn hF c_10
  by_cases c_13 : a1 = 4
  · have hF := ifp hF c_13
    refine lv_tableIn (off := 87) (tgt := 88) hx hb dX0_valueOf_1 (by rw [c_13]; decide) (by rw [c_13]; decide) (by rw [c_13]; rfl) (by decide) ?_
    refine lv_aload_n hx hb dX0_valueOf_88 rfl (lv_at hl 0 rfl) ?_
    refine x_geta C0 hG 0 (by decide) rfl (by decide) q174 dX0_valueOf_89 ?_
    refine lv_iload_n hx hb dX0_valueOf_92 rfl (lv_at hl 1 rfl) ?_
    refine x_swld C0 hG dX0_valueOf_93 hF (fun u_14 hF => ?_)
    refine x_swg C0 hG 4 (by decide) q336 dX0_valueOf_94 hF (fun x_15 hF => ?_)
    exact x_iret C0 hG ⟨by omega, by omega⟩ dX0_valueOf_97 hF
  have hF := ifn hF c_13
  by_cases c_16 : a1 = 5
  · have hF := ifp hF c_16
    refine lv_tableIn (off := 97) (tgt := 98) hx hb dX0_valueOf_1 (by rw [c_16]; decide) (by rw [c_16]; decide) (by rw [c_16]; rfl) (by decide) ?_
    refine lv_aload_n hx hb dX0_valueOf_98 rfl (lv_at hl 0 rfl) ?_
    refine x_geta C0 hG 0 (by decide) rfl (by decide) q174 dX0_valueOf_99 ?_
    refine lv_iload_n hx hb dX0_valueOf_102 rfl (lv_at hl 1 rfl) ?_
    refine x_swld C0 hG dX0_valueOf_103 hF (fun u_17 hF => ?_)
    refine x_swg C0 hG 5 (by decide) q337 dX0_valueOf_104 hF (fun x_18 hF => ?_)
    exact x_iret C0 hG ⟨by omega, by omega⟩ dX0_valueOf_107 hF
  have hF := ifn hF c_16
  by_cases c_19 : a1 = 6
  · have hF := ifp hF c_19
    refine lv_tableIn (off := 107) (tgt := 108) hx hb dX0_valueOf_1 (by rw [c_19]; decide) (by rw [c_19]; decide) (by rw [c_19]; rfl) (by decide) ?_
    refine lv_aload_n hx hb dX0_valueOf_108 rfl (lv_at hl 0 rfl) ?_
    refine x_geti C0 hG 2 (by decide) rfl q176 dX0_valueOf_109 hF (fun x_20 hF => ?_)
    exact x_iret C0 hG ⟨by omega, by omega⟩ dX0_valueOf_112 hF
  have hF := ifn hF c_19
  by_cases c_21 : a1 = 7
  · have hF := ifp hF c_21
    refine lv_tableIn (off := 112) (tgt := 113) hx hb dX0_valueOf_1 (by rw [c_21]; decide) (by rw [c_21]; decide) (by rw [c_21]; rfl) (by decide) ?_
    refine lv_aload_n hx hb dX0_valueOf_113 rfl (lv_at hl 0 rfl) ?_
    refine x_geti C0 hG 3 (by decide) rfl q177 dX0_valueOf_114 hF (fun x_22 hF => ?_)
    exact x_iret C0 hG ⟨by omega, by omega⟩ dX0_valueOf_117 hF
  have hF := ifn hF c_21
  refine lv_tableOut (tgt := 118) hx hb dX0_valueOf_1 (sw_out (fun q_ => by
      have zc_1 := lv_neT c_1 (show ((0 : Int32)).toInt = 0 from by decide)
      have zc_4 := lv_neT c_4 (show ((1 : Int32)).toInt = 1 from by decide)
      have zc_7 := lv_neT c_7 (show ((2 : Int32)).toInt = 2 from by decide)
      have zc_10 := lv_neT c_10 (show ((3 : Int32)).toInt = 3 from by decide)
      have zc_13 := lv_neT c_13 (show ((4 : Int32)).toInt = 4 from by decide)
      have zc_16 := lv_neT c_16 (show ((5 : Int32)).toInt = 5 from by decide)
      have zc_19 := lv_neT c_19 (show ((6 : Int32)).toInt = 6 from by decide)
      have zc_21 := lv_neT c_21 (show ((7 : Int32)).toInt = 7 from by decide)
      omega)) (by decide) ?_
  refine lv_aload_n hx hb dX0_valueOf_118 rfl (lv_at hl 0 rfl) ?_
  refine x_geti C0 hG 4 (by decide) rfl q178 dX0_valueOf_119 hF (fun x_23 hF => ?_)
  exact x_iret C0 hG ⟨by omega, by omega⟩ dX0_valueOf_122 hF
theorem mtX_valueOf (l : Launch) (hst : l.stackTraces = false) {N : Nat} {L : xL} {g : xg} {σ σ' : xS} {r : Int32} {a0 : Int32} {a1 : Int32} (hF : fX_valueOf N σ a0 a1 = some (σ', r)) : xMet l yX0_valueOf cX0_valueOf 3 (some .int) (0) (0) 0 0 [.ref L.1, .int a0, .int a1] L g σ (some (.int r)) σ' := by
  refine x_head hst (by decide) rfl ?_
  intro p e s m below meth c A C0 hG
  have hl := lv_entry ([.ref L.1, .int a0, .int a1]) (n := 3) (Nat.le_of_ble_eq_true rfl)
  rw [lg_entry_eq]
  generalize (lg_sl ([.ref L.1, .int a0, .int a1]) ++ List.replicate (3 - (lg_sl ([.ref L.1, .int a0, .int a1])).length) Slot.unset).toArray = ls at hl ⊢
  have hl : lv_has ls 3 [(0, .ref L.1), (1, .int a0), (2, .int a1)] := hl
  exact bX_valueOf_e C0 ⟨Nat.le_refl _, Nat.le_refl _⟩ _ _ _ _ [] ls hG hl hF
def fX_mayBe (N : Nat) (σ : xS) (a0 : Int32) (a1 : Int32) : Option (xS × Int32) :=
  if a0 = 2 then (
    obi (fX_in N σ a1 1 9) fun σ_2 r_3 =>
    chb r_3 (some (σ_2, r_3)))
  else (
  if a0 = 3 then (
    obi (fX_in N σ a1 1 60) fun σ_6 r_7 =>
    chb r_7 (some (σ_6, r_7)))
  else (
  if a0 = 4 then (
    obi (fX_in N σ a1 (-9) 9) fun σ_10 r_11 =>
    chb r_11 (some (σ_10, r_11)))
  else (
  if a0 = 5 then (
    obi (fX_in N σ a1 0 99) fun σ_14 r_15 =>
    chb r_15 (some (σ_14, r_15)))
  else (
  if a0 = 6 then (
    obi (fX_in N σ a1 0 7) fun σ_18 r_19 =>
    chb r_19 (some (σ_18, r_19)))
  else (
  if a0 = 7 then (
    obi (fX_in N σ a1 1 999) fun σ_22 r_23 =>
    chb r_23 (some (σ_22, r_23)))
  else (
  if a0 = 8 then (
    obi (fX_in N σ a1 1 9) fun σ_26 r_27 =>
    chb r_27 (some (σ_26, r_27)))
  else (
    obi (fX_isCell N σ a1) fun σ_29 r_30 =>
    chb r_30 (some (σ_29, r_30)))))))))
theorem bX_mayBe_e {N : Nat} (C0 : xCx p l s m args meth c RX0 cX0_mayBe 2 (some .boolean) L A) (hRo : 2 ≤ R.frames ∧ 42 ≤ R.locals) {σ' : xS} {r : Int32} (σ : xS) (a0 : Int32) (a1 : Int32) (H : Heap) (locs : List Loc) (ls : Array Slot) (hG : xG A L g s σ H locs) (hl : lv_has ls 2 [(0, .int a0), (1, .int a1)]) (hF : fX_mayBe N σ a0 a1 = some (σ', r)) : W p l e R s m args below meth c H locs 0 0 (xZ below L g A s args σ' (some (.int r)) 0 0) (F0 m 0 ls []) := by
  have hx := C0.1
  have hb := C0.2.1
  have hst := C0.2.2.2.2.2.2.2.2.2.2
  unfold fX_mayBe at hF
  refine lv_iload_n hx hb dX0_mayBe_0 rfl (lv_at hl 0 rfl) ?_
  by_cases c_1 : a0 = 2
  · have hF := ifp hF c_1
    refine lv_tableIn (off := 43) (tgt := 44) hx hb dX0_mayBe_1 (by rw [c_1]; decide) (by rw [c_1]; decide) (by rw [c_1]; rfl) (by decide) ?_
    refine lv_iload_n hx hb dX0_mayBe_44 rfl (lv_at hl 1 rfl) ?_
    refine lv_iconst (v := 1) hx hb dX0_mayBe_45 (by decide) ?_
    refine lv_bipush (v := 9) hx hb dX0_mayBe_46 (by decide) ?_
    obtain ⟨σ_2, r_3, e_4, hF⟩ := obi_of hF
    refine x_cSi0 (As := [.int a1, .int 1, .int 9]) (rest := []) C0 hG (mtX_in l hst e_4) (lw_S q316 q317 q100 q318) yd_X0_in ⟨by omega, by omega⟩ ⟨by omega, by omega⟩ rfl rfl hl.1 (Nat.le_of_ble_eq_true rfl) dX0_mayBe_48 (fun H locs hG => ?_)
    exact x_zret C0 hG ⟨by omega, by omega⟩ dX0_mayBe_51 hF
  have hF := ifn hF c_1
  by_cases c_5 : a0 = 3
  · have hF := ifp hF c_5
    refine lv_tableIn (off := 51) (tgt := 52) hx hb dX0_mayBe_1 (by rw [c_5]; decide) (by rw [c_5]; decide) (by rw [c_5]; rfl) (by decide) ?_
    refine lv_iload_n hx hb dX0_mayBe_52 rfl (lv_at hl 1 rfl) ?_
    refine lv_iconst (v := 1) hx hb dX0_mayBe_53 (by decide) ?_
    refine lv_bipush (v := 60) hx hb dX0_mayBe_54 (by decide) ?_
    obtain ⟨σ_6, r_7, e_8, hF⟩ := obi_of hF
    refine x_cSi0 (As := [.int a1, .int 1, .int 60]) (rest := []) C0 hG (mtX_in l hst e_8) (lw_S q316 q317 q100 q318) yd_X0_in ⟨by omega, by omega⟩ ⟨by omega, by omega⟩ rfl rfl hl.1 (Nat.le_of_ble_eq_true rfl) dX0_mayBe_56 (fun H locs hG => ?_)
    exact x_zret C0 hG ⟨by omega, by omega⟩ dX0_mayBe_59 hF
  have hF := ifn hF c_5
  by_cases c_9 : a0 = 4
  · have hF := ifp hF c_9
    refine lv_tableIn (off := 59) (tgt := 60) hx hb dX0_mayBe_1 (by rw [c_9]; decide) (by rw [c_9]; decide) (by rw [c_9]; rfl) (by decide) ?_
    refine lv_iload_n hx hb dX0_mayBe_60 rfl (lv_at hl 1 rfl) ?_
    refine lv_bipush (v := (-9)) hx hb dX0_mayBe_61 (by decide) ?_
    refine lv_bipush (v := 9) hx hb dX0_mayBe_63 (by decide) ?_
    obtain ⟨σ_10, r_11, e_12, hF⟩ := obi_of hF
    refine x_cSi0 (As := [.int a1, .int (-9), .int 9]) (rest := []) C0 hG (mtX_in l hst e_12) (lw_S q316 q317 q100 q318) yd_X0_in ⟨by omega, by omega⟩ ⟨by omega, by omega⟩ rfl rfl hl.1 (Nat.le_of_ble_eq_true rfl) dX0_mayBe_65 (fun H locs hG => ?_)
    exact x_zret C0 hG ⟨by omega, by omega⟩ dX0_mayBe_68 hF
  have hF := ifn hF c_9
  by_cases c_13 : a0 = 5
  · have hF := ifp hF c_13
    refine lv_tableIn (off := 68) (tgt := 69) hx hb dX0_mayBe_1 (by rw [c_13]; decide) (by rw [c_13]; decide) (by rw [c_13]; rfl) (by decide) ?_
    refine lv_iload_n hx hb dX0_mayBe_69 rfl (lv_at hl 1 rfl) ?_
    refine lv_iconst (v := 0) hx hb dX0_mayBe_70 (by decide) ?_
    refine lv_bipush (v := 99) hx hb dX0_mayBe_71 (by decide) ?_
    obtain ⟨σ_14, r_15, e_16, hF⟩ := obi_of hF
    refine x_cSi0 (As := [.int a1, .int 0, .int 99]) (rest := []) C0 hG (mtX_in l hst e_16) (lw_S q316 q317 q100 q318) yd_X0_in ⟨by omega, by omega⟩ ⟨by omega, by omega⟩ rfl rfl hl.1 (Nat.le_of_ble_eq_true rfl) dX0_mayBe_73 (fun H locs hG => ?_)
    exact x_zret C0 hG ⟨by omega, by omega⟩ dX0_mayBe_76 hF
  have hF := ifn hF c_13
  by_cases c_17 : a0 = 6
  · have hF := ifp hF c_17
    refine lv_tableIn (off := 76) (tgt := 77) hx hb dX0_mayBe_1 (by rw [c_17]; decide) (by rw [c_17]; decide) (by rw [c_17]; rfl) (by decide) ?_
    refine lv_iload_n hx hb dX0_mayBe_77 rfl (lv_at hl 1 rfl) ?_
    refine lv_iconst (v := 0) hx hb dX0_mayBe_78 (by decide) ?_
    refine lv_bipush (v := 7) hx hb dX0_mayBe_79 (by decide) ?_
    obtain ⟨σ_18, r_19, e_20, hF⟩ := obi_of hF
    refine x_cSi0 (As := [.int a1, .int 0, .int 7]) (rest := []) C0 hG (mtX_in l hst e_20) (lw_S q316 q317 q100 q318) yd_X0_in ⟨by omega, by omega⟩ ⟨by omega, by omega⟩ rfl rfl hl.1 (Nat.le_of_ble_eq_true rfl) dX0_mayBe_81 (fun H locs hG => ?_)
    exact x_zret C0 hG ⟨by omega, by omega⟩ dX0_mayBe_84 hF
  have hF := ifn hF c_17
  by_cases c_21 : a0 = 7
  · have hF := ifp hF c_21
    refine lv_tableIn (off := 84) (tgt := 85) hx hb dX0_mayBe_1 (by rw [c_21]; decide) (by rw [c_21]; decide) (by rw [c_21]; rfl) (by decide) ?_
    refine lv_iload_n hx hb dX0_mayBe_85 rfl (lv_at hl 1 rfl) ?_
    refine lv_iconst (v := 1) hx hb dX0_mayBe_86 (by decide) ?_
    refine lv_sipush (v := 999) hx hb dX0_mayBe_87 (by decide) ?_
    obtain ⟨σ_22, r_23, e_24, hF⟩ := obi_of hF
    refine x_cSi0 (As := [.int a1, .int 1, .int 999]) (rest := []) C0 hG (mtX_in l hst e_24) (lw_S q316 q317 q100 q318) yd_X0_in ⟨by omega, by omega⟩ ⟨by omega, by omega⟩ rfl rfl hl.1 (Nat.le_of_ble_eq_true rfl) dX0_mayBe_90 (fun H locs hG => ?_)
    exact x_zret C0 hG ⟨by omega, by omega⟩ dX0_mayBe_93 hF
  have hF := ifn hF c_21
  by_cases c_25 : a0 = 8
  · have hF := ifp hF c_25
    refine lv_tableIn (off := 93) (tgt := 94) hx hb dX0_mayBe_1 (by rw [c_25]; decide) (by rw [c_25]; decide) (by rw [c_25]; rfl) (by decide) ?_
    refine lv_iload_n hx hb dX0_mayBe_94 rfl (lv_at hl 1 rfl) ?_
    refine lv_iconst (v := 1) hx hb dX0_mayBe_95 (by decide) ?_
    refine lv_bipush (v := 9) hx hb dX0_mayBe_96 (by decide) ?_
    obtain ⟨σ_26, r_27, e_28, hF⟩ := obi_of hF
    refine x_cSi0 (As := [.int a1, .int 1, .int 9]) (rest := []) C0 hG (mtX_in l hst e_28) (lw_S q316 q317 q100 q318) yd_X0_in ⟨by omega, by omega⟩ ⟨by omega, by omega⟩ rfl rfl hl.1 (Nat.le_of_ble_eq_true rfl) dX0_mayBe_98 (fun H locs hG => ?_)
    exact x_zret C0 hG ⟨by omega, by omega⟩ dX0_mayBe_101 hF
  have hF := ifn hF c_25
  refine lv_tableOut (tgt := 102) hx hb dX0_mayBe_1 (sw_out (fun q_ => by
      have zc_1 := lv_neT c_1 (show ((2 : Int32)).toInt = 2 from by decide)
      have zc_5 := lv_neT c_5 (show ((3 : Int32)).toInt = 3 from by decide)
      have zc_9 := lv_neT c_9 (show ((4 : Int32)).toInt = 4 from by decide)
      have zc_13 := lv_neT c_13 (show ((5 : Int32)).toInt = 5 from by decide)
      have zc_17 := lv_neT c_17 (show ((6 : Int32)).toInt = 6 from by decide)
      have zc_21 := lv_neT c_21 (show ((7 : Int32)).toInt = 7 from by decide)
      have zc_25 := lv_neT c_25 (show ((8 : Int32)).toInt = 8 from by decide)
      omega)) (by decide) ?_
  refine lv_iload_n hx hb dX0_mayBe_102 rfl (lv_at hl 1 rfl) ?_
  obtain ⟨σ_29, r_30, e_31, hF⟩ := obi_of hF
  refine x_cSi0 (As := [.int a1]) (rest := []) C0 hG (mtX_isCell l hst e_31) (lw_S q313 q314 q100 q315) yd_X0_isCell ⟨by omega, by omega⟩ ⟨by omega, by omega⟩ rfl rfl hl.1 (Nat.le_of_ble_eq_true rfl) dX0_mayBe_103 (fun H locs hG => ?_)
  exact x_zret C0 hG ⟨by omega, by omega⟩ dX0_mayBe_106 hF
theorem mtX_mayBe (l : Launch) (hst : l.stackTraces = false) {N : Nat} {L : xL} {g : xg} {σ σ' : xS} {r : Int32} {a0 : Int32} {a1 : Int32} (hF : fX_mayBe N σ a0 a1 = some (σ', r)) : xMet l yX0_mayBe cX0_mayBe 2 (some .boolean) (2) (42) 0 0 [.int a0, .int a1] L g σ (some (.int r)) σ' := by
  refine x_head hst (by decide) rfl ?_
  intro p e s m below meth c A C0 hG
  have hl := lv_entry ([.int a0, .int a1]) (n := 2) (Nat.le_of_ble_eq_true rfl)
  rw [lg_entry_eq]
  generalize (lg_sl ([.int a0, .int a1]) ++ List.replicate (2 - (lg_sl ([.int a0, .int a1])).length) Slot.unset).toArray = ls at hl ⊢
  have hl : lv_has ls 2 [(0, .int a0), (1, .int a1)] := hl
  exact bX_mayBe_e C0 ⟨Nat.le_refl _, Nat.le_refl _⟩ _ _ _ _ [] ls hG hl hF
def fX_of (N : Nat) (σ : xS) (a0 : Int32) (a1 : Int32) : Option (xS × Int32) :=
  obi (fX_in N σ a1 9 10) fun σ_1 r_2 =>
  if r_2 = 0 then (
    obi (fX_isOf N σ_1 a0 a1) fun σ_5 r_6 =>
    if r_6 = 0 then (
      some (σ_5, (-2000000000)))
    else (
      obi (fX_valueOf N σ_5 a0 a1) fun σ_9 r_10 =>
      some (σ_9, r_10)))
  else (
    obi (fX_isOne N σ_1 a0) fun σ_12 r_13 =>
    if r_13 = 0 then (
      some (σ_12, (-2000000000)))
    else (
      if a1 = 9 then (
        chk a0 8 <| chl a0.toNatClampNeg (xn σ_12) <| nmv a0.toNatClampNeg fun u_19 =>
        chl u_19 (xn σ_12) <| nmv (xE σ_12 u_19 6) fun x_20 =>
        some (σ_12, x_20))
      else (
        chk a0 8 <| chl a0.toNatClampNeg (xn σ_12) <| nmv a0.toNatClampNeg fun u_17 =>
        chl u_17 (xn σ_12) <| nmv (xE σ_12 u_17 7) fun x_18 =>
        some (σ_12, x_18))))
theorem bX_of_e {N : Nat} (C0 : xCx p l s m args meth c RX0 cX0_of 3 (some .int) L A) (hRo : 3 ≤ R.frames ∧ 65 ≤ R.locals) {σ' : xS} {r : Int32} (σ : xS) (a0 : Int32) (a1 : Int32) (H : Heap) (locs : List Loc) (ls : Array Slot) (hG : xG A L g s σ H locs) (hl : lv_has ls 3 [(0, .ref L.1), (1, .int a0), (2, .int a1)]) (hF : fX_of N σ a0 a1 = some (σ', r)) : W p l e R s m args below meth c H locs 0 0 (xZ below L g A s args σ' (some (.int r)) 0 0) (F0 m 0 ls []) := by
  have hx := C0.1
  have hb := C0.2.1
  have hst := C0.2.2.2.2.2.2.2.2.2.2
  unfold fX_of at hF
  refine lv_iload_n hx hb dX0_of_0 rfl (lv_at hl 2 rfl) ?_
  refine lv_bipush (v := 9) hx hb dX0_of_1 (by decide) ?_
  refine lv_bipush (v := 10) hx hb dX0_of_3 (by decide) ?_
  obtain ⟨σ_1, r_2, e_3, hF⟩ := obi_of hF
  refine x_cSi0 (As := [.int a1, .int 9, .int 10]) (rest := []) C0 hG (mtX_in l hst e_3) (lw_S q316 q317 q100 q318) yd_X0_in ⟨by omega, by omega⟩ ⟨by omega, by omega⟩ rfl rfl hl.1 (Nat.le_of_ble_eq_true rfl) dX0_of_5 (fun H locs hG => ?_)
  refine lv_if_eq (tgt := 52) hx hb dX0_of_8 (by decide) (fun c_4 => ?_) (fun c_4 => ?_)
  · have hF := ifp hF c_4
    refine lv_aload_n hx hb dX0_of_52 rfl (lv_at hl 0 rfl) ?_
    refine lv_iload_n hx hb dX0_of_53 rfl (lv_at hl 1 rfl) ?_
    refine lv_iload_n hx hb dX0_of_54 rfl (lv_at hl 2 rfl) ?_
    obtain ⟨σ_5, r_6, e_7, hF⟩ := obi_of hF
    refine x_cVi0 (As := [.int a0, .int a1]) (rest := []) C0 hG (mtX_isOf l hst e_7) (lw_V q513 q515 qs4 q100 q516) yd_X0_isOf (x_rc0 C0 hG) ⟨by omega, by omega⟩ ⟨by omega, by omega⟩ rfl rfl hl.1 (Nat.le_of_ble_eq_true rfl) dX0_of_55 (fun H locs hG => ?_)
    refine lv_if_eq (tgt := 70) hx hb dX0_of_58 (by decide) (fun c_8 => ?_) (fun c_8 => ?_)
    · have hF := ifp hF c_8
      refine lv_ldc (v := (-2000000000)) hx hb C0.2.2.2.1 (C0.2.2.2.2.1 _ q554) dX0_of_70 ?_
      exact x_iret C0 hG ⟨by omega, by omega⟩ dX0_of_72 hF
    · have hF := ifn hF c_8
      refine lv_aload_n hx hb dX0_of_61 rfl (lv_at hl 0 rfl) ?_
      refine lv_iload_n hx hb dX0_of_62 rfl (lv_at hl 1 rfl) ?_
      refine lv_iload_n hx hb dX0_of_63 rfl (lv_at hl 2 rfl) ?_
      obtain ⟨σ_9, r_10, e_11, hF⟩ := obi_of hF
      refine x_cVi0 (As := [.int a0, .int a1]) (rest := []) C0 hG (mtX_valueOf l hst e_11) (lw_V q524 q526 qs6 q100 q527) yd_X0_valueOf (x_rc0 C0 hG) ⟨by omega, by omega⟩ ⟨by omega, by omega⟩ rfl rfl hl.1 (Nat.le_of_ble_eq_true rfl) dX0_of_64 (fun H locs hG => ?_)
      refine lv_goto (tgt := 72) hx hb dX0_of_67 (by decide) ?_
      exact x_iret C0 hG ⟨by omega, by omega⟩ dX0_of_72 hF
  · have hF := ifn hF c_4
    refine lv_aload_n hx hb dX0_of_11 rfl (lv_at hl 0 rfl) ?_
    refine lv_iload_n hx hb dX0_of_12 rfl (lv_at hl 1 rfl) ?_
    obtain ⟨σ_12, r_13, e_14, hF⟩ := obi_of hF
    refine x_cVi0 (As := [.int a0]) (rest := []) C0 hG (mtX_isOne l hst e_14) (lw_V q517 q519 qs5 q100 q520) yd_X0_isOne (x_rc0 C0 hG) ⟨by omega, by omega⟩ ⟨by omega, by omega⟩ rfl rfl hl.1 (Nat.le_of_ble_eq_true rfl) dX0_of_13 (fun H locs hG => ?_)
    refine lv_if_ne (tgt := 24) hx hb dX0_of_16 (by decide) (fun c_15 => ?_) (fun c_15 => ?_)
    · have hF := ifn hF c_15
      refine lv_iload_n hx hb dX0_of_24 rfl (lv_at hl 2 rfl) ?_
      refine lv_bipush (v := 9) hx hb dX0_of_25 (by decide) ?_
      refine lv_icmp_ne (tgt := 42) hx hb dX0_of_27 (by decide) (fun c_16 => ?_) (fun c_16 => ?_)
      · have hF := ifn hF c_16
        refine lv_aload_n hx hb dX0_of_42 rfl (lv_at hl 0 rfl) ?_
        refine x_geta C0 hG 0 (by decide) rfl (by decide) q174 dX0_of_43 ?_
        refine lv_iload_n hx hb dX0_of_46 rfl (lv_at hl 1 rfl) ?_
        refine x_swld C0 hG dX0_of_47 hF (fun u_17 hF => ?_)
        refine x_swg C0 hG 7 (by decide) q339 dX0_of_48 hF (fun x_18 hF => ?_)
        exact x_iret C0 hG ⟨by omega, by omega⟩ dX0_of_51 hF
      · have hF := ifp hF c_16
        refine lv_aload_n hx hb dX0_of_30 rfl (lv_at hl 0 rfl) ?_
        refine x_geta C0 hG 0 (by decide) rfl (by decide) q174 dX0_of_31 ?_
        refine lv_iload_n hx hb dX0_of_34 rfl (lv_at hl 1 rfl) ?_
        refine x_swld C0 hG dX0_of_35 hF (fun u_19 hF => ?_)
        refine x_swg C0 hG 6 (by decide) q338 dX0_of_36 hF (fun x_20 hF => ?_)
        refine lv_goto (tgt := 51) hx hb dX0_of_39 (by decide) ?_
        exact x_iret C0 hG ⟨by omega, by omega⟩ dX0_of_51 hF
    · have hF := ifp hF c_15
      refine lv_ldc (v := (-2000000000)) hx hb C0.2.2.2.1 (C0.2.2.2.2.1 _ q554) dX0_of_19 ?_
      refine lv_goto (tgt := 51) hx hb dX0_of_21 (by decide) ?_
      exact x_iret C0 hG ⟨by omega, by omega⟩ dX0_of_51 hF
theorem mtX_of (l : Launch) (hst : l.stackTraces = false) {N : Nat} {L : xL} {g : xg} {σ σ' : xS} {r : Int32} {a0 : Int32} {a1 : Int32} (hF : fX_of N σ a0 a1 = some (σ', r)) : xMet l yX0_of cX0_of 3 (some .int) (3) (65) 0 0 [.ref L.1, .int a0, .int a1] L g σ (some (.int r)) σ' := by
  refine x_head hst (by decide) rfl ?_
  intro p e s m below meth c A C0 hG
  have hl := lv_entry ([.ref L.1, .int a0, .int a1]) (n := 3) (Nat.le_of_ble_eq_true rfl)
  rw [lg_entry_eq]
  generalize (lg_sl ([.ref L.1, .int a0, .int a1]) ++ List.replicate (3 - (lg_sl ([.ref L.1, .int a0, .int a1])).length) Slot.unset).toArray = ls at hl ⊢
  have hl : lv_has ls 3 [(0, .ref L.1), (1, .int a0), (2, .int a1)] := hl
  exact bX_of_e C0 ⟨Nat.le_refl _, Nat.le_refl _⟩ _ _ _ _ [] ls hG hl hF
end XWALK0
