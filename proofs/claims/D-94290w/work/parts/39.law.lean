/-! the law itself (printed by tools) -/
set_option maxRecDepth 100000
theorem hd_X0_cell : yX0_cell.cls = RX0 ∧ yX0_cell.cls ≠ "java/lang/invoke/MethodHandle" ∧ yX0_cell.cls ≠ "java/lang/invoke/VarHandle" ∧ (parseMethodDescriptor yX0_cell.desc).map (fun d => d.parameters.length) = some 5 := by decide +kernel
theorem hd_X0_cost : yX0_cost.cls = RX0 ∧ yX0_cost.cls ≠ "java/lang/invoke/MethodHandle" ∧ yX0_cost.cls ≠ "java/lang/invoke/VarHandle" ∧ (parseMethodDescriptor yX0_cost.desc).map (fun d => d.parameters.length) = some 4 := by decide +kernel
theorem hd_X0_man : yX0_man.cls = RX0 ∧ yX0_man.cls ≠ "java/lang/invoke/MethodHandle" ∧ yX0_man.cls ≠ "java/lang/invoke/VarHandle" ∧ (parseMethodDescriptor yX0_man.desc).map (fun d => d.parameters.length) = some 4 := by decide +kernel
theorem hd_X14_aimAt : yX14_aimAt.cls = RX14 ∧ yX14_aimAt.cls ≠ "java/lang/invoke/MethodHandle" ∧ yX14_aimAt.cls ≠ "java/lang/invoke/VarHandle" ∧ (parseMethodDescriptor yX14_aimAt.desc).map (fun d => d.parameters.length) = some 1 := by decide +kernel
theorem hd_X14_aims : yX14_aims.cls = RX14 ∧ yX14_aims.cls ≠ "java/lang/invoke/MethodHandle" ∧ yX14_aims.cls ≠ "java/lang/invoke/VarHandle" ∧ (parseMethodDescriptor yX14_aims.desc).map (fun d => d.parameters.length) = some 2 := by decide +kernel
theorem hd_X14_best : yX14_best.cls = RX14 ∧ yX14_best.cls ≠ "java/lang/invoke/MethodHandle" ∧ yX14_best.cls ≠ "java/lang/invoke/VarHandle" ∧ (parseMethodDescriptor yX14_best.desc).map (fun d => d.parameters.length) = some 0 := by decide +kernel
theorem hd_X14_bestAt : yX14_bestAt.cls = RX14 ∧ yX14_bestAt.cls ≠ "java/lang/invoke/MethodHandle" ∧ yX14_bestAt.cls ≠ "java/lang/invoke/VarHandle" ∧ (parseMethodDescriptor yX14_bestAt.desc).map (fun d => d.parameters.length) = some 1 := by decide +kernel
theorem hd_X14_cell : yX14_cell.cls = RX14 ∧ yX14_cell.cls ≠ "java/lang/invoke/MethodHandle" ∧ yX14_cell.cls ≠ "java/lang/invoke/VarHandle" ∧ (parseMethodDescriptor yX14_cell.desc).map (fun d => d.parameters.length) = some 3 := by decide +kernel
theorem hd_X14_cost : yX14_cost.cls = RX14 ∧ yX14_cost.cls ≠ "java/lang/invoke/MethodHandle" ∧ yX14_cost.cls ≠ "java/lang/invoke/VarHandle" ∧ (parseMethodDescriptor yX14_cost.desc).map (fun d => d.parameters.length) = some 2 := by decide +kernel
theorem hd_X14_count : yX14_count.cls = RX14 ∧ yX14_count.cls ≠ "java/lang/invoke/MethodHandle" ∧ yX14_count.cls ≠ "java/lang/invoke/VarHandle" ∧ (parseMethodDescriptor yX14_count.desc).map (fun d => d.parameters.length) = some 1 := by decide +kernel
theorem hd_X14_done : yX14_done.cls = RX14 ∧ yX14_done.cls ≠ "java/lang/invoke/MethodHandle" ∧ yX14_done.cls ≠ "java/lang/invoke/VarHandle" ∧ (parseMethodDescriptor yX14_done.desc).map (fun d => d.parameters.length) = some 1 := by decide +kernel
theorem hd_X14_end : yX14_end.cls = RX14 ∧ yX14_end.cls ≠ "java/lang/invoke/MethodHandle" ∧ yX14_end.cls ≠ "java/lang/invoke/VarHandle" ∧ (parseMethodDescriptor yX14_end.desc).map (fun d => d.parameters.length) = some 1 := by decide +kernel
theorem hd_X14_enough : yX14_enough.cls = RX14 ∧ yX14_enough.cls ≠ "java/lang/invoke/MethodHandle" ∧ yX14_enough.cls ≠ "java/lang/invoke/VarHandle" ∧ (parseMethodDescriptor yX14_enough.desc).map (fun d => d.parameters.length) = some 2 := by decide +kernel
theorem hd_X14_fault : yX14_fault.cls = RX14 ∧ yX14_fault.cls ≠ "java/lang/invoke/MethodHandle" ∧ yX14_fault.cls ≠ "java/lang/invoke/VarHandle" ∧ (parseMethodDescriptor yX14_fault.desc).map (fun d => d.parameters.length) = some 0 := by decide +kernel
theorem hd_X14_feed : yX14_feed.cls = RX14 ∧ yX14_feed.cls ≠ "java/lang/invoke/MethodHandle" ∧ yX14_feed.cls ≠ "java/lang/invoke/VarHandle" ∧ (parseMethodDescriptor yX14_feed.desc).map (fun d => d.parameters.length) = some 5 := by decide +kernel
theorem hd_X14_fire : yX14_fire.cls = RX14 ∧ yX14_fire.cls ≠ "java/lang/invoke/MethodHandle" ∧ yX14_fire.cls ≠ "java/lang/invoke/VarHandle" ∧ (parseMethodDescriptor yX14_fire.desc).map (fun d => d.parameters.length) = some 4 := by decide +kernel
theorem hd_X14_fireAt : yX14_fireAt.cls = RX14 ∧ yX14_fireAt.cls ≠ "java/lang/invoke/MethodHandle" ∧ yX14_fireAt.cls ≠ "java/lang/invoke/VarHandle" ∧ (parseMethodDescriptor yX14_fireAt.desc).map (fun d => d.parameters.length) = some 3 := by decide +kernel
theorem hd_X14_give : yX14_give.cls = RX14 ∧ yX14_give.cls ≠ "java/lang/invoke/MethodHandle" ∧ yX14_give.cls ≠ "java/lang/invoke/VarHandle" ∧ (parseMethodDescriptor yX14_give.desc).map (fun d => d.parameters.length) = some 1 := by decide +kernel
theorem hd_X14_hookAt : yX14_hookAt.cls = RX14 ∧ yX14_hookAt.cls ≠ "java/lang/invoke/MethodHandle" ∧ yX14_hookAt.cls ≠ "java/lang/invoke/VarHandle" ∧ (parseMethodDescriptor yX14_hookAt.desc).map (fun d => d.parameters.length) = some 1 := by decide +kernel
theorem hd_X14_hooks : yX14_hooks.cls = RX14 ∧ yX14_hooks.cls ≠ "java/lang/invoke/MethodHandle" ∧ yX14_hooks.cls ≠ "java/lang/invoke/VarHandle" ∧ (parseMethodDescriptor yX14_hooks.desc).map (fun d => d.parameters.length) = some 1 := by decide +kernel
theorem hd_X14_image : yX14_image.cls = RX14 ∧ yX14_image.cls ≠ "java/lang/invoke/MethodHandle" ∧ yX14_image.cls ≠ "java/lang/invoke/VarHandle" ∧ (parseMethodDescriptor yX14_image.desc).map (fun d => d.parameters.length) = some 1 := by decide +kernel
theorem hd_X14_line : yX14_line.cls = RX14 ∧ yX14_line.cls ≠ "java/lang/invoke/MethodHandle" ∧ yX14_line.cls ≠ "java/lang/invoke/VarHandle" ∧ (parseMethodDescriptor yX14_line.desc).map (fun d => d.parameters.length) = some 1 := by decide +kernel
theorem hd_X14_man : yX14_man.cls = RX14 ∧ yX14_man.cls ≠ "java/lang/invoke/MethodHandle" ∧ yX14_man.cls ≠ "java/lang/invoke/VarHandle" ∧ (parseMethodDescriptor yX14_man.desc).map (fun d => d.parameters.length) = some 2 := by decide +kernel
theorem hd_X14_more : yX14_more.cls = RX14 ∧ yX14_more.cls ≠ "java/lang/invoke/MethodHandle" ∧ yX14_more.cls ≠ "java/lang/invoke/VarHandle" ∧ (parseMethodDescriptor yX14_more.desc).map (fun d => d.parameters.length) = some 1 := by decide +kernel
theorem hd_X14_moreAt : yX14_moreAt.cls = RX14 ∧ yX14_moreAt.cls ≠ "java/lang/invoke/MethodHandle" ∧ yX14_moreAt.cls ≠ "java/lang/invoke/VarHandle" ∧ (parseMethodDescriptor yX14_moreAt.desc).map (fun d => d.parameters.length) = some 1 := by decide +kernel
theorem hd_X14_night : yX14_night.cls = RX14 ∧ yX14_night.cls ≠ "java/lang/invoke/MethodHandle" ∧ yX14_night.cls ≠ "java/lang/invoke/VarHandle" ∧ (parseMethodDescriptor yX14_night.desc).map (fun d => d.parameters.length) = some 2 := by decide +kernel
theorem hd_X14_out : yX14_out.cls = RX14 ∧ yX14_out.cls ≠ "java/lang/invoke/MethodHandle" ∧ yX14_out.cls ≠ "java/lang/invoke/VarHandle" ∧ (parseMethodDescriptor yX14_out.desc).map (fun d => d.parameters.length) = some 0 := by decide +kernel
theorem hd_X14_period : yX14_period.cls = RX14 ∧ yX14_period.cls ≠ "java/lang/invoke/MethodHandle" ∧ yX14_period.cls ≠ "java/lang/invoke/VarHandle" ∧ (parseMethodDescriptor yX14_period.desc).map (fun d => d.parameters.length) = some 0 := by decide +kernel
theorem hd_X14_plan : yX14_plan.cls = RX14 ∧ yX14_plan.cls ≠ "java/lang/invoke/MethodHandle" ∧ yX14_plan.cls ≠ "java/lang/invoke/VarHandle" ∧ (parseMethodDescriptor yX14_plan.desc).map (fun d => d.parameters.length) = some 0 := by decide +kernel
theorem hd_X14_relief : yX14_relief.cls = RX14 ∧ yX14_relief.cls ≠ "java/lang/invoke/MethodHandle" ∧ yX14_relief.cls ≠ "java/lang/invoke/VarHandle" ∧ (parseMethodDescriptor yX14_relief.desc).map (fun d => d.parameters.length) = some 0 := by decide +kernel
theorem hd_X14_restore : yX14_restore.cls = RX14 ∧ yX14_restore.cls ≠ "java/lang/invoke/MethodHandle" ∧ yX14_restore.cls ≠ "java/lang/invoke/VarHandle" ∧ (parseMethodDescriptor yX14_restore.desc).map (fun d => d.parameters.length) = some 1 := by decide +kernel
theorem hd_X14_row : yX14_row.cls = RX14 ∧ yX14_row.cls ≠ "java/lang/invoke/MethodHandle" ∧ yX14_row.cls ≠ "java/lang/invoke/VarHandle" ∧ (parseMethodDescriptor yX14_row.desc).map (fun d => d.parameters.length) = some 1 := by decide +kernel
theorem hd_X14_rowBy : yX14_rowBy.cls = RX14 ∧ yX14_rowBy.cls ≠ "java/lang/invoke/MethodHandle" ∧ yX14_rowBy.cls ≠ "java/lang/invoke/VarHandle" ∧ (parseMethodDescriptor yX14_rowBy.desc).map (fun d => d.parameters.length) = some 1 := by decide +kernel
theorem hd_X14_running : yX14_running.cls = RX14 ∧ yX14_running.cls ≠ "java/lang/invoke/MethodHandle" ∧ yX14_running.cls ≠ "java/lang/invoke/VarHandle" ∧ (parseMethodDescriptor yX14_running.desc).map (fun d => d.parameters.length) = some 1 := by decide +kernel
theorem hd_X14_said : yX14_said.cls = RX14 ∧ yX14_said.cls ≠ "java/lang/invoke/MethodHandle" ∧ yX14_said.cls ≠ "java/lang/invoke/VarHandle" ∧ (parseMethodDescriptor yX14_said.desc).map (fun d => d.parameters.length) = some 1 := by decide +kernel
theorem hd_X14_sentence : yX14_sentence.cls = RX14 ∧ yX14_sentence.cls ≠ "java/lang/invoke/MethodHandle" ∧ yX14_sentence.cls ≠ "java/lang/invoke/VarHandle" ∧ (parseMethodDescriptor yX14_sentence.desc).map (fun d => d.parameters.length) = some 0 := by decide +kernel
theorem hd_X14_thrown : yX14_thrown.cls = RX14 ∧ yX14_thrown.cls ≠ "java/lang/invoke/MethodHandle" ∧ yX14_thrown.cls ≠ "java/lang/invoke/VarHandle" ∧ (parseMethodDescriptor yX14_thrown.desc).map (fun d => d.parameters.length) = some 0 := by decide +kernel
theorem hd_X14_yard : yX14_yard.cls = RX14 ∧ yX14_yard.cls ≠ "java/lang/invoke/MethodHandle" ∧ yX14_yard.cls ≠ "java/lang/invoke/VarHandle" ∧ (parseMethodDescriptor yX14_yard.desc).map (fun d => d.parameters.length) = some 0 := by decide +kernel
theorem hd_X1_aimAt : yX1_aimAt.cls = RX1 ∧ yX1_aimAt.cls ≠ "java/lang/invoke/MethodHandle" ∧ yX1_aimAt.cls ≠ "java/lang/invoke/VarHandle" ∧ (parseMethodDescriptor yX1_aimAt.desc).map (fun d => d.parameters.length) = some 1 := by decide +kernel
theorem hd_X1_aims : yX1_aims.cls = RX1 ∧ yX1_aims.cls ≠ "java/lang/invoke/MethodHandle" ∧ yX1_aims.cls ≠ "java/lang/invoke/VarHandle" ∧ (parseMethodDescriptor yX1_aims.desc).map (fun d => d.parameters.length) = some 2 := by decide +kernel
theorem hd_X1_best : yX1_best.cls = RX1 ∧ yX1_best.cls ≠ "java/lang/invoke/MethodHandle" ∧ yX1_best.cls ≠ "java/lang/invoke/VarHandle" ∧ (parseMethodDescriptor yX1_best.desc).map (fun d => d.parameters.length) = some 0 := by decide +kernel
theorem hd_X1_bestAt : yX1_bestAt.cls = RX1 ∧ yX1_bestAt.cls ≠ "java/lang/invoke/MethodHandle" ∧ yX1_bestAt.cls ≠ "java/lang/invoke/VarHandle" ∧ (parseMethodDescriptor yX1_bestAt.desc).map (fun d => d.parameters.length) = some 1 := by decide +kernel
theorem hd_X1_count : yX1_count.cls = RX1 ∧ yX1_count.cls ≠ "java/lang/invoke/MethodHandle" ∧ yX1_count.cls ≠ "java/lang/invoke/VarHandle" ∧ (parseMethodDescriptor yX1_count.desc).map (fun d => d.parameters.length) = some 1 := by decide +kernel
theorem hd_X1_done : yX1_done.cls = RX1 ∧ yX1_done.cls ≠ "java/lang/invoke/MethodHandle" ∧ yX1_done.cls ≠ "java/lang/invoke/VarHandle" ∧ (parseMethodDescriptor yX1_done.desc).map (fun d => d.parameters.length) = some 1 := by decide +kernel
theorem hd_X1_end : yX1_end.cls = RX1 ∧ yX1_end.cls ≠ "java/lang/invoke/MethodHandle" ∧ yX1_end.cls ≠ "java/lang/invoke/VarHandle" ∧ (parseMethodDescriptor yX1_end.desc).map (fun d => d.parameters.length) = some 1 := by decide +kernel
theorem hd_X1_enough : yX1_enough.cls = RX1 ∧ yX1_enough.cls ≠ "java/lang/invoke/MethodHandle" ∧ yX1_enough.cls ≠ "java/lang/invoke/VarHandle" ∧ (parseMethodDescriptor yX1_enough.desc).map (fun d => d.parameters.length) = some 2 := by decide +kernel
theorem hd_X1_fault : yX1_fault.cls = RX1 ∧ yX1_fault.cls ≠ "java/lang/invoke/MethodHandle" ∧ yX1_fault.cls ≠ "java/lang/invoke/VarHandle" ∧ (parseMethodDescriptor yX1_fault.desc).map (fun d => d.parameters.length) = some 0 := by decide +kernel
theorem hd_X1_feed : yX1_feed.cls = RX1 ∧ yX1_feed.cls ≠ "java/lang/invoke/MethodHandle" ∧ yX1_feed.cls ≠ "java/lang/invoke/VarHandle" ∧ (parseMethodDescriptor yX1_feed.desc).map (fun d => d.parameters.length) = some 5 := by decide +kernel
theorem hd_X1_fire : yX1_fire.cls = RX1 ∧ yX1_fire.cls ≠ "java/lang/invoke/MethodHandle" ∧ yX1_fire.cls ≠ "java/lang/invoke/VarHandle" ∧ (parseMethodDescriptor yX1_fire.desc).map (fun d => d.parameters.length) = some 4 := by decide +kernel
theorem hd_X1_fireAt : yX1_fireAt.cls = RX1 ∧ yX1_fireAt.cls ≠ "java/lang/invoke/MethodHandle" ∧ yX1_fireAt.cls ≠ "java/lang/invoke/VarHandle" ∧ (parseMethodDescriptor yX1_fireAt.desc).map (fun d => d.parameters.length) = some 3 := by decide +kernel
theorem hd_X1_give : yX1_give.cls = RX1 ∧ yX1_give.cls ≠ "java/lang/invoke/MethodHandle" ∧ yX1_give.cls ≠ "java/lang/invoke/VarHandle" ∧ (parseMethodDescriptor yX1_give.desc).map (fun d => d.parameters.length) = some 1 := by decide +kernel
theorem hd_X1_hookAt : yX1_hookAt.cls = RX1 ∧ yX1_hookAt.cls ≠ "java/lang/invoke/MethodHandle" ∧ yX1_hookAt.cls ≠ "java/lang/invoke/VarHandle" ∧ (parseMethodDescriptor yX1_hookAt.desc).map (fun d => d.parameters.length) = some 1 := by decide +kernel
theorem hd_X1_hooks : yX1_hooks.cls = RX1 ∧ yX1_hooks.cls ≠ "java/lang/invoke/MethodHandle" ∧ yX1_hooks.cls ≠ "java/lang/invoke/VarHandle" ∧ (parseMethodDescriptor yX1_hooks.desc).map (fun d => d.parameters.length) = some 1 := by decide +kernel
theorem hd_X1_image : yX1_image.cls = RX1 ∧ yX1_image.cls ≠ "java/lang/invoke/MethodHandle" ∧ yX1_image.cls ≠ "java/lang/invoke/VarHandle" ∧ (parseMethodDescriptor yX1_image.desc).map (fun d => d.parameters.length) = some 1 := by decide +kernel
theorem hd_X1_line : yX1_line.cls = RX1 ∧ yX1_line.cls ≠ "java/lang/invoke/MethodHandle" ∧ yX1_line.cls ≠ "java/lang/invoke/VarHandle" ∧ (parseMethodDescriptor yX1_line.desc).map (fun d => d.parameters.length) = some 1 := by decide +kernel
theorem hd_X1_more : yX1_more.cls = RX1 ∧ yX1_more.cls ≠ "java/lang/invoke/MethodHandle" ∧ yX1_more.cls ≠ "java/lang/invoke/VarHandle" ∧ (parseMethodDescriptor yX1_more.desc).map (fun d => d.parameters.length) = some 1 := by decide +kernel
theorem hd_X1_moreAt : yX1_moreAt.cls = RX1 ∧ yX1_moreAt.cls ≠ "java/lang/invoke/MethodHandle" ∧ yX1_moreAt.cls ≠ "java/lang/invoke/VarHandle" ∧ (parseMethodDescriptor yX1_moreAt.desc).map (fun d => d.parameters.length) = some 1 := by decide +kernel
theorem hd_X1_night : yX1_night.cls = RX1 ∧ yX1_night.cls ≠ "java/lang/invoke/MethodHandle" ∧ yX1_night.cls ≠ "java/lang/invoke/VarHandle" ∧ (parseMethodDescriptor yX1_night.desc).map (fun d => d.parameters.length) = some 2 := by decide +kernel
theorem hd_X1_out : yX1_out.cls = RX1 ∧ yX1_out.cls ≠ "java/lang/invoke/MethodHandle" ∧ yX1_out.cls ≠ "java/lang/invoke/VarHandle" ∧ (parseMethodDescriptor yX1_out.desc).map (fun d => d.parameters.length) = some 0 := by decide +kernel
theorem hd_X1_period : yX1_period.cls = RX1 ∧ yX1_period.cls ≠ "java/lang/invoke/MethodHandle" ∧ yX1_period.cls ≠ "java/lang/invoke/VarHandle" ∧ (parseMethodDescriptor yX1_period.desc).map (fun d => d.parameters.length) = some 0 := by decide +kernel
theorem hd_X1_plan : yX1_plan.cls = RX1 ∧ yX1_plan.cls ≠ "java/lang/invoke/MethodHandle" ∧ yX1_plan.cls ≠ "java/lang/invoke/VarHandle" ∧ (parseMethodDescriptor yX1_plan.desc).map (fun d => d.parameters.length) = some 0 := by decide +kernel
theorem hd_X1_relief : yX1_relief.cls = RX1 ∧ yX1_relief.cls ≠ "java/lang/invoke/MethodHandle" ∧ yX1_relief.cls ≠ "java/lang/invoke/VarHandle" ∧ (parseMethodDescriptor yX1_relief.desc).map (fun d => d.parameters.length) = some 0 := by decide +kernel
theorem hd_X1_restore : yX1_restore.cls = RX1 ∧ yX1_restore.cls ≠ "java/lang/invoke/MethodHandle" ∧ yX1_restore.cls ≠ "java/lang/invoke/VarHandle" ∧ (parseMethodDescriptor yX1_restore.desc).map (fun d => d.parameters.length) = some 1 := by decide +kernel
theorem hd_X1_row : yX1_row.cls = RX1 ∧ yX1_row.cls ≠ "java/lang/invoke/MethodHandle" ∧ yX1_row.cls ≠ "java/lang/invoke/VarHandle" ∧ (parseMethodDescriptor yX1_row.desc).map (fun d => d.parameters.length) = some 1 := by decide +kernel
theorem hd_X1_rowBy : yX1_rowBy.cls = RX1 ∧ yX1_rowBy.cls ≠ "java/lang/invoke/MethodHandle" ∧ yX1_rowBy.cls ≠ "java/lang/invoke/VarHandle" ∧ (parseMethodDescriptor yX1_rowBy.desc).map (fun d => d.parameters.length) = some 1 := by decide +kernel
theorem hd_X1_running : yX1_running.cls = RX1 ∧ yX1_running.cls ≠ "java/lang/invoke/MethodHandle" ∧ yX1_running.cls ≠ "java/lang/invoke/VarHandle" ∧ (parseMethodDescriptor yX1_running.desc).map (fun d => d.parameters.length) = some 1 := by decide +kernel
theorem hd_X1_said : yX1_said.cls = RX1 ∧ yX1_said.cls ≠ "java/lang/invoke/MethodHandle" ∧ yX1_said.cls ≠ "java/lang/invoke/VarHandle" ∧ (parseMethodDescriptor yX1_said.desc).map (fun d => d.parameters.length) = some 1 := by decide +kernel
theorem hd_X1_sentence : yX1_sentence.cls = RX1 ∧ yX1_sentence.cls ≠ "java/lang/invoke/MethodHandle" ∧ yX1_sentence.cls ≠ "java/lang/invoke/VarHandle" ∧ (parseMethodDescriptor yX1_sentence.desc).map (fun d => d.parameters.length) = some 0 := by decide +kernel
theorem hd_X1_yard : yX1_yard.cls = RX1 ∧ yX1_yard.cls ≠ "java/lang/invoke/MethodHandle" ∧ yX1_yard.cls ≠ "java/lang/invoke/VarHandle" ∧ (parseMethodDescriptor yX1_yard.desc).map (fun d => d.parameters.length) = some 0 := by decide +kernel
theorem lb_63 : (Int8.ofInt (63)).toInt32 = 63 := by decide
theorem tb_out_0_33 (x : Int32) (c0 : ¬ x = 0) (c1 : ¬ x = 1) (c2 : ¬ x = 2) (c3 : ¬ x = 3) (c4 : ¬ x = 4) (c5 : ¬ x = 5) (c6 : ¬ x = 6) (c7 : ¬ x = 7) (c8 : ¬ x = 8) (c9 : ¬ x = 9) (c10 : ¬ x = 10) (c11 : ¬ x = 11) (c12 : ¬ x = 12) (c13 : ¬ x = 13) (c14 : ¬ x = 14) (c15 : ¬ x = 15) (c16 : ¬ x = 16) (c17 : ¬ x = 17) (c18 : ¬ x = 18) (c19 : ¬ x = 19) (c20 : ¬ x = 20) (c21 : ¬ x = 21) (c22 : ¬ x = 22) (c23 : ¬ x = 23) (c24 : ¬ x = 24) (c25 : ¬ x = 25) (c26 : ¬ x = 26) (c27 : ¬ x = 27) (c28 : ¬ x = 28) (c29 : ¬ x = 29) (c30 : ¬ x = 30) (c31 : ¬ x = 31) (c32 : ¬ x = 32) (c33 : ¬ x = 33) : x.toInt < 0 ∨ 33 < x.toInt := by
  have h0 : x.toInt ≠ 0 := fun h => c0 (Int32.toInt_inj.mp (by rw [h]; rfl))
  have h1 : x.toInt ≠ 1 := fun h => c1 (Int32.toInt_inj.mp (by rw [h]; rfl))
  have h2 : x.toInt ≠ 2 := fun h => c2 (Int32.toInt_inj.mp (by rw [h]; rfl))
  have h3 : x.toInt ≠ 3 := fun h => c3 (Int32.toInt_inj.mp (by rw [h]; rfl))
  have h4 : x.toInt ≠ 4 := fun h => c4 (Int32.toInt_inj.mp (by rw [h]; rfl))
  have h5 : x.toInt ≠ 5 := fun h => c5 (Int32.toInt_inj.mp (by rw [h]; rfl))
  have h6 : x.toInt ≠ 6 := fun h => c6 (Int32.toInt_inj.mp (by rw [h]; rfl))
  have h7 : x.toInt ≠ 7 := fun h => c7 (Int32.toInt_inj.mp (by rw [h]; rfl))
  have h8 : x.toInt ≠ 8 := fun h => c8 (Int32.toInt_inj.mp (by rw [h]; rfl))
  have h9 : x.toInt ≠ 9 := fun h => c9 (Int32.toInt_inj.mp (by rw [h]; rfl))
  have h10 : x.toInt ≠ 10 := fun h => c10 (Int32.toInt_inj.mp (by rw [h]; rfl))
  have h11 : x.toInt ≠ 11 := fun h => c11 (Int32.toInt_inj.mp (by rw [h]; rfl))
  have h12 : x.toInt ≠ 12 := fun h => c12 (Int32.toInt_inj.mp (by rw [h]; rfl))
  have h13 : x.toInt ≠ 13 := fun h => c13 (Int32.toInt_inj.mp (by rw [h]; rfl))
  have h14 : x.toInt ≠ 14 := fun h => c14 (Int32.toInt_inj.mp (by rw [h]; rfl))
  have h15 : x.toInt ≠ 15 := fun h => c15 (Int32.toInt_inj.mp (by rw [h]; rfl))
  have h16 : x.toInt ≠ 16 := fun h => c16 (Int32.toInt_inj.mp (by rw [h]; rfl))
  have h17 : x.toInt ≠ 17 := fun h => c17 (Int32.toInt_inj.mp (by rw [h]; rfl))
  have h18 : x.toInt ≠ 18 := fun h => c18 (Int32.toInt_inj.mp (by rw [h]; rfl))
  have h19 : x.toInt ≠ 19 := fun h => c19 (Int32.toInt_inj.mp (by rw [h]; rfl))
  have h20 : x.toInt ≠ 20 := fun h => c20 (Int32.toInt_inj.mp (by rw [h]; rfl))
  have h21 : x.toInt ≠ 21 := fun h => c21 (Int32.toInt_inj.mp (by rw [h]; rfl))
  have h22 : x.toInt ≠ 22 := fun h => c22 (Int32.toInt_inj.mp (by rw [h]; rfl))
  have h23 : x.toInt ≠ 23 := fun h => c23 (Int32.toInt_inj.mp (by rw [h]; rfl))
  have h24 : x.toInt ≠ 24 := fun h => c24 (Int32.toInt_inj.mp (by rw [h]; rfl))
  have h25 : x.toInt ≠ 25 := fun h => c25 (Int32.toInt_inj.mp (by rw [h]; rfl))
  have h26 : x.toInt ≠ 26 := fun h => c26 (Int32.toInt_inj.mp (by rw [h]; rfl))
  have h27 : x.toInt ≠ 27 := fun h => c27 (Int32.toInt_inj.mp (by rw [h]; rfl))
  have h28 : x.toInt ≠ 28 := fun h => c28 (Int32.toInt_inj.mp (by rw [h]; rfl))
  have h29 : x.toInt ≠ 29 := fun h => c29 (Int32.toInt_inj.mp (by rw [h]; rfl))
  have h30 : x.toInt ≠ 30 := fun h => c30 (Int32.toInt_inj.mp (by rw [h]; rfl))
  have h31 : x.toInt ≠ 31 := fun h => c31 (Int32.toInt_inj.mp (by rw [h]; rfl))
  have h32 : x.toInt ≠ 32 := fun h => c32 (Int32.toInt_inj.mp (by rw [h]; rfl))
  have h33 : x.toInt ≠ 33 := fun h => c33 (Int32.toInt_inj.mp (by rw [h]; rfl))
  omega

def LQ1 (adS : Nat → Nat) (n : Nat) : List (Nat × (Nat → Option Nat)) := [(124, va_up (va_up (va_up (va_up (va_up (z2) (0 : Int32).toNatClampNeg (some (adS 24))) (1 : Int32).toNatClampNeg (some (adS 25))) (2 : Int32).toNatClampNeg (some (adS 26))) (3 : Int32).toNatClampNeg (some (adS 27))) (4 : Int32).toNatClampNeg (some (adS 28))), (124, va_up (va_up (va_up (va_up (z2) (0 : Int32).toNatClampNeg (some (adS 24))) (1 : Int32).toNatClampNeg (some (adS 25))) (2 : Int32).toNatClampNeg (some (adS 26))) (3 : Int32).toNatClampNeg (some (adS 27))), (124, va_up (va_up (va_up (z2) (0 : Int32).toNatClampNeg (some (adS 24))) (1 : Int32).toNatClampNeg (some (adS 25))) (2 : Int32).toNatClampNeg (some (adS 26))), (124, va_up (va_up (z2) (0 : Int32).toNatClampNeg (some (adS 24))) (1 : Int32).toNatClampNeg (some (adS 25))), (124, va_up (z2) (0 : Int32).toNatClampNeg (some (adS 24))), (91, va_up (va_up (va_up (va_up (z2) (0 : Int32).toNatClampNeg (some (n + 92))) (1 : Int32).toNatClampNeg (some (n + 97))) (2 : Int32).toNatClampNeg (some (n + 102))) (3 : Int32).toNatClampNeg (some (n + 107))), (91, va_up (va_up (va_up (z2) (0 : Int32).toNatClampNeg (some (n + 92))) (1 : Int32).toNatClampNeg (some (n + 97))) (2 : Int32).toNatClampNeg (some (n + 102))), (91, va_up (va_up (z2) (0 : Int32).toNatClampNeg (some (n + 92))) (1 : Int32).toNatClampNeg (some (n + 97))), (91, va_up (z2) (0 : Int32).toNatClampNeg (some (n + 92))), (46, gridq (n + 47)), (24, gridq (n + 25)), (6, va_up (va_up (va_up (va_up (va_up (va_up (va_up (va_up (va_up (va_up (z2) (0 : Int32).toNatClampNeg (some (adS 19))) (1 : Int32).toNatClampNeg (some (adS 20))) (2 : Int32).toNatClampNeg (some (adS 21))) (3 : Int32).toNatClampNeg (some (adS 22))) (4 : Int32).toNatClampNeg (some (adS 23))) (5 : Int32).toNatClampNeg (some (adS 24))) (6 : Int32).toNatClampNeg (some (adS 25))) (7 : Int32).toNatClampNeg (some (adS 26))) (8 : Int32).toNatClampNeg (some (adS 27))) (9 : Int32).toNatClampNeg (some (adS 28))), (6, va_up (va_up (va_up (va_up (va_up (va_up (va_up (va_up (va_up (z2) (0 : Int32).toNatClampNeg (some (adS 19))) (1 : Int32).toNatClampNeg (some (adS 20))) (2 : Int32).toNatClampNeg (some (adS 21))) (3 : Int32).toNatClampNeg (some (adS 22))) (4 : Int32).toNatClampNeg (some (adS 23))) (5 : Int32).toNatClampNeg (some (adS 24))) (6 : Int32).toNatClampNeg (some (adS 25))) (7 : Int32).toNatClampNeg (some (adS 26))) (8 : Int32).toNatClampNeg (some (adS 27))), (6, va_up (va_up (va_up (va_up (va_up (va_up (va_up (va_up (z2) (0 : Int32).toNatClampNeg (some (adS 19))) (1 : Int32).toNatClampNeg (some (adS 20))) (2 : Int32).toNatClampNeg (some (adS 21))) (3 : Int32).toNatClampNeg (some (adS 22))) (4 : Int32).toNatClampNeg (some (adS 23))) (5 : Int32).toNatClampNeg (some (adS 24))) (6 : Int32).toNatClampNeg (some (adS 25))) (7 : Int32).toNatClampNeg (some (adS 26))), (6, va_up (va_up (va_up (va_up (va_up (va_up (va_up (z2) (0 : Int32).toNatClampNeg (some (adS 19))) (1 : Int32).toNatClampNeg (some (adS 20))) (2 : Int32).toNatClampNeg (some (adS 21))) (3 : Int32).toNatClampNeg (some (adS 22))) (4 : Int32).toNatClampNeg (some (adS 23))) (5 : Int32).toNatClampNeg (some (adS 24))) (6 : Int32).toNatClampNeg (some (adS 25))), (6, va_up (va_up (va_up (va_up (va_up (va_up (z2) (0 : Int32).toNatClampNeg (some (adS 19))) (1 : Int32).toNatClampNeg (some (adS 20))) (2 : Int32).toNatClampNeg (some (adS 21))) (3 : Int32).toNatClampNeg (some (adS 22))) (4 : Int32).toNatClampNeg (some (adS 23))) (5 : Int32).toNatClampNeg (some (adS 24))), (6, va_up (va_up (va_up (va_up (va_up (z2) (0 : Int32).toNatClampNeg (some (adS 19))) (1 : Int32).toNatClampNeg (some (adS 20))) (2 : Int32).toNatClampNeg (some (adS 21))) (3 : Int32).toNatClampNeg (some (adS 22))) (4 : Int32).toNatClampNeg (some (adS 23))), (6, va_up (va_up (va_up (va_up (z2) (0 : Int32).toNatClampNeg (some (adS 19))) (1 : Int32).toNatClampNeg (some (adS 20))) (2 : Int32).toNatClampNeg (some (adS 21))) (3 : Int32).toNatClampNeg (some (adS 22))), (6, va_up (va_up (va_up (z2) (0 : Int32).toNatClampNeg (some (adS 19))) (1 : Int32).toNatClampNeg (some (adS 20))) (2 : Int32).toNatClampNeg (some (adS 21))), (6, va_up (va_up (z2) (0 : Int32).toNatClampNeg (some (adS 19))) (1 : Int32).toNatClampNeg (some (adS 20))), (6, va_up (z2) (0 : Int32).toNatClampNeg (some (adS 19))), (5, va_up (va_up (va_up (va_up (va_up (z2) (0 : Int32).toNatClampNeg (some (adS 14))) (1 : Int32).toNatClampNeg (some (adS 15))) (2 : Int32).toNatClampNeg (some (adS 16))) (3 : Int32).toNatClampNeg (some (adS 17))) (4 : Int32).toNatClampNeg (some (adS 18))), (5, va_up (va_up (va_up (va_up (z2) (0 : Int32).toNatClampNeg (some (adS 14))) (1 : Int32).toNatClampNeg (some (adS 15))) (2 : Int32).toNatClampNeg (some (adS 16))) (3 : Int32).toNatClampNeg (some (adS 17))), (5, va_up (va_up (va_up (z2) (0 : Int32).toNatClampNeg (some (adS 14))) (1 : Int32).toNatClampNeg (some (adS 15))) (2 : Int32).toNatClampNeg (some (adS 16))), (5, va_up (va_up (z2) (0 : Int32).toNatClampNeg (some (adS 14))) (1 : Int32).toNatClampNeg (some (adS 15))), (5, va_up (z2) (0 : Int32).toNatClampNeg (some (adS 14))), (4, va_up (va_up (va_up (va_up (z2) (0 : Int32).toNatClampNeg (some (adS 10))) (1 : Int32).toNatClampNeg (some (adS 11))) (2 : Int32).toNatClampNeg (some (adS 12))) (3 : Int32).toNatClampNeg (some (adS 13))), (4, va_up (va_up (va_up (z2) (0 : Int32).toNatClampNeg (some (adS 10))) (1 : Int32).toNatClampNeg (some (adS 11))) (2 : Int32).toNatClampNeg (some (adS 12))), (4, va_up (va_up (z2) (0 : Int32).toNatClampNeg (some (adS 10))) (1 : Int32).toNatClampNeg (some (adS 11))), (4, va_up (z2) (0 : Int32).toNatClampNeg (some (adS 10))), (3, va_up (va_up (va_up (va_up (va_up (va_up (va_up (va_up (va_up (va_up (z2) (0 : Int32).toNatClampNeg (some (adS 0))) (1 : Int32).toNatClampNeg (some (adS 1))) (2 : Int32).toNatClampNeg (some (adS 2))) (3 : Int32).toNatClampNeg (some (adS 3))) (4 : Int32).toNatClampNeg (some (adS 4))) (5 : Int32).toNatClampNeg (some (adS 5))) (6 : Int32).toNatClampNeg (some (adS 6))) (7 : Int32).toNatClampNeg (some (adS 7))) (8 : Int32).toNatClampNeg (some (adS 8))) (9 : Int32).toNatClampNeg (some (adS 9))), (3, va_up (va_up (va_up (va_up (va_up (va_up (va_up (va_up (va_up (z2) (0 : Int32).toNatClampNeg (some (adS 0))) (1 : Int32).toNatClampNeg (some (adS 1))) (2 : Int32).toNatClampNeg (some (adS 2))) (3 : Int32).toNatClampNeg (some (adS 3))) (4 : Int32).toNatClampNeg (some (adS 4))) (5 : Int32).toNatClampNeg (some (adS 5))) (6 : Int32).toNatClampNeg (some (adS 6))) (7 : Int32).toNatClampNeg (some (adS 7))) (8 : Int32).toNatClampNeg (some (adS 8))), (3, va_up (va_up (va_up (va_up (va_up (va_up (va_up (va_up (z2) (0 : Int32).toNatClampNeg (some (adS 0))) (1 : Int32).toNatClampNeg (some (adS 1))) (2 : Int32).toNatClampNeg (some (adS 2))) (3 : Int32).toNatClampNeg (some (adS 3))) (4 : Int32).toNatClampNeg (some (adS 4))) (5 : Int32).toNatClampNeg (some (adS 5))) (6 : Int32).toNatClampNeg (some (adS 6))) (7 : Int32).toNatClampNeg (some (adS 7))), (3, va_up (va_up (va_up (va_up (va_up (va_up (va_up (z2) (0 : Int32).toNatClampNeg (some (adS 0))) (1 : Int32).toNatClampNeg (some (adS 1))) (2 : Int32).toNatClampNeg (some (adS 2))) (3 : Int32).toNatClampNeg (some (adS 3))) (4 : Int32).toNatClampNeg (some (adS 4))) (5 : Int32).toNatClampNeg (some (adS 5))) (6 : Int32).toNatClampNeg (some (adS 6))), (3, va_up (va_up (va_up (va_up (va_up (va_up (z2) (0 : Int32).toNatClampNeg (some (adS 0))) (1 : Int32).toNatClampNeg (some (adS 1))) (2 : Int32).toNatClampNeg (some (adS 2))) (3 : Int32).toNatClampNeg (some (adS 3))) (4 : Int32).toNatClampNeg (some (adS 4))) (5 : Int32).toNatClampNeg (some (adS 5))), (3, va_up (va_up (va_up (va_up (va_up (z2) (0 : Int32).toNatClampNeg (some (adS 0))) (1 : Int32).toNatClampNeg (some (adS 1))) (2 : Int32).toNatClampNeg (some (adS 2))) (3 : Int32).toNatClampNeg (some (adS 3))) (4 : Int32).toNatClampNeg (some (adS 4))), (3, va_up (va_up (va_up (va_up (z2) (0 : Int32).toNatClampNeg (some (adS 0))) (1 : Int32).toNatClampNeg (some (adS 1))) (2 : Int32).toNatClampNeg (some (adS 2))) (3 : Int32).toNatClampNeg (some (adS 3))), (3, va_up (va_up (va_up (z2) (0 : Int32).toNatClampNeg (some (adS 0))) (1 : Int32).toNatClampNeg (some (adS 1))) (2 : Int32).toNatClampNeg (some (adS 2))), (3, va_up (va_up (z2) (0 : Int32).toNatClampNeg (some (adS 0))) (1 : Int32).toNatClampNeg (some (adS 1))), (3, va_up (z2) (0 : Int32).toNatClampNeg (some (adS 0)))]
theorem LQ1_is (G : gG) (n : Nat) : LQ_i1 G n = LQ1 (aK G) n := rfl
noncomputable def w_law_e32_0 (x32_0 : Int32 × gK × gI × gJ × gX × gI × gJ × gX × Nat) : Option (Int32 × gK × gI × gJ × gX × gI × gJ × gX × Nat) :=
  some x32_0

noncomputable def w_law_j1231 (w32_4 : Int32) (j1231_K : gK) (j1231_I : gI) (j1231_J : gJ) (j1231_X : gX) (j1231_A : gI) (j1231_B : gJ) (j1231_Q : gX) (j1231_n : Nat) (j1231_u : Nat) (j1231_v : Nat) : Option ((Int32 × gK × gI × gJ × gX × gI × gJ × gX × Nat × Nat × Nat) ⊕ (Int32 × gK × gI × gJ × gX × gI × gJ × gX × Nat)) :=
  lt (w32_4 + (6 : Int32)) fun v39 =>
  some (.inl (v39, j1231_K, j1231_I, j1231_J, j1231_X, j1231_A, j1231_B, j1231_Q, j1231_n, j1231_u, j1231_v))

noncomputable def w_law_j1206 (n : Nat) (L : Nat) (xs : Nat → Int32) (n10 : Nat) (w32_4 : Int32) (j1206_K : gK) (j1206_I : gI) (j1206_J : gJ) (j1206_X : gX) (j1206_A : gI) (j1206_B : gJ) (j1206_Q : gX) (j1206_n : Nat) (j1206_u : Nat) (j1206_v : Nat) : Option ((Int32 × gK × gI × gJ × gX × gI × gJ × gX × Nat × Nat × Nat) ⊕ (Int32 × gK × gI × gJ × gX × gI × gJ × gX × Nat)) :=
  lt (w32_4 + (1 : Int32)) fun v40 =>
  gdp (vp_in v40 L) <|
  lt (xs v40.toNatClampNeg) fun v42 =>
  gdp (j1206_u ≤ 1200128 ∧ j1206_v ≤ 5501098) <|
  (j1206_X 200 (n + 7)).bind fun a45 =>
  (j1206_X 201 (n + 7)).bind fun a46 =>
  gdp (Sh j1206_K j1206_X n 0 rows0) <|
  gdp (Sh j1206_K j1206_X a45 3 rows3) <|
  gdp (j1206_K a46 = some (.inl 4)) <|
  gdp (j1206_K (n + 7) = some (.inl 2)) <|
  gdp (j1206_X 9 n = some (n + 7)) <|
  (f1_count v42 (j1206_I 1 n) (j1206_I 303 a45) (j1206_I 304 a45) (j1206_I 305 a45) (j1206_I 306 a45) (j1206_I 307 a45) (j1206_I 401 a46)).bind fun r43 =>
  lt (w32_4 + (1 : Int32)) fun v52 =>
  gdp (vp_in v52 L) <|
  lt (xs v52.toNatClampNeg) fun v54 =>
  gdp (Sh j1206_K j1206_X n10 11 rows11) <|
  (f14_count v54 (j1206_I 1100 n10) (j1206_I 1102 n10) (j1206_I 1122 n10) (j1206_A (n10 + 2))).bind fun r55 =>
  lt ((ov j1206_I [(1100, n10, r55.2.1), (1122, n10, r55.2.2.1)])) fun Im57 =>
  lt ((ova j1206_A [((n10 + 2), r55.2.2.2)])) fun Am58 =>
  if r43 = r55.1 then
    w_law_j1231 w32_4 j1206_K Im57 j1206_J j1206_X Am58 j1206_B j1206_Q j1206_n j1206_u j1206_v
  else
    gdp (j1206_u ≤ 1200128 ∧ j1206_v ≤ 5501098) <|
    some (.inr ((0 : Int32), j1206_K, Im57, j1206_J, j1206_X, Am58, j1206_B, j1206_Q, j1206_n))

noncomputable def w_law_j1181 (zz : Nat) (adS : Nat → Nat) (n : Nat) (L : Nat) (xs : Nat → Int32) (n10 : Nat) (w32_4 : Int32) (j1181_K : gK) (j1181_I : gI) (j1181_J : gJ) (j1181_X : gX) (j1181_A : gI) (j1181_B : gJ) (j1181_Q : gX) (j1181_n : Nat) (j1181_u : Nat) (j1181_v : Nat) : Option ((Int32 × gK × gI × gJ × gX × gI × gJ × gX × Nat × Nat × Nat) ⊕ (Int32 × gK × gI × gJ × gX × gI × gJ × gX × Nat)) :=
  lt (w32_4 + (1 : Int32)) fun v61 =>
  gdp (vp_in v61 L) <|
  lt (xs v61.toNatClampNeg) fun v63 =>
  gdp (j1181_K n = some (.inl 0)) <|
  gdp (j1181_u ≤ 1200128 ∧ j1181_v ≤ 5501098) <|
  (w1_restore zz adS n v63 j1181_K j1181_I j1181_J j1181_X j1181_A j1181_B j1181_Q j1181_n).bind fun r65 =>
  lt (w32_4 + (1 : Int32)) fun v67 =>
  gdp (vp_in v67 L) <|
  lt (xs v67.toNatClampNeg) fun v69 =>
  gdp (Sh r65.2.1 r65.2.2.2.2.1 n10 11 rows11) <|
  (f14_restore v69 (r65.2.2.1 1100 n10) (r65.2.2.1 1122 n10) (r65.2.2.2.2.2.1 (n10 + 2)) (r65.2.2.2.2.2.1 (n10 + 5)) (r65.2.2.2.2.2.1 (n10 + 9)) (r65.2.2.2.2.2.2.1 (n10 + 6)) (r65.2.2.2.2.2.2.1 (n10 + 8))).bind fun r70 =>
  lt ((ov r65.2.2.1 [(1100, n10, r70.2.1), (1122, n10, r70.2.2.1)])) fun Im72 =>
  lt ((ova r65.2.2.2.2.2.1 [((n10 + 2), r70.2.2.2.1), ((n10 + 5), (r65.2.2.2.2.2.1 (n10 + 5))), ((n10 + 9), (r65.2.2.2.2.2.1 (n10 + 9)))])) fun Am73 =>
  lt ((ova r65.2.2.2.2.2.2.1 [((n10 + 6), r70.2.2.2.2), ((n10 + 8), (r65.2.2.2.2.2.2.1 (n10 + 8)))])) fun Bm74 =>
  if r65.1 = r70.1 then
    w_law_j1231 w32_4 r65.2.1 Im72 r65.2.2.2.1 r65.2.2.2.2.1 Am73 Bm74 r65.2.2.2.2.2.2.2.1 r65.2.2.2.2.2.2.2.2 j1181_u j1181_v
  else
    gdp (j1181_u ≤ 1200128 ∧ j1181_v ≤ 5501098) <|
    some (.inr ((0 : Int32), r65.2.1, Im72, r65.2.2.2.1, r65.2.2.2.2.1, Am73, Bm74, r65.2.2.2.2.2.2.2.1, r65.2.2.2.2.2.2.2.2))

noncomputable def w_law_j1156 (zz : Nat) (adS : Nat → Nat) (n : Nat) (L : Nat) (xs : Nat → Int32) (n10 : Nat) (w32_4 : Int32) (j1156_K : gK) (j1156_I : gI) (j1156_J : gJ) (j1156_X : gX) (j1156_A : gI) (j1156_B : gJ) (j1156_Q : gX) (j1156_n : Nat) (j1156_u : Nat) (j1156_v : Nat) : Option ((Int32 × gK × gI × gJ × gX × gI × gJ × gX × Nat × Nat × Nat) ⊕ (Int32 × gK × gI × gJ × gX × gI × gJ × gX × Nat)) :=
  lt (w32_4 + (1 : Int32)) fun v77 =>
  gdp (vp_in v77 L) <|
  lt (xs v77.toNatClampNeg) fun v79 =>
  gdp (j1156_K n = some (.inl 0)) <|
  gdp (j1156_u + 7 ≤ 1200128 ∧ j1156_v + 180 ≤ 5501098) <|
  (w1_image zz adS n v79 j1156_K j1156_I j1156_J j1156_X j1156_A j1156_B j1156_Q j1156_n).bind fun r81 =>
  lt (w32_4 + (1 : Int32)) fun v83 =>
  gdp (vp_in v83 L) <|
  lt (xs v83.toNatClampNeg) fun v85 =>
  gdp ((j1156_u + 7) ≤ 1200128 ∧ (j1156_v + 180) ≤ 5501098) <|
  gdp (Sh r81.2.1 r81.2.2.2.2.1 n10 11 rows11) <|
  (f14_image v85 (r81.2.2.1 1100 n10) (r81.2.2.1 1122 n10) (r81.2.2.2.2.2.1 (n10 + 2)) (r81.2.2.2.2.2.1 (n10 + 5)) (r81.2.2.2.2.2.1 (n10 + 9)) (r81.2.2.2.2.2.2.1 (n10 + 6)) (r81.2.2.2.2.2.2.1 (n10 + 8))).bind fun r86 =>
  lt ((ov r81.2.2.1 [(1100, n10, r86.2.1), (1122, n10, r86.2.2.1)])) fun Im89 =>
  lt ((ova r81.2.2.2.2.2.1 [((n10 + 2), r86.2.2.2.1), ((n10 + 5), r86.2.2.2.2.1), ((n10 + 9), r86.2.2.2.2.2.1)])) fun Am90 =>
  lt ((ova r81.2.2.2.2.2.2.1 [((n10 + 6), (r81.2.2.2.2.2.2.1 (n10 + 6))), ((n10 + 8), r86.2.2.2.2.2.2)])) fun Bm91 =>
  if r81.1 = r86.1 then
    w_law_j1231 w32_4 r81.2.1 Im89 r81.2.2.2.1 r81.2.2.2.2.1 Am90 Bm91 r81.2.2.2.2.2.2.2.1 r81.2.2.2.2.2.2.2.2 (j1156_u + 7) (j1156_v + 180)
  else
    gdp ((j1156_u + 7) ≤ 1200128 ∧ (j1156_v + 180) ≤ 5501098) <|
    some (.inr ((0 : Int32), r81.2.1, Im89, r81.2.2.2.1, r81.2.2.2.2.1, Am90, Bm91, r81.2.2.2.2.2.2.2.1, r81.2.2.2.2.2.2.2.2))

noncomputable def w_law_j1131 (zz : Nat) (adS : Nat → Nat) (n : Nat) (L : Nat) (xs : Nat → Int32) (n10 : Nat) (w32_4 : Int32) (j1131_K : gK) (j1131_I : gI) (j1131_J : gJ) (j1131_X : gX) (j1131_A : gI) (j1131_B : gJ) (j1131_Q : gX) (j1131_n : Nat) (j1131_u : Nat) (j1131_v : Nat) : Option ((Int32 × gK × gI × gJ × gX × gI × gJ × gX × Nat × Nat × Nat) ⊕ (Int32 × gK × gI × gJ × gX × gI × gJ × gX × Nat)) :=
  lt (w32_4 + (1 : Int32)) fun v94 =>
  gdp (vp_in v94 L) <|
  lt (xs v94.toNatClampNeg) fun v96 =>
  gdp (j1131_K n = some (.inl 0)) <|
  gdp (j1131_u ≤ 1200128 ∧ j1131_v ≤ 5501098) <|
  (w1_said zz adS n v96 j1131_K j1131_I j1131_J j1131_X j1131_A j1131_B j1131_Q j1131_n).bind fun r98 =>
  lt (w32_4 + (1 : Int32)) fun v100 =>
  gdp (vp_in v100 L) <|
  lt (xs v100.toNatClampNeg) fun v102 =>
  gdp (Sh r98.2.1 r98.2.2.2.2.1 n10 11 rows11) <|
  (f14_said v102 (r98.2.2.1 1100 n10) (r98.2.2.1 1122 n10) (r98.2.2.1 1133 n10) (r98.2.2.1 1134 n10) (r98.2.2.1 1135 n10) (r98.2.2.1 1136 n10) (r98.2.2.1 1137 n10) (r98.2.2.1 1138 n10) (r98.2.2.1 1139 n10) (r98.2.2.1 1140 n10) (r98.2.2.1 1141 n10) (r98.2.2.1 1142 n10) (r98.2.2.1 1170 n10) (r98.2.2.2.2.2.1 (n10 + 2)) (r98.2.2.2.2.2.1 (n10 + 10)) (r98.2.2.2.2.2.1 (n10 + 11)) (r98.2.2.2.2.2.1 (n10 + 12)) (r98.2.2.2.2.2.1 (n10 + 13)) (r98.2.2.2.2.2.1 (n10 + 14)) (r98.2.2.2.2.2.1 (n10 + 15)) (r98.2.2.2.2.2.1 (n10 + 16)) (r98.2.2.2.2.2.1 (n10 + 17)) (r98.2.2.2.2.2.1 (n10 + 18)) (r98.2.2.2.2.2.1 (n10 + 32)) (r98.2.2.2.2.2.1 (n10 + 33)) (r98.2.2.2.2.2.1 (n10 + 34)) (r98.2.2.2.2.2.1 (n10 + 35)) (r98.2.2.2.2.2.1 (n10 + 43))).bind fun r103 =>
  lt ((ov r98.2.2.1 [(1100, n10, r103.2.1), (1122, n10, r103.2.2.1), (1133, n10, r103.2.2.2.1), (1134, n10, r103.2.2.2.2.1), (1135, n10, r103.2.2.2.2.2.1), (1136, n10, r103.2.2.2.2.2.2.1), (1137, n10, r103.2.2.2.2.2.2.2.1), (1138, n10, r103.2.2.2.2.2.2.2.2.1), (1139, n10, r103.2.2.2.2.2.2.2.2.2.1), (1140, n10, r103.2.2.2.2.2.2.2.2.2.2.1), (1141, n10, r103.2.2.2.2.2.2.2.2.2.2.2.1), (1142, n10, r103.2.2.2.2.2.2.2.2.2.2.2.2.1), (1170, n10, r103.2.2.2.2.2.2.2.2.2.2.2.2.2.1)])) fun Im105 =>
  lt ((ova r98.2.2.2.2.2.1 [((n10 + 2), r103.2.2.2.2.2.2.2.2.2.2.2.2.2.2.1), ((n10 + 10), r103.2.2.2.2.2.2.2.2.2.2.2.2.2.2.2.1), ((n10 + 11), r103.2.2.2.2.2.2.2.2.2.2.2.2.2.2.2.2.1), ((n10 + 12), r103.2.2.2.2.2.2.2.2.2.2.2.2.2.2.2.2.2.1), ((n10 + 13), r103.2.2.2.2.2.2.2.2.2.2.2.2.2.2.2.2.2.2.1), ((n10 + 14), r103.2.2.2.2.2.2.2.2.2.2.2.2.2.2.2.2.2.2.2.1), ((n10 + 15), r103.2.2.2.2.2.2.2.2.2.2.2.2.2.2.2.2.2.2.2.2.1), ((n10 + 16), r103.2.2.2.2.2.2.2.2.2.2.2.2.2.2.2.2.2.2.2.2.2.1), ((n10 + 17), r103.2.2.2.2.2.2.2.2.2.2.2.2.2.2.2.2.2.2.2.2.2.2.1), ((n10 + 18), r103.2.2.2.2.2.2.2.2.2.2.2.2.2.2.2.2.2.2.2.2.2.2.2.1), ((n10 + 32), r103.2.2.2.2.2.2.2.2.2.2.2.2.2.2.2.2.2.2.2.2.2.2.2.2.1), ((n10 + 33), r103.2.2.2.2.2.2.2.2.2.2.2.2.2.2.2.2.2.2.2.2.2.2.2.2.2.1), ((n10 + 34), r103.2.2.2.2.2.2.2.2.2.2.2.2.2.2.2.2.2.2.2.2.2.2.2.2.2.2.1), ((n10 + 35), r103.2.2.2.2.2.2.2.2.2.2.2.2.2.2.2.2.2.2.2.2.2.2.2.2.2.2.2.1), ((n10 + 43), r103.2.2.2.2.2.2.2.2.2.2.2.2.2.2.2.2.2.2.2.2.2.2.2.2.2.2.2.2)])) fun Am106 =>
  if r98.1 = r103.1 then
    w_law_j1231 w32_4 r98.2.1 Im105 r98.2.2.2.1 r98.2.2.2.2.1 Am106 r98.2.2.2.2.2.2.1 r98.2.2.2.2.2.2.2.1 r98.2.2.2.2.2.2.2.2 j1131_u j1131_v
  else
    gdp (j1131_u ≤ 1200128 ∧ j1131_v ≤ 5501098) <|
    some (.inr ((0 : Int32), r98.2.1, Im105, r98.2.2.2.1, r98.2.2.2.2.1, Am106, r98.2.2.2.2.2.2.1, r98.2.2.2.2.2.2.2.1, r98.2.2.2.2.2.2.2.2))

noncomputable def w_law_j1118 (zz : Nat) (adS : Nat → Nat) (n : Nat) (n10 : Nat) (w32_4 : Int32) (j1118_K : gK) (j1118_I : gI) (j1118_J : gJ) (j1118_X : gX) (j1118_A : gI) (j1118_B : gJ) (j1118_Q : gX) (j1118_n : Nat) (j1118_u : Nat) (j1118_v : Nat) : Option ((Int32 × gK × gI × gJ × gX × gI × gJ × gX × Nat × Nat × Nat) ⊕ (Int32 × gK × gI × gJ × gX × gI × gJ × gX × Nat)) :=
  gdp (j1118_K n = some (.inl 0)) <|
  gdp (j1118_u + 39 ≤ 1200128 ∧ j1118_v + 117 ≤ 5501098) <|
  (w1_sentence zz adS n j1118_K j1118_I j1118_J j1118_X j1118_A j1118_B j1118_Q j1118_n).bind fun r110 =>
  gdp ((j1118_u + 39) ≤ 1200128 ∧ (j1118_v + 117) ≤ 5501098) <|
  gdp (Sh r110.2.1 r110.2.2.2.2.1 n10 11 rows11) <|
  (f14_sentence (r110.2.2.1 1100 n10) (r110.2.2.1 1102 n10) (r110.2.2.1 1103 n10) (r110.2.2.1 1104 n10) (r110.2.2.1 1105 n10) (r110.2.2.1 1106 n10) (r110.2.2.1 1107 n10) (r110.2.2.1 1108 n10) (r110.2.2.1 1109 n10) (r110.2.2.1 1110 n10) (r110.2.2.1 1111 n10) (r110.2.2.1 1113 n10) (r110.2.2.1 1122 n10) (r110.2.2.1 1187 n10) (r110.2.2.1 1188 n10) (r110.2.2.1 1189 n10) (r110.2.2.1 1190 n10) (r110.2.2.2.1 1112 n10) (r110.2.2.2.2.2.1 (n10 + 1)) (r110.2.2.2.2.2.1 (n10 + 2)) (r110.2.2.2.2.2.1 (n10 + 44))).bind fun r112 =>
  lt ((ov r110.2.2.1 [(1100, n10, r112.2.1), (1102, n10, r112.2.2.1), (1103, n10, r112.2.2.2.1), (1104, n10, r112.2.2.2.2.1), (1105, n10, r112.2.2.2.2.2.1), (1106, n10, r112.2.2.2.2.2.2.1), (1107, n10, r112.2.2.2.2.2.2.2.1), (1108, n10, r112.2.2.2.2.2.2.2.2.1), (1109, n10, r112.2.2.2.2.2.2.2.2.2.1), (1110, n10, r112.2.2.2.2.2.2.2.2.2.2.1), (1111, n10, r112.2.2.2.2.2.2.2.2.2.2.2.1), (1113, n10, r112.2.2.2.2.2.2.2.2.2.2.2.2.1), (1122, n10, r112.2.2.2.2.2.2.2.2.2.2.2.2.2.1), (1187, n10, r112.2.2.2.2.2.2.2.2.2.2.2.2.2.2.1), (1188, n10, r112.2.2.2.2.2.2.2.2.2.2.2.2.2.2.2.1), (1189, n10, r112.2.2.2.2.2.2.2.2.2.2.2.2.2.2.2.2.1), (1190, n10, r112.2.2.2.2.2.2.2.2.2.2.2.2.2.2.2.2.2.1)])) fun Im115 =>
  lt ((ov r110.2.2.2.1 [(1112, n10, r112.2.2.2.2.2.2.2.2.2.2.2.2.2.2.2.2.2.2.1)])) fun Jm116 =>
  lt ((ova r110.2.2.2.2.2.1 [((n10 + 1), (r110.2.2.2.2.2.1 (n10 + 1))), ((n10 + 2), r112.2.2.2.2.2.2.2.2.2.2.2.2.2.2.2.2.2.2.2.1), ((n10 + 44), r112.2.2.2.2.2.2.2.2.2.2.2.2.2.2.2.2.2.2.2.2)])) fun Am117 =>
  if r110.1 = r112.1 then
    w_law_j1231 w32_4 r110.2.1 Im115 Jm116 r110.2.2.2.2.1 Am117 r110.2.2.2.2.2.2.1 r110.2.2.2.2.2.2.2.1 r110.2.2.2.2.2.2.2.2 (j1118_u + 39) (j1118_v + 117)
  else
    gdp ((j1118_u + 39) ≤ 1200128 ∧ (j1118_v + 117) ≤ 5501098) <|
    some (.inr ((0 : Int32), r110.2.1, Im115, Jm116, r110.2.2.2.2.1, Am117, r110.2.2.2.2.2.2.1, r110.2.2.2.2.2.2.2.1, r110.2.2.2.2.2.2.2.2))

noncomputable def w_law_j1081 (zz : Nat) (adS : Nat → Nat) (n : Nat) (L : Nat) (xs : Nat → Int32) (n10 : Nat) (w32_4 : Int32) (j1081_K : gK) (j1081_I : gI) (j1081_J : gJ) (j1081_X : gX) (j1081_A : gI) (j1081_B : gJ) (j1081_Q : gX) (j1081_n : Nat) (j1081_u : Nat) (j1081_v : Nat) : Option ((Int32 × gK × gI × gJ × gX × gI × gJ × gX × Nat × Nat × Nat) ⊕ (Int32 × gK × gI × gJ × gX × gI × gJ × gX × Nat)) :=
  lt (w32_4 + (1 : Int32)) fun v120 =>
  gdp (vp_in v120 L) <|
  lt (xs v120.toNatClampNeg) fun v122 =>
  lt (w32_4 + (2 : Int32)) fun v123 =>
  gdp (vp_in v123 L) <|
  lt (xs v123.toNatClampNeg) fun v125 =>
  gdp (j1081_K n = some (.inl 0)) <|
  gdp (j1081_u ≤ 1200128 ∧ j1081_v ≤ 5501098) <|
  (w1_night zz adS n v122 v125 j1081_K j1081_I j1081_J j1081_X j1081_A j1081_B j1081_Q j1081_n).bind fun r127 =>
  lt (w32_4 + (1 : Int32)) fun v129 =>
  gdp (vp_in v129 L) <|
  lt (xs v129.toNatClampNeg) fun v131 =>
  lt (w32_4 + (2 : Int32)) fun v132 =>
  gdp (vp_in v132 L) <|
  lt (xs v132.toNatClampNeg) fun v134 =>
  gdp (Sh r127.2.1 r127.2.2.2.2.1 n10 11 rows11) <|
  (f14_night v131 v134 (r127.2.2.1 1100 n10) (r127.2.2.1 1122 n10) (r127.2.2.1 1133 n10) (r127.2.2.1 1134 n10) (r127.2.2.1 1135 n10) (r127.2.2.1 1136 n10) (r127.2.2.1 1137 n10) (r127.2.2.1 1138 n10) (r127.2.2.1 1139 n10) (r127.2.2.1 1140 n10) (r127.2.2.1 1141 n10) (r127.2.2.1 1142 n10) (r127.2.2.1 1170 n10) (r127.2.2.2.2.2.1 (n10 + 2)) (r127.2.2.2.2.2.1 (n10 + 10)) (r127.2.2.2.2.2.1 (n10 + 11)) (r127.2.2.2.2.2.1 (n10 + 12)) (r127.2.2.2.2.2.1 (n10 + 13)) (r127.2.2.2.2.2.1 (n10 + 14)) (r127.2.2.2.2.2.1 (n10 + 15)) (r127.2.2.2.2.2.1 (n10 + 16)) (r127.2.2.2.2.2.1 (n10 + 17)) (r127.2.2.2.2.2.1 (n10 + 18)) (r127.2.2.2.2.2.1 (n10 + 32)) (r127.2.2.2.2.2.1 (n10 + 33)) (r127.2.2.2.2.2.1 (n10 + 34)) (r127.2.2.2.2.2.1 (n10 + 35)) (r127.2.2.2.2.2.1 (n10 + 43))).bind fun r135 =>
  lt ((ov r127.2.2.1 [(1100, n10, r135.2.1), (1122, n10, r135.2.2.1), (1133, n10, r135.2.2.2.1), (1134, n10, r135.2.2.2.2.1), (1135, n10, r135.2.2.2.2.2.1), (1136, n10, r135.2.2.2.2.2.2.1), (1137, n10, r135.2.2.2.2.2.2.2.1), (1138, n10, r135.2.2.2.2.2.2.2.2.1), (1139, n10, r135.2.2.2.2.2.2.2.2.2.1), (1140, n10, r135.2.2.2.2.2.2.2.2.2.2.1), (1141, n10, r135.2.2.2.2.2.2.2.2.2.2.2.1), (1142, n10, r135.2.2.2.2.2.2.2.2.2.2.2.2.1), (1170, n10, r135.2.2.2.2.2.2.2.2.2.2.2.2.2.1)])) fun Im137 =>
  lt ((ova r127.2.2.2.2.2.1 [((n10 + 2), r135.2.2.2.2.2.2.2.2.2.2.2.2.2.2.1), ((n10 + 10), r135.2.2.2.2.2.2.2.2.2.2.2.2.2.2.2.1), ((n10 + 11), r135.2.2.2.2.2.2.2.2.2.2.2.2.2.2.2.2.1), ((n10 + 12), r135.2.2.2.2.2.2.2.2.2.2.2.2.2.2.2.2.2.1), ((n10 + 13), r135.2.2.2.2.2.2.2.2.2.2.2.2.2.2.2.2.2.2.1), ((n10 + 14), r135.2.2.2.2.2.2.2.2.2.2.2.2.2.2.2.2.2.2.2.1), ((n10 + 15), r135.2.2.2.2.2.2.2.2.2.2.2.2.2.2.2.2.2.2.2.2.1), ((n10 + 16), r135.2.2.2.2.2.2.2.2.2.2.2.2.2.2.2.2.2.2.2.2.2.1), ((n10 + 17), r135.2.2.2.2.2.2.2.2.2.2.2.2.2.2.2.2.2.2.2.2.2.2.1), ((n10 + 18), r135.2.2.2.2.2.2.2.2.2.2.2.2.2.2.2.2.2.2.2.2.2.2.2.1), ((n10 + 32), r135.2.2.2.2.2.2.2.2.2.2.2.2.2.2.2.2.2.2.2.2.2.2.2.2.1), ((n10 + 33), r135.2.2.2.2.2.2.2.2.2.2.2.2.2.2.2.2.2.2.2.2.2.2.2.2.2.1), ((n10 + 34), r135.2.2.2.2.2.2.2.2.2.2.2.2.2.2.2.2.2.2.2.2.2.2.2.2.2.2.1), ((n10 + 35), r135.2.2.2.2.2.2.2.2.2.2.2.2.2.2.2.2.2.2.2.2.2.2.2.2.2.2.2.1), ((n10 + 43), r135.2.2.2.2.2.2.2.2.2.2.2.2.2.2.2.2.2.2.2.2.2.2.2.2.2.2.2.2)])) fun Am138 =>
  if r127.1 = r135.1 then
    w_law_j1231 w32_4 r127.2.1 Im137 r127.2.2.2.1 r127.2.2.2.2.1 Am138 r127.2.2.2.2.2.2.1 r127.2.2.2.2.2.2.2.1 r127.2.2.2.2.2.2.2.2 j1081_u j1081_v
  else
    gdp (j1081_u ≤ 1200128 ∧ j1081_v ≤ 5501098) <|
    some (.inr ((0 : Int32), r127.2.1, Im137, r127.2.2.2.1, r127.2.2.2.2.1, Am138, r127.2.2.2.2.2.2.1, r127.2.2.2.2.2.2.2.1, r127.2.2.2.2.2.2.2.2))

noncomputable def w_law_j1068 (zz : Nat) (adS : Nat → Nat) (n : Nat) (n10 : Nat) (w32_4 : Int32) (j1068_K : gK) (j1068_I : gI) (j1068_J : gJ) (j1068_X : gX) (j1068_A : gI) (j1068_B : gJ) (j1068_Q : gX) (j1068_n : Nat) (j1068_u : Nat) (j1068_v : Nat) : Option ((Int32 × gK × gI × gJ × gX × gI × gJ × gX × Nat × Nat × Nat) ⊕ (Int32 × gK × gI × gJ × gX × gI × gJ × gX × Nat)) :=
  gdp (j1068_K n = some (.inl 0)) <|
  gdp (j1068_u + 42 ≤ 1200128 ∧ j1068_v + 362 ≤ 5501098) <|
  (w1_plan zz adS n j1068_K j1068_I j1068_J j1068_X j1068_A j1068_B j1068_Q j1068_n).bind fun r142 =>
  gdp ((j1068_u + 42) ≤ 1200128 ∧ (j1068_v + 362) ≤ 5501098) <|
  gdp (Sh r142.2.1 r142.2.2.2.2.1 n10 11 rows11) <|
  (f14_plan (r142.2.2.1 1100 n10) (r142.2.2.1 1102 n10) (r142.2.2.1 1103 n10) (r142.2.2.1 1104 n10) (r142.2.2.1 1105 n10) (r142.2.2.1 1106 n10) (r142.2.2.1 1107 n10) (r142.2.2.1 1108 n10) (r142.2.2.1 1109 n10) (r142.2.2.1 1110 n10) (r142.2.2.1 1111 n10) (r142.2.2.1 1113 n10) (r142.2.2.1 1122 n10) (r142.2.2.1 1184 n10) (r142.2.2.2.1 1112 n10) (r142.2.2.2.2.2.1 (n10 + 1)) (r142.2.2.2.2.2.1 (n10 + 2)) (r142.2.2.2.2.2.1 (n10 + 4)) (r142.2.2.2.2.2.2.1 (n10 + 6))).bind fun r144 =>
  lt ((ov r142.2.2.1 [(1100, n10, r144.2.1), (1102, n10, r144.2.2.1), (1103, n10, r144.2.2.2.1), (1104, n10, r144.2.2.2.2.1), (1105, n10, r144.2.2.2.2.2.1), (1106, n10, r144.2.2.2.2.2.2.1), (1107, n10, r144.2.2.2.2.2.2.2.1), (1108, n10, r144.2.2.2.2.2.2.2.2.1), (1109, n10, r144.2.2.2.2.2.2.2.2.2.1), (1110, n10, r144.2.2.2.2.2.2.2.2.2.2.1), (1111, n10, r144.2.2.2.2.2.2.2.2.2.2.2.1), (1113, n10, r144.2.2.2.2.2.2.2.2.2.2.2.2.1), (1122, n10, r144.2.2.2.2.2.2.2.2.2.2.2.2.2.1), (1184, n10, r144.2.2.2.2.2.2.2.2.2.2.2.2.2.2.1)])) fun Im147 =>
  lt ((ov r142.2.2.2.1 [(1112, n10, r144.2.2.2.2.2.2.2.2.2.2.2.2.2.2.2.1)])) fun Jm148 =>
  lt ((ova r142.2.2.2.2.2.1 [((n10 + 1), (r142.2.2.2.2.2.1 (n10 + 1))), ((n10 + 2), r144.2.2.2.2.2.2.2.2.2.2.2.2.2.2.2.2.1), ((n10 + 4), r144.2.2.2.2.2.2.2.2.2.2.2.2.2.2.2.2.2)])) fun Am149 =>
  if r142.1 = r144.1 then
    w_law_j1231 w32_4 r142.2.1 Im147 Jm148 r142.2.2.2.2.1 Am149 r142.2.2.2.2.2.2.1 r142.2.2.2.2.2.2.2.1 r142.2.2.2.2.2.2.2.2 (j1068_u + 42) (j1068_v + 362)
  else
    gdp ((j1068_u + 42) ≤ 1200128 ∧ (j1068_v + 362) ≤ 5501098) <|
    some (.inr ((0 : Int32), r142.2.1, Im147, Jm148, r142.2.2.2.2.1, Am149, r142.2.2.2.2.2.2.1, r142.2.2.2.2.2.2.2.1, r142.2.2.2.2.2.2.2.2))

noncomputable def w_law_j1031 (n : Nat) (L : Nat) (xs : Nat → Int32) (n10 : Nat) (w32_4 : Int32) (j1031_K : gK) (j1031_I : gI) (j1031_J : gJ) (j1031_X : gX) (j1031_A : gI) (j1031_B : gJ) (j1031_Q : gX) (j1031_n : Nat) (j1031_u : Nat) (j1031_v : Nat) : Option ((Int32 × gK × gI × gJ × gX × gI × gJ × gX × Nat × Nat × Nat) ⊕ (Int32 × gK × gI × gJ × gX × gI × gJ × gX × Nat)) :=
  lt (w32_4 + (1 : Int32)) fun v152 =>
  gdp (vp_in v152 L) <|
  lt (xs v152.toNatClampNeg) fun v154 =>
  lt (w32_4 + (2 : Int32)) fun v155 =>
  gdp (vp_in v155 L) <|
  lt (xs v155.toNatClampNeg) fun v157 =>
  gdp (j1031_u ≤ 1200128 ∧ j1031_v ≤ 5501098) <|
  (j1031_X 200 (n + 7)).bind fun a160 =>
  gdp (Sh j1031_K j1031_X n 0 rows0) <|
  gdp (Sh j1031_K j1031_X a160 3 rows3) <|
  gdp (j1031_K (n + 7) = some (.inl 2)) <|
  gdp (Sh j1031_K j1031_X (n + 85) 9 rows9) <|
  gdp (j1031_X 9 n = some (n + 7)) <|
  gdp (j1031_X 36 n = some (n + 85)) <|
  gdp (nda [(n + 86), (n + 87), (n + 88), (n + 89), (a160 + 2), (a160 + 3)]) <|
  (f1_enough v154 v157 a160 (j1031_I 304 a160) (j1031_I 305 a160) (j1031_I 314 a160) (j1031_I 905 (n + 85)) (j1031_X 904 (n + 85)) (j1031_A (n + 86)) (j1031_A (n + 87)) (j1031_A (n + 88)) (j1031_A (n + 89)) (j1031_A (a160 + 2)) (j1031_A (a160 + 3))).bind fun r158 =>
  lt ((ov j1031_I [(905, (n + 85), r158.2.1)])) fun Im168 =>
  lt ((ov j1031_X [(904, (n + 85), r158.2.2.1)])) fun Xm169 =>
  lt ((ova j1031_A [((n + 86), r158.2.2.2.1), ((n + 87), r158.2.2.2.2.1), ((n + 88), r158.2.2.2.2.2.1), ((n + 89), r158.2.2.2.2.2.2), ((a160 + 2), (j1031_A (a160 + 2))), ((a160 + 3), (j1031_A (a160 + 3)))])) fun Am170 =>
  lt (w32_4 + (1 : Int32)) fun v171 =>
  gdp (vp_in v171 L) <|
  lt (xs v171.toNatClampNeg) fun v173 =>
  lt (w32_4 + (2 : Int32)) fun v174 =>
  gdp (vp_in v174 L) <|
  lt (xs v174.toNatClampNeg) fun v176 =>
  gdp (Sh j1031_K Xm169 n10 11 rows11) <|
  (f14_enough v173 v176 (Im168 1100 n10) (Im168 1122 n10) (Im168 1170 n10) (Im168 1171 n10) (Am170 (n10 + 2)) (Am170 (n10 + 32)) (Am170 (n10 + 33)) (Am170 (n10 + 34)) (Am170 (n10 + 35)) (Am170 (n10 + 36)) (Am170 (n10 + 37))).bind fun r177 =>
  lt ((ov Im168 [(1100, n10, r177.2.1), (1122, n10, r177.2.2.1), (1170, n10, r177.2.2.2.1), (1171, n10, r177.2.2.2.2.1)])) fun Im179 =>
  lt ((ova Am170 [((n10 + 2), r177.2.2.2.2.2.1), ((n10 + 32), r177.2.2.2.2.2.2.1), ((n10 + 33), r177.2.2.2.2.2.2.2.1), ((n10 + 34), r177.2.2.2.2.2.2.2.2.1), ((n10 + 35), r177.2.2.2.2.2.2.2.2.2.1), ((n10 + 36), r177.2.2.2.2.2.2.2.2.2.2.1), ((n10 + 37), r177.2.2.2.2.2.2.2.2.2.2.2)])) fun Am180 =>
  if r158.1 = r177.1 then
    w_law_j1231 w32_4 j1031_K Im179 j1031_J Xm169 Am180 j1031_B j1031_Q j1031_n j1031_u j1031_v
  else
    gdp (j1031_u ≤ 1200128 ∧ j1031_v ≤ 5501098) <|
    some (.inr ((0 : Int32), j1031_K, Im179, j1031_J, Xm169, Am180, j1031_B, j1031_Q, j1031_n))

noncomputable def w_law_j1006 (n : Nat) (L : Nat) (xs : Nat → Int32) (n10 : Nat) (w32_4 : Int32) (j1006_K : gK) (j1006_I : gI) (j1006_J : gJ) (j1006_X : gX) (j1006_A : gI) (j1006_B : gJ) (j1006_Q : gX) (j1006_n : Nat) (j1006_u : Nat) (j1006_v : Nat) : Option ((Int32 × gK × gI × gJ × gX × gI × gJ × gX × Nat × Nat × Nat) ⊕ (Int32 × gK × gI × gJ × gX × gI × gJ × gX × Nat)) :=
  lt (w32_4 + (1 : Int32)) fun v183 =>
  gdp (vp_in v183 L) <|
  lt (xs v183.toNatClampNeg) fun v185 =>
  gdp (j1006_u ≤ 1200128 ∧ j1006_v ≤ 5501098) <|
  (j1006_X 200 (n + 7)).bind fun a188 =>
  gdp (Sh j1006_K j1006_X n 0 rows0) <|
  gdp (Sh j1006_K j1006_X a188 3 rows3) <|
  gdp (Sh j1006_K j1006_X (n + 85) 9 rows9) <|
  gdp (j1006_K (n + 7) = some (.inl 2)) <|
  gdp (j1006_X 36 n = some (n + 85)) <|
  gdp (j1006_X 9 n = some (n + 7)) <|
  gdp (nda [(n + 86), (n + 87), (n + 88), (n + 89), (a188 + 2), (a188 + 3)]) <|
  (f1_give v185 a188 (j1006_I 304 a188) (j1006_I 305 a188) (j1006_I 314 a188) (j1006_I 905 (n + 85)) (j1006_X 904 (n + 85)) (j1006_A (n + 86)) (j1006_A (n + 87)) (j1006_A (n + 88)) (j1006_A (n + 89)) (j1006_A (a188 + 2)) (j1006_A (a188 + 3))).bind fun r186 =>
  lt ((ov j1006_I [(905, (n + 85), r186.2.1)])) fun Im196 =>
  lt ((ov j1006_X [(904, (n + 85), r186.2.2.1)])) fun Xm197 =>
  lt ((ova j1006_A [((n + 86), r186.2.2.2.1), ((n + 87), r186.2.2.2.2.1), ((n + 88), r186.2.2.2.2.2.1), ((n + 89), r186.2.2.2.2.2.2), ((a188 + 2), (j1006_A (a188 + 2))), ((a188 + 3), (j1006_A (a188 + 3)))])) fun Am198 =>
  lt (w32_4 + (1 : Int32)) fun v199 =>
  gdp (vp_in v199 L) <|
  lt (xs v199.toNatClampNeg) fun v201 =>
  gdp (Sh j1006_K Xm197 n10 11 rows11) <|
  (f14_give v201 (Im196 1100 n10) (Im196 1122 n10) (Im196 1170 n10) (Im196 1171 n10) (Am198 (n10 + 2)) (Am198 (n10 + 32)) (Am198 (n10 + 33)) (Am198 (n10 + 34)) (Am198 (n10 + 35)) (Am198 (n10 + 36)) (Am198 (n10 + 37))).bind fun r202 =>
  lt ((ov Im196 [(1100, n10, r202.2.1), (1122, n10, r202.2.2.1), (1170, n10, r202.2.2.2.1), (1171, n10, r202.2.2.2.2.1)])) fun Im204 =>
  lt ((ova Am198 [((n10 + 2), r202.2.2.2.2.2.1), ((n10 + 32), r202.2.2.2.2.2.2.1), ((n10 + 33), r202.2.2.2.2.2.2.2.1), ((n10 + 34), r202.2.2.2.2.2.2.2.2.1), ((n10 + 35), r202.2.2.2.2.2.2.2.2.2.1), ((n10 + 36), r202.2.2.2.2.2.2.2.2.2.2.1), ((n10 + 37), r202.2.2.2.2.2.2.2.2.2.2.2)])) fun Am205 =>
  if r186.1 = r202.1 then
    w_law_j1231 w32_4 j1006_K Im204 j1006_J Xm197 Am205 j1006_B j1006_Q j1006_n j1006_u j1006_v
  else
    gdp (j1006_u ≤ 1200128 ∧ j1006_v ≤ 5501098) <|
    some (.inr ((0 : Int32), j1006_K, Im204, j1006_J, Xm197, Am205, j1006_B, j1006_Q, j1006_n))

noncomputable def w_law_j981 (n : Nat) (L : Nat) (xs : Nat → Int32) (n10 : Nat) (w32_4 : Int32) (j981_K : gK) (j981_I : gI) (j981_J : gJ) (j981_X : gX) (j981_A : gI) (j981_B : gJ) (j981_Q : gX) (j981_n : Nat) (j981_u : Nat) (j981_v : Nat) : Option ((Int32 × gK × gI × gJ × gX × gI × gJ × gX × Nat × Nat × Nat) ⊕ (Int32 × gK × gI × gJ × gX × gI × gJ × gX × Nat)) :=
  lt (w32_4 + (1 : Int32)) fun v208 =>
  gdp (vp_in v208 L) <|
  lt (xs v208.toNatClampNeg) fun v210 =>
  gdp (j981_u ≤ 1200128 ∧ j981_v ≤ 5501098) <|
  gdp (Sh j981_K j981_X n 0 rows0) <|
  (f1_aimAt v210 (j981_I 43 n) (j981_A (n + 113))).bind fun r211 =>
  lt (w32_4 + (1 : Int32)) fun v214 =>
  gdp (vp_in v214 L) <|
  lt (xs v214.toNatClampNeg) fun v216 =>
  gdp (Sh j981_K j981_X n10 11 rows11) <|
  (f14_aimAt v216 (j981_I 1100 n10) (j981_I 1183 n10) (j981_A (n10 + 42))).bind fun r217 =>
  lt ((ov j981_I [(1100, n10, r217.2)])) fun Im219 =>
  if r211 = r217.1 then
    w_law_j1231 w32_4 j981_K Im219 j981_J j981_X j981_A j981_B j981_Q j981_n j981_u j981_v
  else
    gdp (j981_u ≤ 1200128 ∧ j981_v ≤ 5501098) <|
    some (.inr ((0 : Int32), j981_K, Im219, j981_J, j981_X, j981_A, j981_B, j981_Q, j981_n))

noncomputable def w_law_j944 (n : Nat) (L : Nat) (xs : Nat → Int32) (n10 : Nat) (w32_4 : Int32) (j944_K : gK) (j944_I : gI) (j944_J : gJ) (j944_X : gX) (j944_A : gI) (j944_B : gJ) (j944_Q : gX) (j944_n : Nat) (j944_u : Nat) (j944_v : Nat) : Option ((Int32 × gK × gI × gJ × gX × gI × gJ × gX × Nat × Nat × Nat) ⊕ (Int32 × gK × gI × gJ × gX × gI × gJ × gX × Nat)) :=
  lt (w32_4 + (1 : Int32)) fun v222 =>
  gdp (vp_in v222 L) <|
  lt (xs v222.toNatClampNeg) fun v224 =>
  lt (w32_4 + (2 : Int32)) fun v225 =>
  gdp (vp_in v225 L) <|
  lt (xs v225.toNatClampNeg) fun v227 =>
  gdp (j944_u ≤ 1200128 ∧ j944_v ≤ 5501098) <|
  (j944_X 200 (n + 7)).bind fun a230 =>
  gdp (Sh j944_K j944_X n 0 rows0) <|
  gdp (Sh j944_K j944_X a230 3 rows3) <|
  gdp (j944_K (n + 7) = some (.inl 2)) <|
  gdp (Sh j944_K j944_X (n + 92) 9 rows9) <|
  gdp (Sh j944_K j944_X (n + 85) 9 rows9) <|
  gdp (Sh j944_K j944_X (n + 97) 9 rows9) <|
  gdp (Sh j944_K j944_X (n + 102) 9 rows9) <|
  gdp (Sh j944_K j944_X (n + 107) 9 rows9) <|
  gdp (j944_X 9 n = some (n + 7)) <|
  gdp (j944_X 36 n = some (n + 85)) <|
  gdp (j944_Q (n + 91) (Int32.toNatClampNeg 0) = some (n + 92)) <|
  gdp (j944_Q (n + 91) (Int32.toNatClampNeg 1) = some (n + 97)) <|
  gdp (j944_Q (n + 91) (Int32.toNatClampNeg 2) = some (n + 102)) <|
  gdp (j944_Q (n + 91) (Int32.toNatClampNeg 3) = some (n + 107)) <|
  gdp (nda [(n + 86), (n + 87), (n + 88), (n + 89), (n + 93), (n + 94), (n + 96), (n + 98), (n + 99), (n + 100), (n + 101), (n + 103), (n + 104), (n + 105), (n + 106), (n + 108), (n + 109), (n + 110), (n + 111), (n + 112), (n + 113), (a230 + 2), (a230 + 3)]) <|
  (f1_aims v224 v227 a230 (j944_I 43 n) (j944_I 44 n) (j944_I 304 a230) (j944_I 305 a230) (j944_I 314 a230) (j944_I 905 (n + 85)) (j944_I 905 (n + 92)) (j944_I 905 (n + 97)) (j944_I 905 (n + 102)) (j944_I 905 (n + 107)) (j944_X 904 (n + 85)) (j944_X 904 (n + 92)) (j944_X 904 (n + 97)) (j944_X 904 (n + 102)) (j944_X 904 (n + 107)) (j944_A (n + 86)) (j944_A (n + 87)) (j944_A (n + 88)) (j944_A (n + 89)) (j944_A (n + 93)) (j944_A (n + 94)) (j944_A (n + 96)) (j944_A (n + 98)) (j944_A (n + 99)) (j944_A (n + 100)) (j944_A (n + 101)) (j944_A (n + 103)) (j944_A (n + 104)) (j944_A (n + 105)) (j944_A (n + 106)) (j944_A (n + 108)) (j944_A (n + 109)) (j944_A (n + 110)) (j944_A (n + 111)) (j944_A (n + 112)) (j944_A (n + 113)) (j944_A (a230 + 2)) (j944_A (a230 + 3))).bind fun r228 =>
  lt ((ov j944_I [(43, n, r228.2.1), (44, n, r228.2.2.1), (905, (n + 85), r228.2.2.2.1), (905, (n + 92), r228.2.2.2.2.1), (905, (n + 97), r228.2.2.2.2.2.1), (905, (n + 102), r228.2.2.2.2.2.2.1), (905, (n + 107), r228.2.2.2.2.2.2.2.1)])) fun Im246 =>
  lt ((ov j944_X [(904, (n + 85), r228.2.2.2.2.2.2.2.2.1), (904, (n + 92), r228.2.2.2.2.2.2.2.2.2.1), (904, (n + 97), r228.2.2.2.2.2.2.2.2.2.2.1), (904, (n + 102), r228.2.2.2.2.2.2.2.2.2.2.2.1), (904, (n + 107), r228.2.2.2.2.2.2.2.2.2.2.2.2.1)])) fun Xm247 =>
  lt ((ova j944_A [((n + 86), r228.2.2.2.2.2.2.2.2.2.2.2.2.2.1), ((n + 87), r228.2.2.2.2.2.2.2.2.2.2.2.2.2.2.1), ((n + 88), r228.2.2.2.2.2.2.2.2.2.2.2.2.2.2.2.1), ((n + 89), r228.2.2.2.2.2.2.2.2.2.2.2.2.2.2.2.2.1), ((n + 93), r228.2.2.2.2.2.2.2.2.2.2.2.2.2.2.2.2.2.1), ((n + 94), r228.2.2.2.2.2.2.2.2.2.2.2.2.2.2.2.2.2.2.1), ((n + 96), r228.2.2.2.2.2.2.2.2.2.2.2.2.2.2.2.2.2.2.2.1), ((n + 98), r228.2.2.2.2.2.2.2.2.2.2.2.2.2.2.2.2.2.2.2.2.1), ((n + 99), r228.2.2.2.2.2.2.2.2.2.2.2.2.2.2.2.2.2.2.2.2.2.1), ((n + 100), r228.2.2.2.2.2.2.2.2.2.2.2.2.2.2.2.2.2.2.2.2.2.2.1), ((n + 101), r228.2.2.2.2.2.2.2.2.2.2.2.2.2.2.2.2.2.2.2.2.2.2.2.1), ((n + 103), r228.2.2.2.2.2.2.2.2.2.2.2.2.2.2.2.2.2.2.2.2.2.2.2.2.1), ((n + 104), r228.2.2.2.2.2.2.2.2.2.2.2.2.2.2.2.2.2.2.2.2.2.2.2.2.2.1), ((n + 105), r228.2.2.2.2.2.2.2.2.2.2.2.2.2.2.2.2.2.2.2.2.2.2.2.2.2.2.1), ((n + 106), r228.2.2.2.2.2.2.2.2.2.2.2.2.2.2.2.2.2.2.2.2.2.2.2.2.2.2.2.1), ((n + 108), r228.2.2.2.2.2.2.2.2.2.2.2.2.2.2.2.2.2.2.2.2.2.2.2.2.2.2.2.2.1), ((n + 109), r228.2.2.2.2.2.2.2.2.2.2.2.2.2.2.2.2.2.2.2.2.2.2.2.2.2.2.2.2.2.1), ((n + 110), r228.2.2.2.2.2.2.2.2.2.2.2.2.2.2.2.2.2.2.2.2.2.2.2.2.2.2.2.2.2.2.1), ((n + 111), r228.2.2.2.2.2.2.2.2.2.2.2.2.2.2.2.2.2.2.2.2.2.2.2.2.2.2.2.2.2.2.2.1), ((n + 112), r228.2.2.2.2.2.2.2.2.2.2.2.2.2.2.2.2.2.2.2.2.2.2.2.2.2.2.2.2.2.2.2.2.1), ((n + 113), r228.2.2.2.2.2.2.2.2.2.2.2.2.2.2.2.2.2.2.2.2.2.2.2.2.2.2.2.2.2.2.2.2.2), ((a230 + 2), (j944_A (a230 + 2))), ((a230 + 3), (j944_A (a230 + 3)))])) fun Am248 =>
  lt (w32_4 + (1 : Int32)) fun v249 =>
  gdp (vp_in v249 L) <|
  lt (xs v249.toNatClampNeg) fun v251 =>
  lt (w32_4 + (2 : Int32)) fun v252 =>
  gdp (vp_in v252 L) <|
  lt (xs v252.toNatClampNeg) fun v254 =>
  gdp (Sh j944_K Xm247 n10 11 rows11) <|
  (f14_aims v251 v254 (Im246 1100 n10) (Im246 1122 n10) (Im246 1170 n10) (Im246 1181 n10) (Im246 1182 n10) (Im246 1183 n10) (Am248 (n10 + 2)) (Am248 (n10 + 32)) (Am248 (n10 + 33)) (Am248 (n10 + 34)) (Am248 (n10 + 35)) (Am248 (n10 + 39)) (Am248 (n10 + 40)) (Am248 (n10 + 41)) (Am248 (n10 + 42))).bind fun r255 =>
  lt ((ov Im246 [(1100, n10, r255.2.1), (1122, n10, r255.2.2.1), (1170, n10, r255.2.2.2.1), (1181, n10, r255.2.2.2.2.1), (1182, n10, r255.2.2.2.2.2.1), (1183, n10, r255.2.2.2.2.2.2.1)])) fun Im257 =>
  lt ((ova Am248 [((n10 + 2), r255.2.2.2.2.2.2.2.1), ((n10 + 32), r255.2.2.2.2.2.2.2.2.1), ((n10 + 33), r255.2.2.2.2.2.2.2.2.2.1), ((n10 + 34), r255.2.2.2.2.2.2.2.2.2.2.1), ((n10 + 35), r255.2.2.2.2.2.2.2.2.2.2.2.1), ((n10 + 39), r255.2.2.2.2.2.2.2.2.2.2.2.2.1), ((n10 + 40), r255.2.2.2.2.2.2.2.2.2.2.2.2.2.1), ((n10 + 41), r255.2.2.2.2.2.2.2.2.2.2.2.2.2.2.1), ((n10 + 42), r255.2.2.2.2.2.2.2.2.2.2.2.2.2.2.2)])) fun Am258 =>
  if r228.1 = r255.1 then
    w_law_j1231 w32_4 j944_K Im257 j944_J Xm247 Am258 j944_B j944_Q j944_n j944_u j944_v
  else
    gdp (j944_u ≤ 1200128 ∧ j944_v ≤ 5501098) <|
    some (.inr ((0 : Int32), j944_K, Im257, j944_J, Xm247, Am258, j944_B, j944_Q, j944_n))

noncomputable def w_law_j931 (n : Nat) (n10 : Nat) (w32_4 : Int32) (j931_K : gK) (j931_I : gI) (j931_J : gJ) (j931_X : gX) (j931_A : gI) (j931_B : gJ) (j931_Q : gX) (j931_n : Nat) (j931_u : Nat) (j931_v : Nat) : Option ((Int32 × gK × gI × gJ × gX × gI × gJ × gX × Nat × Nat × Nat) ⊕ (Int32 × gK × gI × gJ × gX × gI × gJ × gX × Nat)) :=
  gdp (j931_u ≤ 1200128 ∧ j931_v ≤ 5501098) <|
  gdp (Sh j931_K j931_X n 0 rows0) <|
  (f1_out (j931_I 38 n) (j931_I 39 n)).bind fun r261 =>
  gdp (Sh j931_K j931_X n10 11 rows11) <|
  (f14_out (j931_I 1100 n10) (j931_I 1175 n10)).bind fun r264 =>
  lt ((ov j931_I [(1100, n10, r264.2)])) fun Im266 =>
  if r261 = r264.1 then
    w_law_j1231 w32_4 j931_K Im266 j931_J j931_X j931_A j931_B j931_Q j931_n j931_u j931_v
  else
    gdp (j931_u ≤ 1200128 ∧ j931_v ≤ 5501098) <|
    some (.inr ((0 : Int32), j931_K, Im266, j931_J, j931_X, j931_A, j931_B, j931_Q, j931_n))

noncomputable def w_law_j882 (zz : Nat) (adS : Nat → Nat) (n : Nat) (L : Nat) (xs : Nat → Int32) (n10 : Nat) (w32_4 : Int32) (j882_K : gK) (j882_I : gI) (j882_J : gJ) (j882_X : gX) (j882_A : gI) (j882_B : gJ) (j882_Q : gX) (j882_n : Nat) (j882_u : Nat) (j882_v : Nat) : Option ((Int32 × gK × gI × gJ × gX × gI × gJ × gX × Nat × Nat × Nat) ⊕ (Int32 × gK × gI × gJ × gX × gI × gJ × gX × Nat)) :=
  lt (w32_4 + (1 : Int32)) fun v269 =>
  gdp (vp_in v269 L) <|
  lt (xs v269.toNatClampNeg) fun v271 =>
  lt (w32_4 + (2 : Int32)) fun v272 =>
  gdp (vp_in v272 L) <|
  lt (xs v272.toNatClampNeg) fun v274 =>
  lt (w32_4 + (3 : Int32)) fun v275 =>
  gdp (vp_in v275 L) <|
  lt (xs v275.toNatClampNeg) fun v277 =>
  gdp (j882_K n = some (.inl 0)) <|
  gdp (j882_u ≤ 1200128 ∧ j882_v ≤ 5501098) <|
  (w1_fireAt zz adS n v271 v274 v277 j882_K j882_I j882_J j882_X j882_A j882_B j882_Q j882_n).bind fun r279 =>
  lt (w32_4 + (1 : Int32)) fun v281 =>
  gdp (vp_in v281 L) <|
  lt (xs v281.toNatClampNeg) fun v283 =>
  lt (w32_4 + (2 : Int32)) fun v284 =>
  gdp (vp_in v284 L) <|
  lt (xs v284.toNatClampNeg) fun v286 =>
  lt (w32_4 + (3 : Int32)) fun v287 =>
  gdp (vp_in v287 L) <|
  lt (xs v287.toNatClampNeg) fun v289 =>
  gdp (Sh r279.2.1 r279.2.2.2.2.1 n10 11 rows11) <|
  (f14_fireAt v283 v286 v289 (r279.2.2.1 1100 n10) (r279.2.2.1 1173 n10) (r279.2.2.1 1174 n10) (r279.2.2.1 1176 n10) (r279.2.2.2.2.2.1 (n10 + 38))).bind fun r290 =>
  lt ((ov r279.2.2.1 [(1100, n10, r290.2)])) fun Im292 =>
  if r279.1 = r290.1 then
    w_law_j1231 w32_4 r279.2.1 Im292 r279.2.2.2.1 r279.2.2.2.2.1 r279.2.2.2.2.2.1 r279.2.2.2.2.2.2.1 r279.2.2.2.2.2.2.2.1 r279.2.2.2.2.2.2.2.2 j882_u j882_v
  else
    gdp (j882_u ≤ 1200128 ∧ j882_v ≤ 5501098) <|
    some (.inr ((0 : Int32), r279.2.1, Im292, r279.2.2.2.1, r279.2.2.2.2.1, r279.2.2.2.2.2.1, r279.2.2.2.2.2.2.1, r279.2.2.2.2.2.2.2.1, r279.2.2.2.2.2.2.2.2))

noncomputable def w_law_j821 (zz : Nat) (adS : Nat → Nat) (n : Nat) (L : Nat) (xs : Nat → Int32) (n10 : Nat) (w32_4 : Int32) (j821_K : gK) (j821_I : gI) (j821_J : gJ) (j821_X : gX) (j821_A : gI) (j821_B : gJ) (j821_Q : gX) (j821_n : Nat) (j821_u : Nat) (j821_v : Nat) : Option ((Int32 × gK × gI × gJ × gX × gI × gJ × gX × Nat × Nat × Nat) ⊕ (Int32 × gK × gI × gJ × gX × gI × gJ × gX × Nat)) :=
  lt (w32_4 + (1 : Int32)) fun v295 =>
  gdp (vp_in v295 L) <|
  lt (xs v295.toNatClampNeg) fun v297 =>
  lt (w32_4 + (2 : Int32)) fun v298 =>
  gdp (vp_in v298 L) <|
  lt (xs v298.toNatClampNeg) fun v300 =>
  lt (w32_4 + (3 : Int32)) fun v301 =>
  gdp (vp_in v301 L) <|
  lt (xs v301.toNatClampNeg) fun v303 =>
  lt (w32_4 + (4 : Int32)) fun v304 =>
  gdp (vp_in v304 L) <|
  lt (xs v304.toNatClampNeg) fun v306 =>
  gdp (j821_K n = some (.inl 0)) <|
  gdp (j821_u + 105 ≤ 1200128 ∧ j821_v + 5502 ≤ 5501098) <|
  (w1_fire zz adS n v297 v300 v303 v306 j821_K j821_I j821_J j821_X j821_A j821_B j821_Q j821_n).bind fun r308 =>
  lt (w32_4 + (1 : Int32)) fun v310 =>
  gdp (vp_in v310 L) <|
  lt (xs v310.toNatClampNeg) fun v312 =>
  lt (w32_4 + (2 : Int32)) fun v313 =>
  gdp (vp_in v313 L) <|
  lt (xs v313.toNatClampNeg) fun v315 =>
  lt (w32_4 + (3 : Int32)) fun v316 =>
  gdp (vp_in v316 L) <|
  lt (xs v316.toNatClampNeg) fun v318 =>
  lt (w32_4 + (4 : Int32)) fun v319 =>
  gdp (vp_in v319 L) <|
  lt (xs v319.toNatClampNeg) fun v321 =>
  gdp ((j821_u + 105) ≤ 1200128 ∧ (j821_v + 5502) ≤ 5501098) <|
  gdp (Sh r308.2.1 r308.2.2.2.2.1 n10 11 rows11) <|
  (f14_fire v312 v315 v318 v321 (r308.2.2.1 1100 n10) (r308.2.2.1 1122 n10) (r308.2.2.1 1170 n10) (r308.2.2.1 1171 n10) (r308.2.2.1 1173 n10) (r308.2.2.1 1174 n10) (r308.2.2.1 1175 n10) (r308.2.2.1 1176 n10) (r308.2.2.2.2.2.1 (n10 + 2)) (r308.2.2.2.2.2.1 (n10 + 32)) (r308.2.2.2.2.2.1 (n10 + 33)) (r308.2.2.2.2.2.1 (n10 + 34)) (r308.2.2.2.2.2.1 (n10 + 35)) (r308.2.2.2.2.2.1 (n10 + 36)) (r308.2.2.2.2.2.1 (n10 + 37)) (r308.2.2.2.2.2.1 (n10 + 38))).bind fun r322 =>
  lt ((ov r308.2.2.1 [(1100, n10, r322.2.1), (1122, n10, r322.2.2.1), (1170, n10, r322.2.2.2.1), (1171, n10, r322.2.2.2.2.1), (1173, n10, r322.2.2.2.2.2.1), (1174, n10, r322.2.2.2.2.2.2.1), (1175, n10, r322.2.2.2.2.2.2.2.1), (1176, n10, r322.2.2.2.2.2.2.2.2.1)])) fun Im325 =>
  lt ((ova r308.2.2.2.2.2.1 [((n10 + 2), r322.2.2.2.2.2.2.2.2.2.1), ((n10 + 32), r322.2.2.2.2.2.2.2.2.2.2.1), ((n10 + 33), r322.2.2.2.2.2.2.2.2.2.2.2.1), ((n10 + 34), r322.2.2.2.2.2.2.2.2.2.2.2.2.1), ((n10 + 35), r322.2.2.2.2.2.2.2.2.2.2.2.2.2.1), ((n10 + 36), r322.2.2.2.2.2.2.2.2.2.2.2.2.2.2.1), ((n10 + 37), r322.2.2.2.2.2.2.2.2.2.2.2.2.2.2.2.1), ((n10 + 38), r322.2.2.2.2.2.2.2.2.2.2.2.2.2.2.2.2)])) fun Am326 =>
  if r308.1 = r322.1 then
    w_law_j1231 w32_4 r308.2.1 Im325 r308.2.2.2.1 r308.2.2.2.2.1 Am326 r308.2.2.2.2.2.2.1 r308.2.2.2.2.2.2.2.1 r308.2.2.2.2.2.2.2.2 (j821_u + 105) (j821_v + 5502)
  else
    gdp ((j821_u + 105) ≤ 1200128 ∧ (j821_v + 5502) ≤ 5501098) <|
    some (.inr ((0 : Int32), r308.2.1, Im325, r308.2.2.2.1, r308.2.2.2.2.1, Am326, r308.2.2.2.2.2.2.1, r308.2.2.2.2.2.2.2.1, r308.2.2.2.2.2.2.2.2))

noncomputable def w_law_j796 (n : Nat) (L : Nat) (xs : Nat → Int32) (n10 : Nat) (w32_4 : Int32) (j796_K : gK) (j796_I : gI) (j796_J : gJ) (j796_X : gX) (j796_A : gI) (j796_B : gJ) (j796_Q : gX) (j796_n : Nat) (j796_u : Nat) (j796_v : Nat) : Option ((Int32 × gK × gI × gJ × gX × gI × gJ × gX × Nat × Nat × Nat) ⊕ (Int32 × gK × gI × gJ × gX × gI × gJ × gX × Nat)) :=
  lt (w32_4 + (1 : Int32)) fun v329 =>
  gdp (vp_in v329 L) <|
  lt (xs v329.toNatClampNeg) fun v331 =>
  gdp (j796_u ≤ 1200128 ∧ j796_v ≤ 5501098) <|
  gdp (Sh j796_K j796_X n 0 rows0) <|
  (f1_hookAt v331 (j796_I 33 n) (j796_A (n + 79))).bind fun r332 =>
  lt (w32_4 + (1 : Int32)) fun v335 =>
  gdp (vp_in v335 L) <|
  lt (xs v335.toNatClampNeg) fun v337 =>
  gdp (Sh j796_K j796_X n10 11 rows11) <|
  (f14_hookAt v337 (j796_I 1100 n10) (j796_I 1163 n10) (j796_A (n10 + 31))).bind fun r338 =>
  lt ((ov j796_I [(1100, n10, r338.2)])) fun Im340 =>
  if r332 = r338.1 then
    w_law_j1231 w32_4 j796_K Im340 j796_J j796_X j796_A j796_B j796_Q j796_n j796_u j796_v
  else
    gdp (j796_u ≤ 1200128 ∧ j796_v ≤ 5501098) <|
    some (.inr ((0 : Int32), j796_K, Im340, j796_J, j796_X, j796_A, j796_B, j796_Q, j796_n))

noncomputable def w_law_j771 (n : Nat) (L : Nat) (xs : Nat → Int32) (n10 : Nat) (w32_4 : Int32) (j771_K : gK) (j771_I : gI) (j771_J : gJ) (j771_X : gX) (j771_A : gI) (j771_B : gJ) (j771_Q : gX) (j771_n : Nat) (j771_u : Nat) (j771_v : Nat) : Option ((Int32 × gK × gI × gJ × gX × gI × gJ × gX × Nat × Nat × Nat) ⊕ (Int32 × gK × gI × gJ × gX × gI × gJ × gX × Nat)) :=
  lt (w32_4 + (1 : Int32)) fun v343 =>
  gdp (vp_in v343 L) <|
  lt (xs v343.toNatClampNeg) fun v345 =>
  gdp (j771_u ≤ 1200128 ∧ j771_v ≤ 5501098) <|
  gdp (Sh j771_K j771_X n 0 rows0) <|
  (f1_hooks v345 (j771_I 1 n) (j771_I 2 n) (j771_I 33 n) (j771_I 34 n) (j771_A (n + 1)) (j771_A (n + 78)) (j771_A (n + 79))).bind fun r346 =>
  lt ((ov j771_I [(1, n, r346.2.1), (2, n, r346.2.2.1), (33, n, r346.2.2.2.1), (34, n, r346.2.2.2.2.1)])) fun Im349 =>
  lt ((ova j771_A [((n + 1), (j771_A (n + 1))), ((n + 78), r346.2.2.2.2.2.1), ((n + 79), r346.2.2.2.2.2.2)])) fun Am350 =>
  lt (w32_4 + (1 : Int32)) fun v351 =>
  gdp (vp_in v351 L) <|
  lt (xs v351.toNatClampNeg) fun v353 =>
  gdp (Sh j771_K j771_X n10 11 rows11) <|
  (f14_hooks v353 (Im349 1100 n10) (Im349 1102 n10) (Im349 1161 n10) (Im349 1162 n10) (Im349 1163 n10) (Am350 (n10 + 1)) (Am350 (n10 + 28)) (Am350 (n10 + 29)) (Am350 (n10 + 30)) (Am350 (n10 + 31))).bind fun r354 =>
  lt ((ov Im349 [(1100, n10, r354.2.1), (1102, n10, r354.2.2.1), (1161, n10, r354.2.2.2.1), (1162, n10, r354.2.2.2.2.1), (1163, n10, r354.2.2.2.2.2.1)])) fun Im356 =>
  lt ((ova Am350 [((n10 + 1), (Am350 (n10 + 1))), ((n10 + 28), r354.2.2.2.2.2.2.1), ((n10 + 29), r354.2.2.2.2.2.2.2.1), ((n10 + 30), r354.2.2.2.2.2.2.2.2.1), ((n10 + 31), r354.2.2.2.2.2.2.2.2.2)])) fun Am357 =>
  if r346.1 = r354.1 then
    w_law_j1231 w32_4 j771_K Im356 j771_J j771_X Am357 j771_B j771_Q j771_n j771_u j771_v
  else
    gdp (j771_u ≤ 1200128 ∧ j771_v ≤ 5501098) <|
    some (.inr ((0 : Int32), j771_K, Im356, j771_J, j771_X, Am357, j771_B, j771_Q, j771_n))

noncomputable def w_law_j758 (n : Nat) (n10 : Nat) (w32_4 : Int32) (j758_K : gK) (j758_I : gI) (j758_J : gJ) (j758_X : gX) (j758_A : gI) (j758_B : gJ) (j758_Q : gX) (j758_n : Nat) (j758_u : Nat) (j758_v : Nat) : Option ((Int32 × gK × gI × gJ × gX × gI × gJ × gX × Nat × Nat × Nat) ⊕ (Int32 × gK × gI × gJ × gX × gI × gJ × gX × Nat)) :=
  gdp (j758_u ≤ 1200128 ∧ j758_v ≤ 5501098) <|
  (j758_X 200 (n + 7)).bind fun a362 =>
  gdp (Sh j758_K j758_X n 0 rows0) <|
  gdp (Sh j758_K j758_X a362 3 rows3) <|
  gdp (j758_K (n + 7) = some (.inl 2)) <|
  gdp (j758_X 9 n = some (n + 7)) <|
  gdp (∀ (j m : Nat), (j758_Q (a362 + 1)) j = some m → j758_K m = some (.inl 12)) <|
  (f1_relief (j758_I 1 n) (j758_I 2 n) (j758_I 18 n) (j758_I 303 a362) (j758_A (n + 1)) (j758_A (n + 70)) (j758_A (n + 77)) (j758_Q (a362 + 1)) (j758_I 1203)).bind fun r360 =>
  lt ((ov j758_I [(1, n, r360.2.1), (2, n, r360.2.2.1), (18, n, r360.2.2.2.1)])) fun Im368 =>
  lt ((ova j758_A [((n + 1), (j758_A (n + 1))), ((n + 70), r360.2.2.2.2.1), ((n + 77), r360.2.2.2.2.2)])) fun Am369 =>
  gdp (Sh j758_K j758_X n10 11 rows11) <|
  (f14_relief (Im368 1100 n10) (Im368 1102 n10) (Im368 1122 n10) (Im368 1133 n10) (Am369 (n10 + 1)) (Am369 (n10 + 2)) (Am369 (n10 + 10)) (Am369 (n10 + 27))).bind fun r370 =>
  lt ((ov Im368 [(1100, n10, r370.2.1), (1102, n10, r370.2.2.1), (1122, n10, r370.2.2.2.1), (1133, n10, r370.2.2.2.2.1)])) fun Im372 =>
  lt ((ova Am369 [((n10 + 1), (Am369 (n10 + 1))), ((n10 + 2), r370.2.2.2.2.2.1), ((n10 + 10), r370.2.2.2.2.2.2.1), ((n10 + 27), r370.2.2.2.2.2.2.2)])) fun Am373 =>
  if r360.1 = r370.1 then
    w_law_j1231 w32_4 j758_K Im372 j758_J j758_X Am373 j758_B j758_Q j758_n j758_u j758_v
  else
    gdp (j758_u ≤ 1200128 ∧ j758_v ≤ 5501098) <|
    some (.inr ((0 : Int32), j758_K, Im372, j758_J, j758_X, Am373, j758_B, j758_Q, j758_n))

noncomputable def w_law_j733 (n : Nat) (L : Nat) (xs : Nat → Int32) (n10 : Nat) (w32_4 : Int32) (j733_K : gK) (j733_I : gI) (j733_J : gJ) (j733_X : gX) (j733_A : gI) (j733_B : gJ) (j733_Q : gX) (j733_n : Nat) (j733_u : Nat) (j733_v : Nat) : Option ((Int32 × gK × gI × gJ × gX × gI × gJ × gX × Nat × Nat × Nat) ⊕ (Int32 × gK × gI × gJ × gX × gI × gJ × gX × Nat)) :=
  lt (w32_4 + (1 : Int32)) fun v376 =>
  gdp (vp_in v376 L) <|
  lt (xs v376.toNatClampNeg) fun v378 =>
  gdp (j733_u ≤ 1200128 ∧ j733_v ≤ 5501098) <|
  gdp (Sh j733_K j733_X n 0 rows0) <|
  (f1_moreAt v378 (j733_I 29 n) (j733_A (n + 76))).bind fun r379 =>
  lt (w32_4 + (1 : Int32)) fun v382 =>
  gdp (vp_in v382 L) <|
  lt (xs v382.toNatClampNeg) fun v384 =>
  gdp (Sh j733_K j733_X n10 11 rows11) <|
  (f14_moreAt v384 (j733_I 1100 n10) (j733_I 1155 n10) (j733_A (n10 + 26))).bind fun r385 =>
  lt ((ov j733_I [(1100, n10, r385.2)])) fun Im387 =>
  if r379 = r385.1 then
    w_law_j1231 w32_4 j733_K Im387 j733_J j733_X j733_A j733_B j733_Q j733_n j733_u j733_v
  else
    gdp (j733_u ≤ 1200128 ∧ j733_v ≤ 5501098) <|
    some (.inr ((0 : Int32), j733_K, Im387, j733_J, j733_X, j733_A, j733_B, j733_Q, j733_n))

noncomputable def w_law_j708 (n : Nat) (L : Nat) (xs : Nat → Int32) (n10 : Nat) (w32_4 : Int32) (j708_K : gK) (j708_I : gI) (j708_J : gJ) (j708_X : gX) (j708_A : gI) (j708_B : gJ) (j708_Q : gX) (j708_n : Nat) (j708_u : Nat) (j708_v : Nat) : Option ((Int32 × gK × gI × gJ × gX × gI × gJ × gX × Nat × Nat × Nat) ⊕ (Int32 × gK × gI × gJ × gX × gI × gJ × gX × Nat)) :=
  lt (w32_4 + (1 : Int32)) fun v390 =>
  gdp (vp_in v390 L) <|
  lt (xs v390.toNatClampNeg) fun v392 =>
  gdp (j708_u ≤ 1200128 ∧ j708_v ≤ 5501098) <|
  (j708_X 200 (n + 7)).bind fun a395 =>
  gdp (Sh j708_K j708_X n 0 rows0) <|
  gdp (Sh j708_K j708_X a395 3 rows3) <|
  gdp (j708_K (n + 7) = some (.inl 2)) <|
  gdp (Sh j708_K j708_X (n + 16) 7 rows7) <|
  gdp (j708_X 9 n = some (n + 7)) <|
  gdp (j708_X 13 n = some (n + 16)) <|
  gdp (∀ (j m : Nat), (j708_Q (a395 + 1)) j = some m → j708_K m = some (.inl 12)) <|
  (f1_more v392 a395 (j708_I 1 n) (j708_I 2 n) (j708_I 18 n) (j708_I 29 n) (j708_I 303 a395) (j708_I 306 a395) (j708_I 307 a395) (j708_I 309 a395) (j708_I 313 a395) (j708_I 702 (n + 16)) (j708_I 703 (n + 16)) (j708_I 704 (n + 16)) (j708_I 705 (n + 16)) (j708_I 714 (n + 16)) (j708_I 715 (n + 16)) (j708_I 716 (n + 16)) (j708_I 717 (n + 16)) (j708_I 718 (n + 16)) (j708_X 701 (n + 16)) (j708_A (n + 1)) (j708_A (n + 17)) (j708_A (n + 18)) (j708_A (n + 19)) (j708_A (n + 20)) (j708_A (n + 21)) (j708_A (n + 22)) (j708_A (n + 23)) (j708_A (n + 70)) (j708_A (n + 76)) (j708_Q (a395 + 1)) (j708_I 1201)).bind fun r393 =>
  lt ((ov j708_I [(1, n, r393.2.1), (2, n, r393.2.2.1), (18, n, r393.2.2.2.1), (29, n, r393.2.2.2.2.1), (702, (n + 16), r393.2.2.2.2.2.1), (703, (n + 16), r393.2.2.2.2.2.2.1), (704, (n + 16), r393.2.2.2.2.2.2.2.1), (705, (n + 16), r393.2.2.2.2.2.2.2.2.1), (714, (n + 16), r393.2.2.2.2.2.2.2.2.2.1), (715, (n + 16), r393.2.2.2.2.2.2.2.2.2.2.1), (716, (n + 16), r393.2.2.2.2.2.2.2.2.2.2.2.1), (717, (n + 16), r393.2.2.2.2.2.2.2.2.2.2.2.2.1), (718, (n + 16), r393.2.2.2.2.2.2.2.2.2.2.2.2.2.1)])) fun Im403 =>
  lt ((ov j708_X [(701, (n + 16), r393.2.2.2.2.2.2.2.2.2.2.2.2.2.2.1)])) fun Xm404 =>
  lt ((ova j708_A [((n + 1), (j708_A (n + 1))), ((n + 17), r393.2.2.2.2.2.2.2.2.2.2.2.2.2.2.2.1), ((n + 18), r393.2.2.2.2.2.2.2.2.2.2.2.2.2.2.2.2.1), ((n + 19), r393.2.2.2.2.2.2.2.2.2.2.2.2.2.2.2.2.2.1), ((n + 20), r393.2.2.2.2.2.2.2.2.2.2.2.2.2.2.2.2.2.2.1), ((n + 21), r393.2.2.2.2.2.2.2.2.2.2.2.2.2.2.2.2.2.2.2.1), ((n + 22), r393.2.2.2.2.2.2.2.2.2.2.2.2.2.2.2.2.2.2.2.2.1), ((n + 23), r393.2.2.2.2.2.2.2.2.2.2.2.2.2.2.2.2.2.2.2.2.2.1), ((n + 70), r393.2.2.2.2.2.2.2.2.2.2.2.2.2.2.2.2.2.2.2.2.2.2.1), ((n + 76), r393.2.2.2.2.2.2.2.2.2.2.2.2.2.2.2.2.2.2.2.2.2.2.2)])) fun Am405 =>
  lt (w32_4 + (1 : Int32)) fun v406 =>
  gdp (vp_in v406 L) <|
  lt (xs v406.toNatClampNeg) fun v408 =>
  gdp (Sh j708_K Xm404 n10 11 rows11) <|
  (f14_more v408 (Im403 1100 n10) (Im403 1102 n10) (Im403 1122 n10) (Im403 1133 n10) (Im403 1155 n10) (Am405 (n10 + 1)) (Am405 (n10 + 2)) (Am405 (n10 + 10)) (Am405 (n10 + 25)) (Am405 (n10 + 26))).bind fun r409 =>
  lt ((ov Im403 [(1100, n10, r409.2.1), (1102, n10, r409.2.2.1), (1122, n10, r409.2.2.2.1), (1133, n10, r409.2.2.2.2.1), (1155, n10, r409.2.2.2.2.2.1)])) fun Im411 =>
  lt ((ova Am405 [((n10 + 1), (Am405 (n10 + 1))), ((n10 + 2), r409.2.2.2.2.2.2.1), ((n10 + 10), r409.2.2.2.2.2.2.2.1), ((n10 + 25), r409.2.2.2.2.2.2.2.2.1), ((n10 + 26), r409.2.2.2.2.2.2.2.2.2)])) fun Am412 =>
  if r393.1 = r409.1 then
    w_law_j1231 w32_4 j708_K Im411 j708_J Xm404 Am412 j708_B j708_Q j708_n j708_u j708_v
  else
    gdp (j708_u ≤ 1200128 ∧ j708_v ≤ 5501098) <|
    some (.inr ((0 : Int32), j708_K, Im411, j708_J, Xm404, Am412, j708_B, j708_Q, j708_n))

noncomputable def w_law_j705 (w32_4 : Int32) (j640_u : Nat) (j640_v : Nat) (r421 : Int32 × gK × gI × gJ × gX × gI × gJ × gX × Nat) (Im432 : gI) (Am433 : gI) : Option ((Int32 × gK × gI × gJ × gX × gI × gJ × gX × Nat × Nat × Nat) ⊕ (Int32 × gK × gI × gJ × gX × gI × gJ × gX × Nat)) :=
  w_law_j1231 w32_4 r421.2.1 Im432 r421.2.2.2.1 r421.2.2.2.2.1 Am433 r421.2.2.2.2.2.2.1 r421.2.2.2.2.2.2.2.1 r421.2.2.2.2.2.2.2.2 (j640_u + 1) (j640_v + 6)

noncomputable def w_law_j640 (zz : Nat) (adS : Nat → Nat) (n : Nat) (L : Nat) (xs : Nat → Int32) (n10 : Nat) (n22 : Nat) (w32_4 : Int32) (j640_K : gK) (j640_I : gI) (j640_J : gJ) (j640_X : gX) (j640_A : gI) (j640_B : gJ) (j640_Q : gX) (j640_n : Nat) (j640_u : Nat) (j640_v : Nat) : Option ((Int32 × gK × gI × gJ × gX × gI × gJ × gX × Nat × Nat × Nat) ⊕ (Int32 × gK × gI × gJ × gX × gI × gJ × gX × Nat)) :=
  lt (w32_4 + (1 : Int32)) fun v415 =>
  gdp (vp_in v415 L) <|
  lt (xs v415.toNatClampNeg) fun v417 =>
  lt (w32_4 + (2 : Int32)) fun v418 =>
  gdp (vp_in v418 L) <|
  lt (xs v418.toNatClampNeg) fun v420 =>
  gdp (j640_u + 1 ≤ 1200128 ∧ j640_v + 6 ≤ 5501098) <|
  (w0_cost zz adS n v417 v420 n22 j640_K j640_I j640_J j640_X j640_A j640_B j640_Q j640_n).bind fun r421 =>
  lt (w32_4 + (1 : Int32)) fun v423 =>
  gdp (vp_in v423 L) <|
  lt (xs v423.toNatClampNeg) fun v425 =>
  lt (w32_4 + (2 : Int32)) fun v426 =>
  gdp (vp_in v426 L) <|
  lt (xs v426.toNatClampNeg) fun v428 =>
  gdp ((j640_u + 1) ≤ 1200128 ∧ (j640_v + 6) ≤ 5501098) <|
  gdp (Sh r421.2.1 r421.2.2.2.2.1 n10 11 rows11) <|
  (f14_cost v425 v428 (r421.2.2.1 1100 n10) (r421.2.2.1 1102 n10) (r421.2.2.1 1122 n10) (r421.2.2.1 1133 n10) (r421.2.2.1 1134 n10) (r421.2.2.1 1135 n10) (r421.2.2.1 1136 n10) (r421.2.2.1 1137 n10) (r421.2.2.1 1138 n10) (r421.2.2.1 1139 n10) (r421.2.2.1 1140 n10) (r421.2.2.1 1141 n10) (r421.2.2.1 1142 n10) (r421.2.2.2.2.2.1 (n10 + 1)) (r421.2.2.2.2.2.1 (n10 + 2)) (r421.2.2.2.2.2.1 (n10 + 10)) (r421.2.2.2.2.2.1 (n10 + 11)) (r421.2.2.2.2.2.1 (n10 + 12)) (r421.2.2.2.2.2.1 (n10 + 13)) (r421.2.2.2.2.2.1 (n10 + 14)) (r421.2.2.2.2.2.1 (n10 + 15)) (r421.2.2.2.2.2.1 (n10 + 16)) (r421.2.2.2.2.2.1 (n10 + 17)) (r421.2.2.2.2.2.1 (n10 + 18))).bind fun r429 =>
  lt ((ov r421.2.2.1 [(1100, n10, r429.2.1), (1102, n10, r429.2.2.1), (1122, n10, r429.2.2.2.1), (1133, n10, r429.2.2.2.2.1), (1134, n10, r429.2.2.2.2.2.1), (1135, n10, r429.2.2.2.2.2.2.1), (1136, n10, r429.2.2.2.2.2.2.2.1), (1137, n10, r429.2.2.2.2.2.2.2.2.1), (1138, n10, r429.2.2.2.2.2.2.2.2.2.1), (1139, n10, r429.2.2.2.2.2.2.2.2.2.2.1), (1140, n10, r429.2.2.2.2.2.2.2.2.2.2.2.1), (1141, n10, r429.2.2.2.2.2.2.2.2.2.2.2.2.1), (1142, n10, r429.2.2.2.2.2.2.2.2.2.2.2.2.2.1)])) fun Im432 =>
  lt ((ova r421.2.2.2.2.2.1 [((n10 + 1), (r421.2.2.2.2.2.1 (n10 + 1))), ((n10 + 2), r429.2.2.2.2.2.2.2.2.2.2.2.2.2.2.1), ((n10 + 10), r429.2.2.2.2.2.2.2.2.2.2.2.2.2.2.2.1), ((n10 + 11), r429.2.2.2.2.2.2.2.2.2.2.2.2.2.2.2.2.1), ((n10 + 12), r429.2.2.2.2.2.2.2.2.2.2.2.2.2.2.2.2.2.1), ((n10 + 13), r429.2.2.2.2.2.2.2.2.2.2.2.2.2.2.2.2.2.2.1), ((n10 + 14), r429.2.2.2.2.2.2.2.2.2.2.2.2.2.2.2.2.2.2.2.1), ((n10 + 15), r429.2.2.2.2.2.2.2.2.2.2.2.2.2.2.2.2.2.2.2.2.1), ((n10 + 16), r429.2.2.2.2.2.2.2.2.2.2.2.2.2.2.2.2.2.2.2.2.2.1), ((n10 + 17), r429.2.2.2.2.2.2.2.2.2.2.2.2.2.2.2.2.2.2.2.2.2.2.1), ((n10 + 18), r429.2.2.2.2.2.2.2.2.2.2.2.2.2.2.2.2.2.2.2.2.2.2.2)])) fun Am433 =>
  (f14_thrown (Im432 1100 n10)).bind fun r434 =>
  if r434 = r421.1 then
    if r421.1 = 0 then
      (alen r421.2.1 n22 3).bind fun n437 =>
      gdp (inb (0 : Int32) n437) <|
      lt (r421.2.2.2.2.2.2.1 n22 (0 : Int32).toNatClampNeg) fun v439 =>
      lt (r429.1.toInt64) fun v440 =>
      lt (lg_cmp v439 v440) fun v441 =>
      if v441 = 0 then
        w_law_j705 w32_4 j640_u j640_v r421 Im432 Am433
      else
        gdp ((j640_u + 1) ≤ 1200128 ∧ (j640_v + 6) ≤ 5501098) <|
        some (.inr ((0 : Int32), r421.2.1, Im432, r421.2.2.2.1, r421.2.2.2.2.1, Am433, r421.2.2.2.2.2.2.1, r421.2.2.2.2.2.2.2.1, r421.2.2.2.2.2.2.2.2))
    else
      w_law_j705 w32_4 j640_u j640_v r421 Im432 Am433
  else
    gdp ((j640_u + 1) ≤ 1200128 ∧ (j640_v + 6) ≤ 5501098) <|
    some (.inr ((0 : Int32), r421.2.1, Im432, r421.2.2.2.1, r421.2.2.2.2.1, Am433, r421.2.2.2.2.2.2.1, r421.2.2.2.2.2.2.2.1, r421.2.2.2.2.2.2.2.2))

noncomputable def w_law_j615 (n : Nat) (L : Nat) (xs : Nat → Int32) (n10 : Nat) (w32_4 : Int32) (j615_K : gK) (j615_I : gI) (j615_J : gJ) (j615_X : gX) (j615_A : gI) (j615_B : gJ) (j615_Q : gX) (j615_n : Nat) (j615_u : Nat) (j615_v : Nat) : Option ((Int32 × gK × gI × gJ × gX × gI × gJ × gX × Nat × Nat × Nat) ⊕ (Int32 × gK × gI × gJ × gX × gI × gJ × gX × Nat)) :=
  lt (w32_4 + (1 : Int32)) fun v445 =>
  gdp (vp_in v445 L) <|
  lt (xs v445.toNatClampNeg) fun v447 =>
  gdp (j615_u ≤ 1200128 ∧ j615_v ≤ 5501098) <|
  (j615_X 200 (n + 7)).bind fun a450 =>
  gdp (Sh j615_K j615_X n 0 rows0) <|
  gdp (Sh j615_K j615_X a450 3 rows3) <|
  gdp (j615_K (n + 7) = some (.inl 2)) <|
  gdp (Sh j615_K j615_X (n + 16) 7 rows7) <|
  gdp (Sh j615_K j615_X (n + 60) 8 rows8) <|
  gdp (j615_X 9 n = some (n + 7)) <|
  gdp (j615_X 13 n = some (n + 16)) <|
  gdp (j615_X 15 n = some (n + 60)) <|
  gdp (∀ j, j < 12 → j615_K (n + 25 + j) = some (.inr (0, 30)) ∧ j615_Q (n + 24) j = some (n + 25 + j)) <|
  gdp (∀ (j m : Nat), (j615_Q (a450 + 1)) j = some m → j615_K m = some (.inl 12)) <|
  (f1_line v447 a450 (j615_I 303 a450) (j615_I 306 a450) (j615_I 307 a450) (j615_I 308 a450) (j615_I 309 a450) (j615_I 310 a450) (j615_I 311 a450) (j615_I 312 a450) (j615_I 313 a450) (j615_I 702 (n + 16)) (j615_I 703 (n + 16)) (j615_I 704 (n + 16)) (j615_I 705 (n + 16)) (j615_I 714 (n + 16)) (j615_I 715 (n + 16)) (j615_I 716 (n + 16)) (j615_I 717 (n + 16)) (j615_I 718 (n + 16)) (j615_I 802 (n + 60)) (j615_I 803 (n + 60)) (j615_I 804 (n + 60)) (j615_I 805 (n + 60)) (j615_I 809 (n + 60)) (j615_X 701 (n + 16)) (j615_X 801 (n + 60)) (j615_A (n + 17)) (j615_A (n + 18)) (j615_A (n + 19)) (j615_A (n + 20)) (j615_A (n + 21)) (j615_A (n + 22)) (j615_A (n + 23)) (j615_A (n + 37)) (j615_A (n + 61)) (j615_A (n + 62)) (j615_A (n + 63)) (j615_A (n + 64)) (j615_A (n + 75)) (j615_Q (a450 + 1)) (j615_I 1201) (j615_I 1202) (j615_I 1203) (fun j => j615_A ((n + 25) + j))).bind fun r448 =>
  lt ((ov j615_I [(702, (n + 16), r448.2.1), (703, (n + 16), r448.2.2.1), (704, (n + 16), r448.2.2.2.1), (705, (n + 16), r448.2.2.2.2.1), (714, (n + 16), r448.2.2.2.2.2.1), (715, (n + 16), r448.2.2.2.2.2.2.1), (716, (n + 16), r448.2.2.2.2.2.2.2.1), (717, (n + 16), r448.2.2.2.2.2.2.2.2.1), (718, (n + 16), r448.2.2.2.2.2.2.2.2.2.1), (802, (n + 60), r448.2.2.2.2.2.2.2.2.2.2.1), (803, (n + 60), r448.2.2.2.2.2.2.2.2.2.2.2.1), (804, (n + 60), r448.2.2.2.2.2.2.2.2.2.2.2.2.1), (805, (n + 60), r448.2.2.2.2.2.2.2.2.2.2.2.2.2.1), (809, (n + 60), r448.2.2.2.2.2.2.2.2.2.2.2.2.2.2.1)])) fun Im461 =>
  lt ((ov j615_X [(701, (n + 16), r448.2.2.2.2.2.2.2.2.2.2.2.2.2.2.2.1), (801, (n + 60), r448.2.2.2.2.2.2.2.2.2.2.2.2.2.2.2.2.1)])) fun Xm462 =>
  lt ((ova (ovg j615_A (n + 25) 12 r448.2.2.2.2.2.2.2.2.2.2.2.2.2.2.2.2.2.2.2.2.2.2.2.2.2.2.2.2.2.2) [((n + 17), r448.2.2.2.2.2.2.2.2.2.2.2.2.2.2.2.2.2.1), ((n + 18), r448.2.2.2.2.2.2.2.2.2.2.2.2.2.2.2.2.2.2.1), ((n + 19), r448.2.2.2.2.2.2.2.2.2.2.2.2.2.2.2.2.2.2.2.1), ((n + 20), r448.2.2.2.2.2.2.2.2.2.2.2.2.2.2.2.2.2.2.2.2.1), ((n + 21), r448.2.2.2.2.2.2.2.2.2.2.2.2.2.2.2.2.2.2.2.2.2.1), ((n + 22), r448.2.2.2.2.2.2.2.2.2.2.2.2.2.2.2.2.2.2.2.2.2.2.1), ((n + 23), r448.2.2.2.2.2.2.2.2.2.2.2.2.2.2.2.2.2.2.2.2.2.2.2.1), ((n + 37), r448.2.2.2.2.2.2.2.2.2.2.2.2.2.2.2.2.2.2.2.2.2.2.2.2.1), ((n + 61), r448.2.2.2.2.2.2.2.2.2.2.2.2.2.2.2.2.2.2.2.2.2.2.2.2.2.1), ((n + 62), r448.2.2.2.2.2.2.2.2.2.2.2.2.2.2.2.2.2.2.2.2.2.2.2.2.2.2.1), ((n + 63), r448.2.2.2.2.2.2.2.2.2.2.2.2.2.2.2.2.2.2.2.2.2.2.2.2.2.2.2.1), ((n + 64), r448.2.2.2.2.2.2.2.2.2.2.2.2.2.2.2.2.2.2.2.2.2.2.2.2.2.2.2.2.1), ((n + 75), r448.2.2.2.2.2.2.2.2.2.2.2.2.2.2.2.2.2.2.2.2.2.2.2.2.2.2.2.2.2.1)])) fun Am463 =>
  lt (w32_4 + (1 : Int32)) fun v464 =>
  gdp (vp_in v464 L) <|
  lt (xs v464.toNatClampNeg) fun v466 =>
  gdp (Sh j615_K Xm462 n10 11 rows11) <|
  (f14_line v466 (Im461 1100 n10) (Im461 1122 n10) (Im461 1133 n10) (Im461 1134 n10) (Im461 1135 n10) (Im461 1136 n10) (Im461 1137 n10) (Im461 1138 n10) (Im461 1139 n10) (Im461 1140 n10) (Im461 1141 n10) (Im461 1142 n10) (Am463 (n10 + 2)) (Am463 (n10 + 10)) (Am463 (n10 + 11)) (Am463 (n10 + 12)) (Am463 (n10 + 13)) (Am463 (n10 + 14)) (Am463 (n10 + 15)) (Am463 (n10 + 16)) (Am463 (n10 + 17)) (Am463 (n10 + 18))).bind fun r467 =>
  lt ((ov Im461 [(1100, n10, r467.2.1), (1122, n10, r467.2.2.1), (1133, n10, r467.2.2.2.1), (1134, n10, r467.2.2.2.2.1), (1135, n10, r467.2.2.2.2.2.1), (1136, n10, r467.2.2.2.2.2.2.1), (1137, n10, r467.2.2.2.2.2.2.2.1), (1138, n10, r467.2.2.2.2.2.2.2.2.1), (1139, n10, r467.2.2.2.2.2.2.2.2.2.1), (1140, n10, r467.2.2.2.2.2.2.2.2.2.2.1), (1141, n10, r467.2.2.2.2.2.2.2.2.2.2.2.1), (1142, n10, r467.2.2.2.2.2.2.2.2.2.2.2.2.1)])) fun Im469 =>
  lt ((ova Am463 [((n10 + 2), r467.2.2.2.2.2.2.2.2.2.2.2.2.2.1), ((n10 + 10), r467.2.2.2.2.2.2.2.2.2.2.2.2.2.2.1), ((n10 + 11), r467.2.2.2.2.2.2.2.2.2.2.2.2.2.2.2.1), ((n10 + 12), r467.2.2.2.2.2.2.2.2.2.2.2.2.2.2.2.2.1), ((n10 + 13), r467.2.2.2.2.2.2.2.2.2.2.2.2.2.2.2.2.2.1), ((n10 + 14), r467.2.2.2.2.2.2.2.2.2.2.2.2.2.2.2.2.2.2.1), ((n10 + 15), r467.2.2.2.2.2.2.2.2.2.2.2.2.2.2.2.2.2.2.2.1), ((n10 + 16), r467.2.2.2.2.2.2.2.2.2.2.2.2.2.2.2.2.2.2.2.2.1), ((n10 + 17), r467.2.2.2.2.2.2.2.2.2.2.2.2.2.2.2.2.2.2.2.2.2.1), ((n10 + 18), r467.2.2.2.2.2.2.2.2.2.2.2.2.2.2.2.2.2.2.2.2.2.2)])) fun Am470 =>
  if r448.1 = r467.1 then
    w_law_j1231 w32_4 j615_K Im469 j615_J Xm462 Am470 j615_B j615_Q j615_n j615_u j615_v
  else
    gdp (j615_u ≤ 1200128 ∧ j615_v ≤ 5501098) <|
    some (.inr ((0 : Int32), j615_K, Im469, j615_J, Xm462, Am470, j615_B, j615_Q, j615_n))

noncomputable def w_law_j590 (n : Nat) (L : Nat) (xs : Nat → Int32) (n10 : Nat) (w32_4 : Int32) (j590_K : gK) (j590_I : gI) (j590_J : gJ) (j590_X : gX) (j590_A : gI) (j590_B : gJ) (j590_Q : gX) (j590_n : Nat) (j590_u : Nat) (j590_v : Nat) : Option ((Int32 × gK × gI × gJ × gX × gI × gJ × gX × Nat × Nat × Nat) ⊕ (Int32 × gK × gI × gJ × gX × gI × gJ × gX × Nat)) :=
  lt (w32_4 + (1 : Int32)) fun v473 =>
  gdp (vp_in v473 L) <|
  lt (xs v473.toNatClampNeg) fun v475 =>
  gdp (j590_u ≤ 1200128 ∧ j590_v ≤ 5501098) <|
  (j590_X 200 (n + 7)).bind fun a478 =>
  gdp (Sh j590_K j590_X n 0 rows0) <|
  gdp (Sh j590_K j590_X a478 3 rows3) <|
  gdp (j590_K (n + 7) = some (.inl 2)) <|
  gdp (Sh j590_K j590_X (n + 60) 8 rows8) <|
  gdp (j590_X 9 n = some (n + 7)) <|
  gdp (j590_X 15 n = some (n + 60)) <|
  gdp (∀ (j m : Nat), (j590_Q (a478 + 1)) j = some m → j590_K m = some (.inl 12)) <|
  (f1_running v475 a478 (j590_I 1 n) (j590_I 2 n) (j590_I 18 n) (j590_I 303 a478) (j590_I 306 a478) (j590_I 307 a478) (j590_I 308 a478) (j590_I 309 a478) (j590_I 310 a478) (j590_I 802 (n + 60)) (j590_I 803 (n + 60)) (j590_I 804 (n + 60)) (j590_I 805 (n + 60)) (j590_I 809 (n + 60)) (j590_X 801 (n + 60)) (j590_A (n + 1)) (j590_A (n + 61)) (j590_A (n + 62)) (j590_A (n + 63)) (j590_A (n + 64)) (j590_A (n + 70)) (j590_Q (a478 + 1)) (j590_I 1202)).bind fun r476 =>
  lt ((ov j590_I [(1, n, r476.2.1), (2, n, r476.2.2.1), (18, n, r476.2.2.2.1), (802, (n + 60), r476.2.2.2.2.1), (803, (n + 60), r476.2.2.2.2.2.1), (804, (n + 60), r476.2.2.2.2.2.2.1), (805, (n + 60), r476.2.2.2.2.2.2.2.1), (809, (n + 60), r476.2.2.2.2.2.2.2.2.1)])) fun Im486 =>
  lt ((ov j590_X [(801, (n + 60), r476.2.2.2.2.2.2.2.2.2.1)])) fun Xm487 =>
  lt ((ova j590_A [((n + 1), (j590_A (n + 1))), ((n + 61), r476.2.2.2.2.2.2.2.2.2.2.1), ((n + 62), r476.2.2.2.2.2.2.2.2.2.2.2.1), ((n + 63), r476.2.2.2.2.2.2.2.2.2.2.2.2.1), ((n + 64), r476.2.2.2.2.2.2.2.2.2.2.2.2.2.1), ((n + 70), r476.2.2.2.2.2.2.2.2.2.2.2.2.2.2)])) fun Am488 =>
  lt (w32_4 + (1 : Int32)) fun v489 =>
  gdp (vp_in v489 L) <|
  lt (xs v489.toNatClampNeg) fun v491 =>
  gdp (Sh j590_K Xm487 n10 11 rows11) <|
  (f14_running v491 (Im486 1100 n10) (Im486 1102 n10) (Im486 1122 n10) (Im486 1133 n10) (Im486 1134 n10) (Im486 1135 n10) (Im486 1136 n10) (Im486 1137 n10) (Im486 1138 n10) (Im486 1139 n10) (Im486 1140 n10) (Im486 1141 n10) (Im486 1142 n10) (Am488 (n10 + 1)) (Am488 (n10 + 2)) (Am488 (n10 + 10)) (Am488 (n10 + 11)) (Am488 (n10 + 12)) (Am488 (n10 + 13)) (Am488 (n10 + 14)) (Am488 (n10 + 15)) (Am488 (n10 + 16)) (Am488 (n10 + 17)) (Am488 (n10 + 18))).bind fun r492 =>
  lt ((ov Im486 [(1100, n10, r492.2.1), (1102, n10, r492.2.2.1), (1122, n10, r492.2.2.2.1), (1133, n10, r492.2.2.2.2.1), (1134, n10, r492.2.2.2.2.2.1), (1135, n10, r492.2.2.2.2.2.2.1), (1136, n10, r492.2.2.2.2.2.2.2.1), (1137, n10, r492.2.2.2.2.2.2.2.2.1), (1138, n10, r492.2.2.2.2.2.2.2.2.2.1), (1139, n10, r492.2.2.2.2.2.2.2.2.2.2.1), (1140, n10, r492.2.2.2.2.2.2.2.2.2.2.2.1), (1141, n10, r492.2.2.2.2.2.2.2.2.2.2.2.2.1), (1142, n10, r492.2.2.2.2.2.2.2.2.2.2.2.2.2.1)])) fun Im494 =>
  lt ((ova Am488 [((n10 + 1), (Am488 (n10 + 1))), ((n10 + 2), r492.2.2.2.2.2.2.2.2.2.2.2.2.2.2.1), ((n10 + 10), r492.2.2.2.2.2.2.2.2.2.2.2.2.2.2.2.1), ((n10 + 11), r492.2.2.2.2.2.2.2.2.2.2.2.2.2.2.2.2.1), ((n10 + 12), r492.2.2.2.2.2.2.2.2.2.2.2.2.2.2.2.2.2.1), ((n10 + 13), r492.2.2.2.2.2.2.2.2.2.2.2.2.2.2.2.2.2.2.1), ((n10 + 14), r492.2.2.2.2.2.2.2.2.2.2.2.2.2.2.2.2.2.2.2.1), ((n10 + 15), r492.2.2.2.2.2.2.2.2.2.2.2.2.2.2.2.2.2.2.2.2.1), ((n10 + 16), r492.2.2.2.2.2.2.2.2.2.2.2.2.2.2.2.2.2.2.2.2.2.1), ((n10 + 17), r492.2.2.2.2.2.2.2.2.2.2.2.2.2.2.2.2.2.2.2.2.2.2.1), ((n10 + 18), r492.2.2.2.2.2.2.2.2.2.2.2.2.2.2.2.2.2.2.2.2.2.2.2)])) fun Am495 =>
  if r476.1 = r492.1 then
    w_law_j1231 w32_4 j590_K Im494 j590_J Xm487 Am495 j590_B j590_Q j590_n j590_u j590_v
  else
    gdp (j590_u ≤ 1200128 ∧ j590_v ≤ 5501098) <|
    some (.inr ((0 : Int32), j590_K, Im494, j590_J, Xm487, Am495, j590_B, j590_Q, j590_n))

noncomputable def w_law_j565 (n : Nat) (L : Nat) (xs : Nat → Int32) (n10 : Nat) (w32_4 : Int32) (j565_K : gK) (j565_I : gI) (j565_J : gJ) (j565_X : gX) (j565_A : gI) (j565_B : gJ) (j565_Q : gX) (j565_n : Nat) (j565_u : Nat) (j565_v : Nat) : Option ((Int32 × gK × gI × gJ × gX × gI × gJ × gX × Nat × Nat × Nat) ⊕ (Int32 × gK × gI × gJ × gX × gI × gJ × gX × Nat)) :=
  lt (w32_4 + (1 : Int32)) fun v498 =>
  gdp (vp_in v498 L) <|
  lt (xs v498.toNatClampNeg) fun v500 =>
  gdp (j565_u ≤ 1200128 ∧ j565_v ≤ 5501098) <|
  gdp (Sh j565_K j565_X n 0 rows0) <|
  (f1_bestAt v500 (j565_I 25 n) (j565_A (n + 74))).bind fun r501 =>
  lt (w32_4 + (1 : Int32)) fun v504 =>
  gdp (vp_in v504 L) <|
  lt (xs v504.toNatClampNeg) fun v506 =>
  gdp (Sh j565_K j565_X n10 11 rows11) <|
  (f14_bestAt v506 (j565_I 1100 n10) (j565_I 1151 n10) (j565_A (n10 + 24))).bind fun r507 =>
  lt ((ov j565_I [(1100, n10, r507.2)])) fun Im509 =>
  if r501 = r507.1 then
    w_law_j1231 w32_4 j565_K Im509 j565_J j565_X j565_A j565_B j565_Q j565_n j565_u j565_v
  else
    gdp (j565_u ≤ 1200128 ∧ j565_v ≤ 5501098) <|
    some (.inr ((0 : Int32), j565_K, Im509, j565_J, j565_X, j565_A, j565_B, j565_Q, j565_n))

noncomputable def w_law_j552 (n : Nat) (n10 : Nat) (w32_4 : Int32) (j552_K : gK) (j552_I : gI) (j552_J : gJ) (j552_X : gX) (j552_A : gI) (j552_B : gJ) (j552_Q : gX) (j552_n : Nat) (j552_u : Nat) (j552_v : Nat) : Option ((Int32 × gK × gI × gJ × gX × gI × gJ × gX × Nat × Nat × Nat) ⊕ (Int32 × gK × gI × gJ × gX × gI × gJ × gX × Nat)) :=
  gdp (j552_u ≤ 1200128 ∧ j552_v ≤ 5501098) <|
  (j552_X 200 (n + 7)).bind fun a514 =>
  gdp (Sh j552_K j552_X n 0 rows0) <|
  gdp (Sh j552_K j552_X a514 3 rows3) <|
  gdp (j552_K (n + 7) = some (.inl 2)) <|
  gdp (Sh j552_K j552_X (n + 16) 7 rows7) <|
  gdp (j552_X 9 n = some (n + 7)) <|
  gdp (j552_X 13 n = some (n + 16)) <|
  gdp (∀ (j m : Nat), (j552_Q (a514 + 1)) j = some m → j552_K m = some (.inl 12)) <|
  (f1_best a514 (j552_I 1 n) (j552_I 2 n) (j552_I 18 n) (j552_I 25 n) (j552_I 26 n) (j552_I 303 a514) (j552_I 306 a514) (j552_I 307 a514) (j552_I 309 a514) (j552_I 313 a514) (j552_I 702 (n + 16)) (j552_I 703 (n + 16)) (j552_I 704 (n + 16)) (j552_I 705 (n + 16)) (j552_I 714 (n + 16)) (j552_I 715 (n + 16)) (j552_I 716 (n + 16)) (j552_I 717 (n + 16)) (j552_I 718 (n + 16)) (j552_X 701 (n + 16)) (j552_A (n + 1)) (j552_A (n + 17)) (j552_A (n + 18)) (j552_A (n + 19)) (j552_A (n + 20)) (j552_A (n + 21)) (j552_A (n + 22)) (j552_A (n + 23)) (j552_A (n + 70)) (j552_A (n + 73)) (j552_A (n + 74)) (j552_Q (a514 + 1)) (j552_I 1201)).bind fun r512 =>
  lt ((ov j552_I [(1, n, r512.2.1), (2, n, r512.2.2.1), (18, n, r512.2.2.2.1), (25, n, r512.2.2.2.2.1), (26, n, r512.2.2.2.2.2.1), (702, (n + 16), r512.2.2.2.2.2.2.1), (703, (n + 16), r512.2.2.2.2.2.2.2.1), (704, (n + 16), r512.2.2.2.2.2.2.2.2.1), (705, (n + 16), r512.2.2.2.2.2.2.2.2.2.1), (714, (n + 16), r512.2.2.2.2.2.2.2.2.2.2.1), (715, (n + 16), r512.2.2.2.2.2.2.2.2.2.2.2.1), (716, (n + 16), r512.2.2.2.2.2.2.2.2.2.2.2.2.1), (717, (n + 16), r512.2.2.2.2.2.2.2.2.2.2.2.2.2.1), (718, (n + 16), r512.2.2.2.2.2.2.2.2.2.2.2.2.2.2.1)])) fun Im522 =>
  lt ((ov j552_X [(701, (n + 16), r512.2.2.2.2.2.2.2.2.2.2.2.2.2.2.2.1)])) fun Xm523 =>
  lt ((ova j552_A [((n + 1), (j552_A (n + 1))), ((n + 17), r512.2.2.2.2.2.2.2.2.2.2.2.2.2.2.2.2.1), ((n + 18), r512.2.2.2.2.2.2.2.2.2.2.2.2.2.2.2.2.2.1), ((n + 19), r512.2.2.2.2.2.2.2.2.2.2.2.2.2.2.2.2.2.2.1), ((n + 20), r512.2.2.2.2.2.2.2.2.2.2.2.2.2.2.2.2.2.2.2.1), ((n + 21), r512.2.2.2.2.2.2.2.2.2.2.2.2.2.2.2.2.2.2.2.2.1), ((n + 22), r512.2.2.2.2.2.2.2.2.2.2.2.2.2.2.2.2.2.2.2.2.2.1), ((n + 23), r512.2.2.2.2.2.2.2.2.2.2.2.2.2.2.2.2.2.2.2.2.2.2.1), ((n + 70), r512.2.2.2.2.2.2.2.2.2.2.2.2.2.2.2.2.2.2.2.2.2.2.2.1), ((n + 73), r512.2.2.2.2.2.2.2.2.2.2.2.2.2.2.2.2.2.2.2.2.2.2.2.2.1), ((n + 74), r512.2.2.2.2.2.2.2.2.2.2.2.2.2.2.2.2.2.2.2.2.2.2.2.2.2)])) fun Am524 =>
  gdp (Sh j552_K Xm523 n10 11 rows11) <|
  (f14_best (Im522 1100 n10) (Im522 1102 n10) (Im522 1122 n10) (Im522 1133 n10) (Im522 1150 n10) (Im522 1151 n10) (Im522 1152 n10) (Am524 (n10 + 1)) (Am524 (n10 + 2)) (Am524 (n10 + 10)) (Am524 (n10 + 21)) (Am524 (n10 + 22)) (Am524 (n10 + 23)) (Am524 (n10 + 24))).bind fun r525 =>
  lt ((ov Im522 [(1100, n10, r525.2.1), (1102, n10, r525.2.2.1), (1122, n10, r525.2.2.2.1), (1133, n10, r525.2.2.2.2.1), (1150, n10, r525.2.2.2.2.2.1), (1151, n10, r525.2.2.2.2.2.2.1), (1152, n10, r525.2.2.2.2.2.2.2.1)])) fun Im527 =>
  lt ((ova Am524 [((n10 + 1), (Am524 (n10 + 1))), ((n10 + 2), r525.2.2.2.2.2.2.2.2.1), ((n10 + 10), r525.2.2.2.2.2.2.2.2.2.1), ((n10 + 21), r525.2.2.2.2.2.2.2.2.2.2.1), ((n10 + 22), r525.2.2.2.2.2.2.2.2.2.2.2.1), ((n10 + 23), r525.2.2.2.2.2.2.2.2.2.2.2.2.1), ((n10 + 24), r525.2.2.2.2.2.2.2.2.2.2.2.2.2)])) fun Am528 =>
  if r512.1 = r525.1 then
    w_law_j1231 w32_4 j552_K Im527 j552_J Xm523 Am528 j552_B j552_Q j552_n j552_u j552_v
  else
    gdp (j552_u ≤ 1200128 ∧ j552_v ≤ 5501098) <|
    some (.inr ((0 : Int32), j552_K, Im527, j552_J, Xm523, Am528, j552_B, j552_Q, j552_n))

noncomputable def w_law_j539 (n : Nat) (n10 : Nat) (w32_4 : Int32) (j539_K : gK) (j539_I : gI) (j539_J : gJ) (j539_X : gX) (j539_A : gI) (j539_B : gJ) (j539_Q : gX) (j539_n : Nat) (j539_u : Nat) (j539_v : Nat) : Option ((Int32 × gK × gI × gJ × gX × gI × gJ × gX × Nat × Nat × Nat) ⊕ (Int32 × gK × gI × gJ × gX × gI × gJ × gX × Nat)) :=
  gdp (j539_u ≤ 1200128 ∧ j539_v ≤ 5501098) <|
  (j539_X 200 (n + 7)).bind fun a533 =>
  gdp (Sh j539_K j539_X n 0 rows0) <|
  gdp (Sh j539_K j539_X a533 3 rows3) <|
  gdp (j539_K (n + 7) = some (.inl 2)) <|
  gdp (Sh j539_K j539_X (n + 16) 7 rows7) <|
  gdp (j539_X 9 n = some (n + 7)) <|
  gdp (j539_X 13 n = some (n + 16)) <|
  gdp (∀ (j m : Nat), (j539_Q (a533 + 1)) j = some m → j539_K m = some (.inl 12)) <|
  (f1_period a533 (j539_I 1 n) (j539_I 2 n) (j539_I 18 n) (j539_I 303 a533) (j539_I 306 a533) (j539_I 307 a533) (j539_I 309 a533) (j539_I 313 a533) (j539_I 702 (n + 16)) (j539_I 703 (n + 16)) (j539_I 704 (n + 16)) (j539_I 705 (n + 16)) (j539_I 714 (n + 16)) (j539_I 715 (n + 16)) (j539_I 716 (n + 16)) (j539_I 717 (n + 16)) (j539_I 718 (n + 16)) (j539_X 701 (n + 16)) (j539_A (n + 1)) (j539_A (n + 17)) (j539_A (n + 18)) (j539_A (n + 19)) (j539_A (n + 20)) (j539_A (n + 21)) (j539_A (n + 22)) (j539_A (n + 23)) (j539_A (n + 70)) (j539_Q (a533 + 1)) (j539_I 1201)).bind fun r531 =>
  lt ((ov j539_I [(1, n, r531.2.1), (2, n, r531.2.2.1), (18, n, r531.2.2.2.1), (702, (n + 16), r531.2.2.2.2.1), (703, (n + 16), r531.2.2.2.2.2.1), (704, (n + 16), r531.2.2.2.2.2.2.1), (705, (n + 16), r531.2.2.2.2.2.2.2.1), (714, (n + 16), r531.2.2.2.2.2.2.2.2.1), (715, (n + 16), r531.2.2.2.2.2.2.2.2.2.1), (716, (n + 16), r531.2.2.2.2.2.2.2.2.2.2.1), (717, (n + 16), r531.2.2.2.2.2.2.2.2.2.2.2.1), (718, (n + 16), r531.2.2.2.2.2.2.2.2.2.2.2.2.1)])) fun Im541 =>
  lt ((ov j539_X [(701, (n + 16), r531.2.2.2.2.2.2.2.2.2.2.2.2.2.1)])) fun Xm542 =>
  lt ((ova j539_A [((n + 1), (j539_A (n + 1))), ((n + 17), r531.2.2.2.2.2.2.2.2.2.2.2.2.2.2.1), ((n + 18), r531.2.2.2.2.2.2.2.2.2.2.2.2.2.2.2.1), ((n + 19), r531.2.2.2.2.2.2.2.2.2.2.2.2.2.2.2.2.1), ((n + 20), r531.2.2.2.2.2.2.2.2.2.2.2.2.2.2.2.2.2.1), ((n + 21), r531.2.2.2.2.2.2.2.2.2.2.2.2.2.2.2.2.2.2.1), ((n + 22), r531.2.2.2.2.2.2.2.2.2.2.2.2.2.2.2.2.2.2.2.1), ((n + 23), r531.2.2.2.2.2.2.2.2.2.2.2.2.2.2.2.2.2.2.2.2.1), ((n + 70), r531.2.2.2.2.2.2.2.2.2.2.2.2.2.2.2.2.2.2.2.2.2)])) fun Am543 =>
  gdp (Sh j539_K Xm542 n10 11 rows11) <|
  (f14_period (Im541 1100 n10) (Im541 1102 n10) (Im541 1122 n10) (Im541 1133 n10) (Am543 (n10 + 1)) (Am543 (n10 + 2)) (Am543 (n10 + 10))).bind fun r544 =>
  lt ((ov Im541 [(1100, n10, r544.2.1), (1102, n10, r544.2.2.1), (1122, n10, r544.2.2.2.1), (1133, n10, r544.2.2.2.2.1)])) fun Im546 =>
  lt ((ova Am543 [((n10 + 1), (Am543 (n10 + 1))), ((n10 + 2), r544.2.2.2.2.2.1), ((n10 + 10), r544.2.2.2.2.2.2)])) fun Am547 =>
  if r531.1 = r544.1 then
    w_law_j1231 w32_4 j539_K Im546 j539_J Xm542 Am547 j539_B j539_Q j539_n j539_u j539_v
  else
    gdp (j539_u ≤ 1200128 ∧ j539_v ≤ 5501098) <|
    some (.inr ((0 : Int32), j539_K, Im546, j539_J, Xm542, Am547, j539_B, j539_Q, j539_n))

noncomputable def w_law_j514 (n : Nat) (L : Nat) (xs : Nat → Int32) (n10 : Nat) (w32_4 : Int32) (j514_K : gK) (j514_I : gI) (j514_J : gJ) (j514_X : gX) (j514_A : gI) (j514_B : gJ) (j514_Q : gX) (j514_n : Nat) (j514_u : Nat) (j514_v : Nat) : Option ((Int32 × gK × gI × gJ × gX × gI × gJ × gX × Nat × Nat × Nat) ⊕ (Int32 × gK × gI × gJ × gX × gI × gJ × gX × Nat)) :=
  lt (w32_4 + (1 : Int32)) fun v550 =>
  gdp (vp_in v550 L) <|
  lt (xs v550.toNatClampNeg) fun v552 =>
  gdp (j514_u ≤ 1200128 ∧ j514_v ≤ 5501098) <|
  gdp (Sh j514_K j514_X n 0 rows0) <|
  (f1_done v552 (j514_I 22 n) (j514_A (n + 72))).bind fun r553 =>
  lt (w32_4 + (1 : Int32)) fun v556 =>
  gdp (vp_in v556 L) <|
  lt (xs v556.toNatClampNeg) fun v558 =>
  gdp (Sh j514_K j514_X n10 11 rows11) <|
  (f14_done v558 (j514_I 1100 n10) (j514_I 1145 n10) (j514_A (n10 + 20))).bind fun r559 =>
  lt ((ov j514_I [(1100, n10, r559.2)])) fun Im561 =>
  if r553 = r559.1 then
    w_law_j1231 w32_4 j514_K Im561 j514_J j514_X j514_A j514_B j514_Q j514_n j514_u j514_v
  else
    gdp (j514_u ≤ 1200128 ∧ j514_v ≤ 5501098) <|
    some (.inr ((0 : Int32), j514_K, Im561, j514_J, j514_X, j514_A, j514_B, j514_Q, j514_n))

noncomputable def w_law_j489 (n : Nat) (L : Nat) (xs : Nat → Int32) (n10 : Nat) (w32_4 : Int32) (j489_K : gK) (j489_I : gI) (j489_J : gJ) (j489_X : gX) (j489_A : gI) (j489_B : gJ) (j489_Q : gX) (j489_n : Nat) (j489_u : Nat) (j489_v : Nat) : Option ((Int32 × gK × gI × gJ × gX × gI × gJ × gX × Nat × Nat × Nat) ⊕ (Int32 × gK × gI × gJ × gX × gI × gJ × gX × Nat)) :=
  lt (w32_4 + (1 : Int32)) fun v564 =>
  gdp (vp_in v564 L) <|
  lt (xs v564.toNatClampNeg) fun v566 =>
  gdp (j489_u ≤ 1200128 ∧ j489_v ≤ 5501098) <|
  gdp (Sh j489_K j489_X n 0 rows0) <|
  (f1_rowBy v566 (j489_I 19 n) (j489_A (n + 71))).bind fun r567 =>
  lt (w32_4 + (1 : Int32)) fun v570 =>
  gdp (vp_in v570 L) <|
  lt (xs v570.toNatClampNeg) fun v572 =>
  gdp (Sh j489_K j489_X n10 11 rows11) <|
  (f14_rowBy v572 (j489_I 1100 n10) (j489_A (n10 + 19))).bind fun r573 =>
  lt ((ov j489_I [(1100, n10, r573.2)])) fun Im575 =>
  if r567 = r573.1 then
    w_law_j1231 w32_4 j489_K Im575 j489_J j489_X j489_A j489_B j489_Q j489_n j489_u j489_v
  else
    gdp (j489_u ≤ 1200128 ∧ j489_v ≤ 5501098) <|
    some (.inr ((0 : Int32), j489_K, Im575, j489_J, j489_X, j489_A, j489_B, j489_Q, j489_n))

noncomputable def w_law_j464 (n : Nat) (L : Nat) (xs : Nat → Int32) (n10 : Nat) (w32_4 : Int32) (j464_K : gK) (j464_I : gI) (j464_J : gJ) (j464_X : gX) (j464_A : gI) (j464_B : gJ) (j464_Q : gX) (j464_n : Nat) (j464_u : Nat) (j464_v : Nat) : Option ((Int32 × gK × gI × gJ × gX × gI × gJ × gX × Nat × Nat × Nat) ⊕ (Int32 × gK × gI × gJ × gX × gI × gJ × gX × Nat)) :=
  lt (w32_4 + (1 : Int32)) fun v578 =>
  gdp (vp_in v578 L) <|
  lt (xs v578.toNatClampNeg) fun v580 =>
  gdp (j464_u ≤ 1200128 ∧ j464_v ≤ 5501098) <|
  (j464_X 200 (n + 7)).bind fun a583 =>
  gdp (Sh j464_K j464_X n 0 rows0) <|
  gdp (Sh j464_K j464_X a583 3 rows3) <|
  gdp (j464_K (n + 7) = some (.inl 2)) <|
  gdp (Sh j464_K j464_X (n + 16) 7 rows7) <|
  gdp (j464_X 9 n = some (n + 7)) <|
  gdp (j464_X 13 n = some (n + 16)) <|
  gdp (∀ j, j < 12 → j464_K (n + 25 + j) = some (.inr (0, 30)) ∧ j464_Q (n + 24) j = some (n + 25 + j)) <|
  gdp (∀ (j m : Nat), (j464_Q (a583 + 1)) j = some m → j464_K m = some (.inl 12)) <|
  (f1_row v580 a583 (j464_I 1 n) (j464_I 2 n) (j464_I 18 n) (j464_I 19 n) (j464_I 22 n) (j464_I 303 a583) (j464_I 306 a583) (j464_I 307 a583) (j464_I 308 a583) (j464_I 309 a583) (j464_I 310 a583) (j464_I 311 a583) (j464_I 312 a583) (j464_I 313 a583) (j464_I 702 (n + 16)) (j464_I 703 (n + 16)) (j464_I 704 (n + 16)) (j464_I 705 (n + 16)) (j464_I 714 (n + 16)) (j464_I 715 (n + 16)) (j464_I 716 (n + 16)) (j464_I 717 (n + 16)) (j464_I 718 (n + 16)) (j464_X 701 (n + 16)) (j464_A (n + 1)) (j464_A (n + 17)) (j464_A (n + 18)) (j464_A (n + 19)) (j464_A (n + 20)) (j464_A (n + 21)) (j464_A (n + 22)) (j464_A (n + 23)) (j464_A (n + 37)) (j464_A (n + 70)) (j464_A (n + 71)) (j464_A (n + 72)) (j464_Q (a583 + 1)) (j464_I 1201) (j464_I 1203) (fun j => j464_A ((n + 25) + j))).bind fun r581 =>
  lt ((ov j464_I [(1, n, r581.2.1), (2, n, r581.2.2.1), (18, n, r581.2.2.2.1), (19, n, r581.2.2.2.2.1), (22, n, r581.2.2.2.2.2.1), (702, (n + 16), r581.2.2.2.2.2.2.1), (703, (n + 16), r581.2.2.2.2.2.2.2.1), (704, (n + 16), r581.2.2.2.2.2.2.2.2.1), (705, (n + 16), r581.2.2.2.2.2.2.2.2.2.1), (714, (n + 16), r581.2.2.2.2.2.2.2.2.2.2.1), (715, (n + 16), r581.2.2.2.2.2.2.2.2.2.2.2.1), (716, (n + 16), r581.2.2.2.2.2.2.2.2.2.2.2.2.1), (717, (n + 16), r581.2.2.2.2.2.2.2.2.2.2.2.2.2.1), (718, (n + 16), r581.2.2.2.2.2.2.2.2.2.2.2.2.2.2.1)])) fun Im592 =>
  lt ((ov j464_X [(701, (n + 16), r581.2.2.2.2.2.2.2.2.2.2.2.2.2.2.2.1)])) fun Xm593 =>
  lt ((ova (ovg j464_A (n + 25) 12 r581.2.2.2.2.2.2.2.2.2.2.2.2.2.2.2.2.2.2.2.2.2.2.2.2.2.2.2) [((n + 1), (j464_A (n + 1))), ((n + 17), r581.2.2.2.2.2.2.2.2.2.2.2.2.2.2.2.2.1), ((n + 18), r581.2.2.2.2.2.2.2.2.2.2.2.2.2.2.2.2.2.1), ((n + 19), r581.2.2.2.2.2.2.2.2.2.2.2.2.2.2.2.2.2.2.1), ((n + 20), r581.2.2.2.2.2.2.2.2.2.2.2.2.2.2.2.2.2.2.2.1), ((n + 21), r581.2.2.2.2.2.2.2.2.2.2.2.2.2.2.2.2.2.2.2.2.1), ((n + 22), r581.2.2.2.2.2.2.2.2.2.2.2.2.2.2.2.2.2.2.2.2.2.1), ((n + 23), r581.2.2.2.2.2.2.2.2.2.2.2.2.2.2.2.2.2.2.2.2.2.2.1), ((n + 37), r581.2.2.2.2.2.2.2.2.2.2.2.2.2.2.2.2.2.2.2.2.2.2.2.1), ((n + 70), r581.2.2.2.2.2.2.2.2.2.2.2.2.2.2.2.2.2.2.2.2.2.2.2.2.1), ((n + 71), r581.2.2.2.2.2.2.2.2.2.2.2.2.2.2.2.2.2.2.2.2.2.2.2.2.2.1), ((n + 72), r581.2.2.2.2.2.2.2.2.2.2.2.2.2.2.2.2.2.2.2.2.2.2.2.2.2.2.1)])) fun Am594 =>
  lt (w32_4 + (1 : Int32)) fun v595 =>
  gdp (vp_in v595 L) <|
  lt (xs v595.toNatClampNeg) fun v597 =>
  gdp (Sh j464_K Xm593 n10 11 rows11) <|
  (f14_row v597 (Im592 1100 n10) (Im592 1102 n10) (Im592 1122 n10) (Im592 1133 n10) (Im592 1134 n10) (Im592 1135 n10) (Im592 1136 n10) (Im592 1137 n10) (Im592 1138 n10) (Im592 1139 n10) (Im592 1140 n10) (Im592 1141 n10) (Im592 1142 n10) (Im592 1145 n10) (Am594 (n10 + 1)) (Am594 (n10 + 2)) (Am594 (n10 + 10)) (Am594 (n10 + 11)) (Am594 (n10 + 12)) (Am594 (n10 + 13)) (Am594 (n10 + 14)) (Am594 (n10 + 15)) (Am594 (n10 + 16)) (Am594 (n10 + 17)) (Am594 (n10 + 18)) (Am594 (n10 + 19)) (Am594 (n10 + 20))).bind fun r598 =>
  lt ((ov Im592 [(1100, n10, r598.2.1), (1102, n10, r598.2.2.1), (1122, n10, r598.2.2.2.1), (1133, n10, r598.2.2.2.2.1), (1134, n10, r598.2.2.2.2.2.1), (1135, n10, r598.2.2.2.2.2.2.1), (1136, n10, r598.2.2.2.2.2.2.2.1), (1137, n10, r598.2.2.2.2.2.2.2.2.1), (1138, n10, r598.2.2.2.2.2.2.2.2.2.1), (1139, n10, r598.2.2.2.2.2.2.2.2.2.2.1), (1140, n10, r598.2.2.2.2.2.2.2.2.2.2.2.1), (1141, n10, r598.2.2.2.2.2.2.2.2.2.2.2.2.1), (1142, n10, r598.2.2.2.2.2.2.2.2.2.2.2.2.2.1), (1145, n10, r598.2.2.2.2.2.2.2.2.2.2.2.2.2.2.1)])) fun Im600 =>
  lt ((ova Am594 [((n10 + 1), (Am594 (n10 + 1))), ((n10 + 2), r598.2.2.2.2.2.2.2.2.2.2.2.2.2.2.2.1), ((n10 + 10), r598.2.2.2.2.2.2.2.2.2.2.2.2.2.2.2.2.1), ((n10 + 11), r598.2.2.2.2.2.2.2.2.2.2.2.2.2.2.2.2.2.1), ((n10 + 12), r598.2.2.2.2.2.2.2.2.2.2.2.2.2.2.2.2.2.2.1), ((n10 + 13), r598.2.2.2.2.2.2.2.2.2.2.2.2.2.2.2.2.2.2.2.1), ((n10 + 14), r598.2.2.2.2.2.2.2.2.2.2.2.2.2.2.2.2.2.2.2.2.1), ((n10 + 15), r598.2.2.2.2.2.2.2.2.2.2.2.2.2.2.2.2.2.2.2.2.2.1), ((n10 + 16), r598.2.2.2.2.2.2.2.2.2.2.2.2.2.2.2.2.2.2.2.2.2.2.1), ((n10 + 17), r598.2.2.2.2.2.2.2.2.2.2.2.2.2.2.2.2.2.2.2.2.2.2.2.1), ((n10 + 18), r598.2.2.2.2.2.2.2.2.2.2.2.2.2.2.2.2.2.2.2.2.2.2.2.2.1), ((n10 + 19), r598.2.2.2.2.2.2.2.2.2.2.2.2.2.2.2.2.2.2.2.2.2.2.2.2.2.1), ((n10 + 20), r598.2.2.2.2.2.2.2.2.2.2.2.2.2.2.2.2.2.2.2.2.2.2.2.2.2.2)])) fun Am601 =>
  if r581.1 = r598.1 then
    w_law_j1231 w32_4 j464_K Im600 j464_J Xm593 Am601 j464_B j464_Q j464_n j464_u j464_v
  else
    gdp (j464_u ≤ 1200128 ∧ j464_v ≤ 5501098) <|
    some (.inr ((0 : Int32), j464_K, Im600, j464_J, Xm593, Am601, j464_B, j464_Q, j464_n))

noncomputable def w_law_j461 (w32_4 : Int32) (j384_u : Nat) (j384_v : Nat) (r613 : Int32 × gK × gI × gJ × gX × gI × gJ × gX × Nat) (Im627 : gI) (Am628 : gI) : Option ((Int32 × gK × gI × gJ × gX × gI × gJ × gX × Nat × Nat × Nat) ⊕ (Int32 × gK × gI × gJ × gX × gI × gJ × gX × Nat)) :=
  w_law_j1231 w32_4 r613.2.1 Im627 r613.2.2.2.1 r613.2.2.2.2.1 Am628 r613.2.2.2.2.2.2.1 r613.2.2.2.2.2.2.2.1 r613.2.2.2.2.2.2.2.2 (j384_u + 1) (j384_v + 6)

noncomputable def w_law_j384 (zz : Nat) (adS : Nat → Nat) (n : Nat) (L : Nat) (xs : Nat → Int32) (n10 : Nat) (n22 : Nat) (w32_4 : Int32) (j384_K : gK) (j384_I : gI) (j384_J : gJ) (j384_X : gX) (j384_A : gI) (j384_B : gJ) (j384_Q : gX) (j384_n : Nat) (j384_u : Nat) (j384_v : Nat) : Option ((Int32 × gK × gI × gJ × gX × gI × gJ × gX × Nat × Nat × Nat) ⊕ (Int32 × gK × gI × gJ × gX × gI × gJ × gX × Nat)) :=
  lt (w32_4 + (1 : Int32)) fun v604 =>
  gdp (vp_in v604 L) <|
  lt (xs v604.toNatClampNeg) fun v606 =>
  lt (w32_4 + (2 : Int32)) fun v607 =>
  gdp (vp_in v607 L) <|
  lt (xs v607.toNatClampNeg) fun v609 =>
  lt (w32_4 + (3 : Int32)) fun v610 =>
  gdp (vp_in v610 L) <|
  lt (xs v610.toNatClampNeg) fun v612 =>
  gdp (j384_u + 1 ≤ 1200128 ∧ j384_v + 6 ≤ 5501098) <|
  (w0_cell zz adS n v606 v609 v612 n22 j384_K j384_I j384_J j384_X j384_A j384_B j384_Q j384_n).bind fun r613 =>
  lt (w32_4 + (1 : Int32)) fun v615 =>
  gdp (vp_in v615 L) <|
  lt (xs v615.toNatClampNeg) fun v617 =>
  lt (w32_4 + (2 : Int32)) fun v618 =>
  gdp (vp_in v618 L) <|
  lt (xs v618.toNatClampNeg) fun v620 =>
  lt (w32_4 + (3 : Int32)) fun v621 =>
  gdp (vp_in v621 L) <|
  lt (xs v621.toNatClampNeg) fun v623 =>
  gdp ((j384_u + 1) ≤ 1200128 ∧ (j384_v + 6) ≤ 5501098) <|
  gdp (Sh r613.2.1 r613.2.2.2.2.1 n10 11 rows11) <|
  (f14_cell v617 v620 v623 (r613.2.2.1 1100 n10) (r613.2.2.1 1122 n10) (r613.2.2.2.2.2.1 (n10 + 2))).bind fun r624 =>
  lt ((ov r613.2.2.1 [(1100, n10, r624.2.1), (1122, n10, r624.2.2.1)])) fun Im627 =>
  lt ((ova r613.2.2.2.2.2.1 [((n10 + 2), r624.2.2.2)])) fun Am628 =>
  (f14_thrown (Im627 1100 n10)).bind fun r629 =>
  if r629 = r613.1 then
    if r613.1 = 0 then
      (alen r613.2.1 n22 3).bind fun n632 =>
      gdp (inb (0 : Int32) n632) <|
      lt (r613.2.2.2.2.2.2.1 n22 (0 : Int32).toNatClampNeg) fun v634 =>
      lt (r624.1.toInt64) fun v635 =>
      lt (lg_cmp v634 v635) fun v636 =>
      if v636 = 0 then
        w_law_j461 w32_4 j384_u j384_v r613 Im627 Am628
      else
        gdp ((j384_u + 1) ≤ 1200128 ∧ (j384_v + 6) ≤ 5501098) <|
        some (.inr ((0 : Int32), r613.2.1, Im627, r613.2.2.2.1, r613.2.2.2.2.1, Am628, r613.2.2.2.2.2.2.1, r613.2.2.2.2.2.2.2.1, r613.2.2.2.2.2.2.2.2))
    else
      w_law_j461 w32_4 j384_u j384_v r613 Im627 Am628
  else
    gdp ((j384_u + 1) ≤ 1200128 ∧ (j384_v + 6) ≤ 5501098) <|
    some (.inr ((0 : Int32), r613.2.1, Im627, r613.2.2.2.1, r613.2.2.2.2.1, Am628, r613.2.2.2.2.2.2.1, r613.2.2.2.2.2.2.2.1, r613.2.2.2.2.2.2.2.2))

noncomputable def w_law_j381 (w32_4 : Int32) (j316_u : Nat) (j316_v : Nat) (r646 : Int32 × gK × gI × gJ × gX × gI × gJ × gX × Nat) (Im657 : gI) (Am658 : gI) : Option ((Int32 × gK × gI × gJ × gX × gI × gJ × gX × Nat × Nat × Nat) ⊕ (Int32 × gK × gI × gJ × gX × gI × gJ × gX × Nat)) :=
  w_law_j1231 w32_4 r646.2.1 Im657 r646.2.2.2.1 r646.2.2.2.2.1 Am658 r646.2.2.2.2.2.2.1 r646.2.2.2.2.2.2.2.1 r646.2.2.2.2.2.2.2.2 (j316_u + 1) (j316_v + 6)

noncomputable def w_law_j316 (zz : Nat) (adS : Nat → Nat) (n : Nat) (L : Nat) (xs : Nat → Int32) (n10 : Nat) (n22 : Nat) (w32_4 : Int32) (j316_K : gK) (j316_I : gI) (j316_J : gJ) (j316_X : gX) (j316_A : gI) (j316_B : gJ) (j316_Q : gX) (j316_n : Nat) (j316_u : Nat) (j316_v : Nat) : Option ((Int32 × gK × gI × gJ × gX × gI × gJ × gX × Nat × Nat × Nat) ⊕ (Int32 × gK × gI × gJ × gX × gI × gJ × gX × Nat)) :=
  lt (w32_4 + (1 : Int32)) fun v640 =>
  gdp (vp_in v640 L) <|
  lt (xs v640.toNatClampNeg) fun v642 =>
  lt (w32_4 + (2 : Int32)) fun v643 =>
  gdp (vp_in v643 L) <|
  lt (xs v643.toNatClampNeg) fun v645 =>
  gdp (j316_u + 1 ≤ 1200128 ∧ j316_v + 6 ≤ 5501098) <|
  (w0_man zz adS n v642 v645 n22 j316_K j316_I j316_J j316_X j316_A j316_B j316_Q j316_n).bind fun r646 =>
  lt (w32_4 + (1 : Int32)) fun v648 =>
  gdp (vp_in v648 L) <|
  lt (xs v648.toNatClampNeg) fun v650 =>
  lt (w32_4 + (2 : Int32)) fun v651 =>
  gdp (vp_in v651 L) <|
  lt (xs v651.toNatClampNeg) fun v653 =>
  gdp ((j316_u + 1) ≤ 1200128 ∧ (j316_v + 6) ≤ 5501098) <|
  gdp (Sh r646.2.1 r646.2.2.2.2.1 n10 11 rows11) <|
  (f14_man v650 v653 (r646.2.2.1 1100 n10) (r646.2.2.1 1122 n10) (r646.2.2.2.2.2.1 (n10 + 2))).bind fun r654 =>
  lt ((ov r646.2.2.1 [(1100, n10, r654.2.1), (1122, n10, r654.2.2.1)])) fun Im657 =>
  lt ((ova r646.2.2.2.2.2.1 [((n10 + 2), r654.2.2.2)])) fun Am658 =>
  (f14_thrown (Im657 1100 n10)).bind fun r659 =>
  if r659 = r646.1 then
    if r646.1 = 0 then
      (alen r646.2.1 n22 3).bind fun n662 =>
      gdp (inb (0 : Int32) n662) <|
      lt (r646.2.2.2.2.2.2.1 n22 (0 : Int32).toNatClampNeg) fun v664 =>
      lt (r654.1.toInt64) fun v665 =>
      lt (lg_cmp v664 v665) fun v666 =>
      if v666 = 0 then
        w_law_j381 w32_4 j316_u j316_v r646 Im657 Am658
      else
        gdp ((j316_u + 1) ≤ 1200128 ∧ (j316_v + 6) ≤ 5501098) <|
        some (.inr ((0 : Int32), r646.2.1, Im657, r646.2.2.2.1, r646.2.2.2.2.1, Am658, r646.2.2.2.2.2.2.1, r646.2.2.2.2.2.2.2.1, r646.2.2.2.2.2.2.2.2))
    else
      w_law_j381 w32_4 j316_u j316_v r646 Im657 Am658
  else
    gdp ((j316_u + 1) ≤ 1200128 ∧ (j316_v + 6) ≤ 5501098) <|
    some (.inr ((0 : Int32), r646.2.1, Im657, r646.2.2.2.1, r646.2.2.2.2.1, Am658, r646.2.2.2.2.2.2.1, r646.2.2.2.2.2.2.2.1, r646.2.2.2.2.2.2.2.2))

noncomputable def w_law_j303 (n : Nat) (n10 : Nat) (w32_4 : Int32) (j303_K : gK) (j303_I : gI) (j303_J : gJ) (j303_X : gX) (j303_A : gI) (j303_B : gJ) (j303_Q : gX) (j303_n : Nat) (j303_u : Nat) (j303_v : Nat) : Option ((Int32 × gK × gI × gJ × gX × gI × gJ × gX × Nat × Nat × Nat) ⊕ (Int32 × gK × gI × gJ × gX × gI × gJ × gX × Nat)) :=
  gdp (j303_u ≤ 1200128 ∧ j303_v ≤ 5501098) <|
  gdp (Sh j303_K j303_X n 0 rows0) <|
  (f1_fault (j303_I 12 n)).bind fun r670 =>
  gdp (Sh j303_K j303_X n10 11 rows11) <|
  (f14_fault (j303_I 1100 n10) (j303_I 1110 n10)).bind fun r673 =>
  lt ((ov j303_I [(1100, n10, r673.2)])) fun Im675 =>
  if r670 = r673.1 then
    w_law_j1231 w32_4 j303_K Im675 j303_J j303_X j303_A j303_B j303_Q j303_n j303_u j303_v
  else
    gdp (j303_u ≤ 1200128 ∧ j303_v ≤ 5501098) <|
    some (.inr ((0 : Int32), j303_K, Im675, j303_J, j303_X, j303_A, j303_B, j303_Q, j303_n))

noncomputable def w_law_j290 (zz : Nat) (adS : Nat → Nat) (n : Nat) (n10 : Nat) (w32_4 : Int32) (w32_K : gK) (w32_n : Nat) (w32_u : Nat) (w32_v : Nat) (j290_I : gI) (j290_J : gJ) (j290_X : gX) (j290_A : gI) (j290_B : gJ) (j290_Q : gX) : Option ((Int32 × gK × gI × gJ × gX × gI × gJ × gX × Nat × Nat × Nat) ⊕ (Int32 × gK × gI × gJ × gX × gI × gJ × gX × Nat)) :=
  gdp (w32_K n = some (.inl 0)) <|
  gdp (w32_u + 18 ≤ 1200128 ∧ w32_v + 225 ≤ 5501098) <|
  (w1_yard zz adS n w32_K j290_I j290_J j290_X j290_A j290_B j290_Q w32_n).bind fun r679 =>
  gdp ((w32_u + 18) ≤ 1200128 ∧ (w32_v + 225) ≤ 5501098) <|
  gdp (Sh r679.2.1 r679.2.2.2.2.1 n10 11 rows11) <|
  (f14_yard (r679.2.2.1 1100 n10) (r679.2.2.1 1102 n10) (r679.2.2.1 1103 n10) (r679.2.2.1 1104 n10) (r679.2.2.1 1105 n10) (r679.2.2.1 1106 n10) (r679.2.2.1 1107 n10) (r679.2.2.1 1108 n10) (r679.2.2.1 1109 n10) (r679.2.2.1 1110 n10) (r679.2.2.1 1111 n10) (r679.2.2.1 1113 n10) (r679.2.2.1 1122 n10) (r679.2.2.1 1123 n10) (r679.2.2.2.1 1112 n10) (r679.2.2.2.2.2.1 (n10 + 1)) (r679.2.2.2.2.2.1 (n10 + 2)) (r679.2.2.2.2.2.1 (n10 + 3)) (r679.2.2.2.2.2.2.1 (n10 + 6)) (r679.2.2.2.2.2.2.1 (n10 + 7))).bind fun r681 =>
  lt ((ov r679.2.2.1 [(1100, n10, r681.2.1), (1102, n10, r681.2.2.1), (1103, n10, r681.2.2.2.1), (1104, n10, r681.2.2.2.2.1), (1105, n10, r681.2.2.2.2.2.1), (1106, n10, r681.2.2.2.2.2.2.1), (1107, n10, r681.2.2.2.2.2.2.2.1), (1108, n10, r681.2.2.2.2.2.2.2.2.1), (1109, n10, r681.2.2.2.2.2.2.2.2.2.1), (1110, n10, r681.2.2.2.2.2.2.2.2.2.2.1), (1111, n10, r681.2.2.2.2.2.2.2.2.2.2.2.1), (1113, n10, r681.2.2.2.2.2.2.2.2.2.2.2.2.1), (1122, n10, r681.2.2.2.2.2.2.2.2.2.2.2.2.2.1), (1123, n10, r681.2.2.2.2.2.2.2.2.2.2.2.2.2.2.1)])) fun Im684 =>
  lt ((ov r679.2.2.2.1 [(1112, n10, r681.2.2.2.2.2.2.2.2.2.2.2.2.2.2.2.1)])) fun Jm685 =>
  lt ((ova r679.2.2.2.2.2.1 [((n10 + 1), (r679.2.2.2.2.2.1 (n10 + 1))), ((n10 + 2), r681.2.2.2.2.2.2.2.2.2.2.2.2.2.2.2.2.1), ((n10 + 3), r681.2.2.2.2.2.2.2.2.2.2.2.2.2.2.2.2.2.1)])) fun Am686 =>
  lt ((ova r679.2.2.2.2.2.2.1 [((n10 + 6), r681.2.2.2.2.2.2.2.2.2.2.2.2.2.2.2.2.2.2.1), ((n10 + 7), r681.2.2.2.2.2.2.2.2.2.2.2.2.2.2.2.2.2.2.2)])) fun Bm687 =>
  if r679.1 = r681.1 then
    w_law_j1231 w32_4 r679.2.1 Im684 Jm685 r679.2.2.2.2.1 Am686 Bm687 r679.2.2.2.2.2.2.2.1 r679.2.2.2.2.2.2.2.2 (w32_u + 18) (w32_v + 225)
  else
    gdp ((w32_u + 18) ≤ 1200128 ∧ (w32_v + 225) ≤ 5501098) <|
    some (.inr ((0 : Int32), r679.2.1, Im684, Jm685, r679.2.2.2.2.1, Am686, Bm687, r679.2.2.2.2.2.2.2.1, r679.2.2.2.2.2.2.2.2))

noncomputable def w_law_j265 (n : Nat) (L : Nat) (xs : Nat → Int32) (n10 : Nat) (w32_4 : Int32) (w32_K : gK) (w32_n : Nat) (w32_u : Nat) (w32_v : Nat) (j265_I : gI) (j265_J : gJ) (j265_X : gX) (j265_A : gI) (j265_B : gJ) (j265_Q : gX) : Option ((Int32 × gK × gI × gJ × gX × gI × gJ × gX × Nat × Nat × Nat) ⊕ (Int32 × gK × gI × gJ × gX × gI × gJ × gX × Nat)) :=
  lt (w32_4 + (1 : Int32)) fun v690 =>
  gdp (vp_in v690 L) <|
  lt (xs v690.toNatClampNeg) fun v692 =>
  gdp (w32_u ≤ 1200128 ∧ w32_v ≤ 5501098) <|
  gdp (Sh w32_K j265_X n 0 rows0) <|
  (f1_end v692 (j265_I 1 n)).bind fun r693 =>
  lt ((ov j265_I [(1, n, r693.2)])) fun Im696 =>
  lt (w32_4 + (1 : Int32)) fun v697 =>
  gdp (vp_in v697 L) <|
  lt (xs v697.toNatClampNeg) fun v699 =>
  gdp (Sh w32_K j265_X n10 11 rows11) <|
  (f14_end v699 (Im696 1100 n10) (Im696 1102 n10)).bind fun r700 =>
  lt ((ov Im696 [(1100, n10, r700.2.1), (1102, n10, r700.2.2)])) fun Im702 =>
  if r693.1 = r700.1 then
    w_law_j1231 w32_4 w32_K Im702 j265_J j265_X j265_A j265_B j265_Q w32_n w32_u w32_v
  else
    gdp (w32_u ≤ 1200128 ∧ w32_v ≤ 5501098) <|
    some (.inr ((0 : Int32), w32_K, Im702, j265_J, j265_X, j265_A, j265_B, j265_Q, w32_n))

noncomputable def w_law_j192 (n : Nat) (L : Nat) (xs : Nat → Int32) (n10 : Nat) (w32_4 : Int32) (w32_K : gK) (w32_I : gI) (w32_J : gJ) (w32_X : gX) (w32_A : gI) (w32_B : gJ) (w32_Q : gX) (w32_n : Nat) (w32_u : Nat) (w32_v : Nat) : Option ((Int32 × gK × gI × gJ × gX × gI × gJ × gX × Nat × Nat × Nat) ⊕ (Int32 × gK × gI × gJ × gX × gI × gJ × gX × Nat)) :=
  lt (w32_4 + (1 : Int32)) fun v705 =>
  gdp (vp_in v705 L) <|
  lt (xs v705.toNatClampNeg) fun v707 =>
  lt (w32_4 + (2 : Int32)) fun v708 =>
  gdp (vp_in v708 L) <|
  lt (xs v708.toNatClampNeg) fun v710 =>
  lt (w32_4 + (3 : Int32)) fun v711 =>
  gdp (vp_in v711 L) <|
  lt (xs v711.toNatClampNeg) fun v713 =>
  lt (w32_4 + (4 : Int32)) fun v714 =>
  gdp (vp_in v714 L) <|
  lt (xs v714.toNatClampNeg) fun v716 =>
  lt (w32_4 + (5 : Int32)) fun v717 =>
  gdp (vp_in v717 L) <|
  lt (xs v717.toNatClampNeg) fun v719 =>
  gdp (w32_u ≤ 1200128 ∧ w32_v ≤ 5501098) <|
  gdp (Sh w32_K w32_X n 0 rows0) <|
  (f1_feed v707 v710 v713 v716 v719 (w32_I 1 n) (w32_A (n + 1))).bind fun r720 =>
  lt ((ov w32_I [(1, n, r720.2.1)])) fun Im723 =>
  lt ((ova w32_A [((n + 1), r720.2.2)])) fun Am724 =>
  lt (w32_4 + (1 : Int32)) fun v725 =>
  gdp (vp_in v725 L) <|
  lt (xs v725.toNatClampNeg) fun v727 =>
  lt (w32_4 + (2 : Int32)) fun v728 =>
  gdp (vp_in v728 L) <|
  lt (xs v728.toNatClampNeg) fun v730 =>
  lt (w32_4 + (3 : Int32)) fun v731 =>
  gdp (vp_in v731 L) <|
  lt (xs v731.toNatClampNeg) fun v733 =>
  lt (w32_4 + (4 : Int32)) fun v734 =>
  gdp (vp_in v734 L) <|
  lt (xs v734.toNatClampNeg) fun v736 =>
  lt (w32_4 + (5 : Int32)) fun v737 =>
  gdp (vp_in v737 L) <|
  lt (xs v737.toNatClampNeg) fun v739 =>
  gdp (Sh w32_K w32_X n10 11 rows11) <|
  (f14_feed v727 v730 v733 v736 v739 (Im723 1100 n10) (Im723 1102 n10) (Am724 (n10 + 1))).bind fun r740 =>
  lt ((ov Im723 [(1100, n10, r740.2.1), (1102, n10, r740.2.2.1)])) fun Im742 =>
  lt ((ova Am724 [((n10 + 1), r740.2.2.2)])) fun Am743 =>
  if r720.1 = r740.1 then
    w_law_j1231 w32_4 w32_K Im742 w32_J w32_X Am743 w32_B w32_Q w32_n w32_u w32_v
  else
    gdp (w32_u ≤ 1200128 ∧ w32_v ≤ 5501098) <|
    some (.inr ((0 : Int32), w32_K, Im742, w32_J, w32_X, Am743, w32_B, w32_Q, w32_n))

noncomputable def w_law_s32 (zz : Nat) (adS : Nat → Nat) (n : Nat) (L : Nat) (xs : Nat → Int32) (n10 : Nat) (n22 : Nat) (w32_4 : Int32) (w32_K : gK) (w32_I : gI) (w32_J : gJ) (w32_X : gX) (w32_A : gI) (w32_B : gJ) (w32_Q : gX) (w32_n : Nat) (w32_u : Nat) (w32_v : Nat) : Option ((Int32 × gK × gI × gJ × gX × gI × gJ × gX × Nat × Nat × Nat) ⊕ (Int32 × gK × gI × gJ × gX × gI × gJ × gX × Nat)) :=
  lt ((Int32.ofNat L) - (6 : Int32)) fun v33 =>
  if v33 < w32_4 then
    gdp (w32_u ≤ 1200128 ∧ w32_v ≤ 5501098) <|
    some (.inr ((1 : Int32), w32_K, w32_I, w32_J, w32_X, w32_A, w32_B, w32_Q, w32_n))
  else
    gdp (vp_in w32_4 L) <|
    lt (xs w32_4.toNatClampNeg) fun v37 =>
    lt (v37 &&& (63 : Int32)) fun v38 =>
    if v38 = 0 then
      w_law_j192 n L xs n10 w32_4 w32_K w32_I w32_J w32_X w32_A w32_B w32_Q w32_n w32_u w32_v
    else
    if v38 = 1 then
      w_law_j265 n L xs n10 w32_4 w32_K w32_n w32_u w32_v w32_I w32_J w32_X w32_A w32_B w32_Q
    else
    if v38 = 2 then
      w_law_j290 zz adS n n10 w32_4 w32_K w32_n w32_u w32_v w32_I w32_J w32_X w32_A w32_B w32_Q
    else
    if v38 = 3 then
      w_law_j303 n n10 w32_4 w32_K w32_I w32_J w32_X w32_A w32_B w32_Q w32_n w32_u w32_v
    else
    if v38 = 4 then
      w_law_j316 zz adS n L xs n10 n22 w32_4 w32_K w32_I w32_J w32_X w32_A w32_B w32_Q w32_n w32_u w32_v
    else
    if v38 = 5 then
      w_law_j384 zz adS n L xs n10 n22 w32_4 w32_K w32_I w32_J w32_X w32_A w32_B w32_Q w32_n w32_u w32_v
    else
    if v38 = 6 then
      w_law_j464 n L xs n10 w32_4 w32_K w32_I w32_J w32_X w32_A w32_B w32_Q w32_n w32_u w32_v
    else
    if v38 = 7 then
      w_law_j489 n L xs n10 w32_4 w32_K w32_I w32_J w32_X w32_A w32_B w32_Q w32_n w32_u w32_v
    else
    if v38 = 8 then
      w_law_j514 n L xs n10 w32_4 w32_K w32_I w32_J w32_X w32_A w32_B w32_Q w32_n w32_u w32_v
    else
    if v38 = 9 then
      w_law_j539 n n10 w32_4 w32_K w32_I w32_J w32_X w32_A w32_B w32_Q w32_n w32_u w32_v
    else
    if v38 = 10 then
      w_law_j552 n n10 w32_4 w32_K w32_I w32_J w32_X w32_A w32_B w32_Q w32_n w32_u w32_v
    else
    if v38 = 11 then
      w_law_j565 n L xs n10 w32_4 w32_K w32_I w32_J w32_X w32_A w32_B w32_Q w32_n w32_u w32_v
    else
    if v38 = 12 then
      w_law_j590 n L xs n10 w32_4 w32_K w32_I w32_J w32_X w32_A w32_B w32_Q w32_n w32_u w32_v
    else
    if v38 = 13 then
      w_law_j615 n L xs n10 w32_4 w32_K w32_I w32_J w32_X w32_A w32_B w32_Q w32_n w32_u w32_v
    else
    if v38 = 14 then
      w_law_j640 zz adS n L xs n10 n22 w32_4 w32_K w32_I w32_J w32_X w32_A w32_B w32_Q w32_n w32_u w32_v
    else
    if v38 = 15 then
      w_law_j708 n L xs n10 w32_4 w32_K w32_I w32_J w32_X w32_A w32_B w32_Q w32_n w32_u w32_v
    else
    if v38 = 16 then
      w_law_j733 n L xs n10 w32_4 w32_K w32_I w32_J w32_X w32_A w32_B w32_Q w32_n w32_u w32_v
    else
    if v38 = 17 then
      w_law_j758 n n10 w32_4 w32_K w32_I w32_J w32_X w32_A w32_B w32_Q w32_n w32_u w32_v
    else
    if v38 = 18 then
      w_law_j771 n L xs n10 w32_4 w32_K w32_I w32_J w32_X w32_A w32_B w32_Q w32_n w32_u w32_v
    else
    if v38 = 19 then
      w_law_j796 n L xs n10 w32_4 w32_K w32_I w32_J w32_X w32_A w32_B w32_Q w32_n w32_u w32_v
    else
    if v38 = 20 then
      w_law_j821 zz adS n L xs n10 w32_4 w32_K w32_I w32_J w32_X w32_A w32_B w32_Q w32_n w32_u w32_v
    else
    if v38 = 21 then
      w_law_j882 zz adS n L xs n10 w32_4 w32_K w32_I w32_J w32_X w32_A w32_B w32_Q w32_n w32_u w32_v
    else
    if v38 = 22 then
      w_law_j931 n n10 w32_4 w32_K w32_I w32_J w32_X w32_A w32_B w32_Q w32_n w32_u w32_v
    else
    if v38 = 23 then
      w_law_j944 n L xs n10 w32_4 w32_K w32_I w32_J w32_X w32_A w32_B w32_Q w32_n w32_u w32_v
    else
    if v38 = 24 then
      w_law_j981 n L xs n10 w32_4 w32_K w32_I w32_J w32_X w32_A w32_B w32_Q w32_n w32_u w32_v
    else
    if v38 = 25 then
      w_law_j1006 n L xs n10 w32_4 w32_K w32_I w32_J w32_X w32_A w32_B w32_Q w32_n w32_u w32_v
    else
    if v38 = 26 then
      w_law_j1031 n L xs n10 w32_4 w32_K w32_I w32_J w32_X w32_A w32_B w32_Q w32_n w32_u w32_v
    else
    if v38 = 27 then
      w_law_j1068 zz adS n n10 w32_4 w32_K w32_I w32_J w32_X w32_A w32_B w32_Q w32_n w32_u w32_v
    else
    if v38 = 28 then
      w_law_j1081 zz adS n L xs n10 w32_4 w32_K w32_I w32_J w32_X w32_A w32_B w32_Q w32_n w32_u w32_v
    else
    if v38 = 29 then
      w_law_j1118 zz adS n n10 w32_4 w32_K w32_I w32_J w32_X w32_A w32_B w32_Q w32_n w32_u w32_v
    else
    if v38 = 30 then
      w_law_j1131 zz adS n L xs n10 w32_4 w32_K w32_I w32_J w32_X w32_A w32_B w32_Q w32_n w32_u w32_v
    else
    if v38 = 31 then
      w_law_j1156 zz adS n L xs n10 w32_4 w32_K w32_I w32_J w32_X w32_A w32_B w32_Q w32_n w32_u w32_v
    else
    if v38 = 32 then
      w_law_j1181 zz adS n L xs n10 w32_4 w32_K w32_I w32_J w32_X w32_A w32_B w32_Q w32_n w32_u w32_v
    else
    if v38 = 33 then
      w_law_j1206 n L xs n10 w32_4 w32_K w32_I w32_J w32_X w32_A w32_B w32_Q w32_n w32_u w32_v
    else
    w_law_j1231 w32_4 w32_K w32_I w32_J w32_X w32_A w32_B w32_Q w32_n w32_u w32_v

noncomputable def w_law (zz : Nat) (adS : Nat → Nat) (L : Nat) (xs : Nat → Int32) (K : gK) (I : gI) (J : gJ) (X : gX) (A : gI) (B : gJ) (Q : gX) (n : Nat) : Option (Int32 × gK × gI × gJ × gX × gI × gJ × gX × Nat) :=
  gdp (freshz zz K n) <|
  gdp (0 + 126 ≤ 1200128 ∧ 0 + 4370 ≤ 5501098) <|
  lt (bK K n KS_i1) fun Km3 =>
  lt (bm 0 I n 126 LI_i1) fun Im4 =>
  lt (bm 0 J n 126 LJ_i1) fun Jm5 =>
  lt (bm none X n 126 (LX_i1 n)) fun Xm6 =>
  lt (ba z0 A n 126 LA_i1) fun Am7 =>
  lt (ba z1 B n 126 []) fun Bm8 =>
  lt (ba z2 Q n 126 (LQ1 adS n)) fun Qm9 =>
  lt (n + 126) fun n10 =>
  lt (0 + 126) fun u11 =>
  lt (0 + 4370) fun v12 =>
  gdp (freshz zz Km3 n10) <|
  gdp (u11 + 45 ≤ 1200128 ∧ v12 + 13708 ≤ 5501098) <|
  lt (bK Km3 n10 KS_i14) fun Km15 =>
  lt (bm 0 Im4 n10 45 LI_i14) fun Im16 =>
  lt (bm 0 Jm5 n10 45 LJ_i14) fun Jm17 =>
  lt (bm none Xm6 n10 45 (LX_i14 n10)) fun Xm18 =>
  lt (ba z0 Am7 n10 45 LA_i14) fun Am19 =>
  lt (ba z1 Bm8 n10 45 []) fun Bm20 =>
  lt (ba z2 Qm9 n10 45 []) fun Qm21 =>
  lt (n10 + 45) fun n22 =>
  lt (u11 + 45) fun u23 =>
  lt (v12 + 13708) fun v24 =>
  gdp (freshz zz Km15 n22) <|
  gdp (u23 + 1 ≤ 1200128 ∧ v24 + 1 ≤ 5501098) <|
  lt (a_up Km15 n22 (some (.inr (3, 1)))) fun Km27 =>
  lt (a_up Bm20 n22 (fun _ => 0)) fun Bm28 =>
  lt (n22 + 1) fun n29 =>
  lt (u23 + 1) fun u30 =>
  lt (v24 + 1) fun v31 =>
  (whl (fun (s32 : Int32 × gK × gI × gJ × gX × gI × gJ × gX × Nat × Nat × Nat) => w_law_s32 zz adS n L xs n10 n22 s32.1 s32.2.1 s32.2.2.1 s32.2.2.2.1 s32.2.2.2.2.1 s32.2.2.2.2.2.1 s32.2.2.2.2.2.2.1 s32.2.2.2.2.2.2.2.1 s32.2.2.2.2.2.2.2.2.1 s32.2.2.2.2.2.2.2.2.2.1 s32.2.2.2.2.2.2.2.2.2.2) FU ((0 : Int32), Km27, Im16, Jm17, Xm18, Am19, Bm28, Qm21, n29, u30, v31)).bind fun rl32 =>
  w_law_e32_0 rl32
set_option maxHeartbeats 40000000 in
theorem law_go {p : Program} {e : Env} {s : State} {m : MethodId} {below : List Frame} {meth : Method} {c : Code} {ls : Array Slot} (l : Launch) (hlS : l.stackTraces = false) (G : gG) (K : gK) (I : gI) (J : gJ) (X : gX) (A : gI) (B : gJ) (Q : gX) (n b L : Nat) (xs : Nat → Int32) (out : Int32 × gK × gI × gJ × gX × gI × gJ × gX × Nat) (hf : w_law G.2.2 (aK G) L xs K I J X A B Q n = some out) (ho : out.1 = 1)
    (hx : p.tables.exec = Jvm.exec) (hb : c.code = cL_law) (hr : meth.sig.returnType = ret) (hml : c.maxLocals = 7) (hlocks : meth.locks = false) (hts : ∀ w ∈ lw_all, w.before #[Value.ref b] s = true) (hown : s.vm.findClass RX0 = some m.cls) (hX : va_X b L xs s s.heap) (hbl : b < s.heap.size) (hzG : G.2.2 = s.heap.size) (hG : GC G s) (hR : RS G K I J X A B Q s.heap) (hW : SW G s s.heap) (hl : lv_has ls 7 [(0, .ref b)]) :
    W p l e ({ frames := 8192, cells := 1200128, slots := 5501098, locals := 100000 } : Room) s m #[Value.ref b] below meth c s.heap [] 0 0 (lw_Z below #[Value.ref b] s) (F0 m 0 ls []) := by
  have hS : va_S (gA G) s.heap s.heap [] := va_S.rf
  have hbA : ¬ gA G b := by show ¬ G.2.2 ≤ b; omega
  have k0 : True := trivial
  have hz : True → G.2.2 ≤ s.heap.size := fun _ => Nat.le_of_eq hzG
  have hend : ∀ (pc : Nat) (H : Heap) (locs : List Loc) (ls : Array Slot), decode cL_law pc = .ok (.ireturn, 1) → narrow .boolean (.int out.1) = .int out.1 → RS G out.2.1 out.2.2.1 out.2.2.2.1 out.2.2.2.2.1 out.2.2.2.2.2.1 out.2.2.2.2.2.2.1 out.2.2.2.2.2.2.2.1 H → va_S (gA G) s.heap H locs → W p l e ({ frames := 8192, cells := 1200128, slots := 5501098, locals := 100000 } : Room) s m #[Value.ref b] below meth c H locs 1200128 5501098 (lw_Z below #[Value.ref b] s) (F0 m pc ls [.int out.1]) := fun pc H locs ls hd _ hR hS => by rw [ho]; exact va_forget (fun q hq => hzG ▸ hS.2.2 q hq) (lw_ret hx hb hr hlocks hd)
  generalize lw_Z below #[Value.ref b] s = Z at hend ⊢
  generalize (#[Value.ref b] : Array Value) = args at hts hend ⊢
  unfold w_law at hf
  obtain ⟨c1, hf⟩ := gdp_some hf
  obtain ⟨c2, hf⟩ := gdp_some hf
  refine b_new (ci := 0) (T := TX1) (N := 52) hx hb hts in_X1 tyX1 tyX1_ok hown (hts _ q135) (hts _ q136) (hts _ q103) hG (BR.start (fz c1) hR) hS (hz k0) rfl (by decide) hdv_0 (by have := c2.1; show _ ≤ 1200128; (try dsimp only at this ⊢); omega) (by have := c2.2; show _ ≤ 5501098; (try dsimp only at this ⊢); omega) dL_law_0 (fun H hB hS => ?_)
  refine lv_dup hx hb dL_law_3 rfl ?_
  refine b_cIY (rm := (4, 80)) (As := []) (rest := [.ref n]) (mc := 125) (ms := 4318) (ks2 := KS_i1) (li2 := LI_i1) (lj2 := LJ_i1) (lx2 := LX_i1 (n + 0)) (la2 := LA_i1) (lb2 := []) (lq2 := LQ_i1 G (n + 0)) ⟨hx, hb, hml, hown, hts⟩ hG hB hS hS hW rfl ⟨nofun, nofun, nofun, nofun, nofun, nofun⟩ (fun K I J X A B Q hF => i1 l G K I J X A B Q (n + 0) hF) ⟨callB_of 0 hts (lw_meth q139) rfl rfl rfl (hts _ q103) (hts _ q137) (by decide +kernel) ⟨Nat.le_of_ble_eq_true rfl, Nat.le_of_ble_eq_true rfl⟩, rfl, hts _ q138⟩ rfl hl.1 (Nat.le_of_ble_eq_true rfl) dL_law_4 ⟨(by have := c2.1; show _ ≤ 1200128; (try dsimp only at this ⊢); omega), (by have := c2.2; show _ ≤ 5501098; (try dsimp only at this ⊢); omega)⟩ rfl rfl (io_i1 G (n + 0)) rfl rfl rfl rfl rfl rfl rfl (fun H locs hB hS => ?_)
  have hR : RS G (bK K n KS_i1) (bm 0 I n 126 LI_i1) (bm 0 J n 126 LJ_i1) (bm none X n 126 (LX_i1 n)) (ba z0 A n 126 LA_i1) (ba z1 B n 126 []) (ba z2 Q n 126 (LQ_i1 G n)) H := hB.2.2.2
  obtain ⟨Km3, eKm3, hf⟩ := lt_some hf
  obtain ⟨Im4, eIm4, hf⟩ := lt_some hf
  obtain ⟨Jm5, eJm5, hf⟩ := lt_some hf
  obtain ⟨Xm6, eXm6, hf⟩ := lt_some hf
  obtain ⟨Am7, eAm7, hf⟩ := lt_some hf
  obtain ⟨Bm8, eBm8, hf⟩ := lt_some hf
  obtain ⟨Qm9, eQm9, hf⟩ := lt_some hf
  have hR : RS G (bK K n KS_i1) Im4 Jm5 Xm6 Am7 Bm8 Qm9 H := hR.to eIm4.symm eJm5.symm eXm6.symm eAm7.symm eBm8.symm eQm9.symm
  rw [← eKm3] at hR
  obtain ⟨n10, en10, hf⟩ := lt_some hf
  obtain ⟨u11, eu11, hf⟩ := lt_some hf
  obtain ⟨v12, ev12, hf⟩ := lt_some hf
  refine W.widen (k := u11) (n := v12) (by (try dsimp only); omega) (by (try dsimp only); omega) ?_
  refine lv_astore_n (lv' := [(1, .ref n), (0, .ref b)]) hx hb dL_law_7 rfl hl (by decide) (by first | rfl | simp [va_rf_c]) (fun ls hl => ?_)
  obtain ⟨c13, hf⟩ := gdp_some hf
  obtain ⟨c14, hf⟩ := gdp_some hf
  refine b_new (ci := 11) (T := TX14) (N := 91) hx hb hts in_X14 tyX14 tyX14_ok hown (hts _ q1610) (hts _ q1611) (hts _ q118) hG (BR.start (fz c13) hR) hS (hz k0) rfl (by decide) hdv_11 (by have := c14.1; show _ ≤ 1200128; (try dsimp only at this ⊢); omega) (by have := c14.2; show _ ≤ 5501098; (try dsimp only at this ⊢); omega) dL_law_8 (fun H hB hS => ?_)
  refine lv_dup hx hb dL_law_11 rfl ?_
  refine b_cI (rm := (1, 12)) (As := []) (rest := [.ref n10]) (mc := 44) (ms := 13617) (ks2 := KS_i14) (li2 := LI_i14) (lj2 := LJ_i14) (lx2 := LX_i14 (n10 + 0)) (la2 := LA_i14) (lb2 := []) (lq2 := LQ_i14 G (n10 + 0)) ⟨hx, hb, hml, hown, hts⟩ hG hB hS rfl ⟨nofun, nofun, nofun, nofun, nofun, nofun⟩ (fun K I J X A B Q hF => i14 l G K I J X A B Q (n10 + 0) hF) ⟨callB_of 0 hts (lw_meth q1614) rfl rfl rfl (hts _ q118) (hts _ q1612) (by decide +kernel) ⟨Nat.le_of_ble_eq_true rfl, Nat.le_of_ble_eq_true rfl⟩, rfl, hts _ q1613⟩ rfl hl.1 (Nat.le_of_ble_eq_true rfl) dL_law_12 ⟨(by have := c14.1; show _ ≤ 1200128; (try dsimp only at this ⊢); omega), (by have := c14.2; show _ ≤ 5501098; (try dsimp only at this ⊢); omega)⟩ rfl rfl (io_i14 G (n10 + 0)) rfl rfl rfl rfl rfl rfl rfl (fun H locs hB hS => ?_)
  have hR : RS G (bK Km3 n10 KS_i14) (bm 0 Im4 n10 45 LI_i14) (bm 0 Jm5 n10 45 LJ_i14) (bm none Xm6 n10 45 (LX_i14 n10)) (ba z0 Am7 n10 45 LA_i14) (ba z1 Bm8 n10 45 []) (ba z2 Qm9 n10 45 (LQ_i14 G n10)) H := hB.2.2.2
  obtain ⟨Km15, eKm15, hf⟩ := lt_some hf
  obtain ⟨Im16, eIm16, hf⟩ := lt_some hf
  obtain ⟨Jm17, eJm17, hf⟩ := lt_some hf
  obtain ⟨Xm18, eXm18, hf⟩ := lt_some hf
  obtain ⟨Am19, eAm19, hf⟩ := lt_some hf
  obtain ⟨Bm20, eBm20, hf⟩ := lt_some hf
  obtain ⟨Qm21, eQm21, hf⟩ := lt_some hf
  have hR : RS G (bK Km3 n10 KS_i14) Im16 Jm17 Xm18 Am19 Bm20 Qm21 H := hR.to eIm16.symm eJm17.symm eXm18.symm eAm19.symm eBm20.symm eQm21.symm
  rw [← eKm15] at hR
  obtain ⟨n22, en22, hf⟩ := lt_some hf
  obtain ⟨u23, eu23, hf⟩ := lt_some hf
  obtain ⟨v24, ev24, hf⟩ := lt_some hf
  refine W.widen (k := u23) (n := v24) (by (try dsimp only); omega) (by (try dsimp only); omega) ?_
  refine lv_astore_n (lv' := [(2, .ref n10), (1, .ref n), (0, .ref b)]) hx hb dL_law_15 rfl hl (by decide) (by first | rfl | simp [va_rf_c]) (fun ls hl => ?_)
  refine lv_iconst (v := 1) hx hb dL_law_16 li_1 ?_
  obtain ⟨c25, hf⟩ := gdp_some hf
  obtain ⟨c26, hf⟩ := gdp_some hf
  refine s_newal (n := n22) (N := 1) hx hb (hts _ q1890) hG hR c25 hS (hz k0) (by decide) (by decide) (Nat.le_of_ble_eq_true rfl) c26.1 c26.2 dL_law_17 (fun H hR hS => ?_)
  obtain ⟨Km27, eKm27, hf⟩ := lt_some hf
  obtain ⟨Bm28, eBm28, hf⟩ := lt_some hf
  rw [← eKm27, ← eBm28] at hR
  obtain ⟨n29, en29, hf⟩ := lt_some hf
  obtain ⟨u30, eu30, hf⟩ := lt_some hf
  obtain ⟨v31, ev31, hf⟩ := lt_some hf
  refine W.widen (k := u30) (n := v31) (Nat.le_of_eq eu30.symm) (Nat.le_of_eq ev31.symm) ?_
  refine lv_astore_n (lv' := [(3, .ref n22), (2, .ref n10), (1, .ref n), (0, .ref b)]) hx hb dL_law_19 rfl hl (by decide) (by first | rfl | simp [va_rf_c]) (fun ls hl => ?_)
  refine lv_iconst (v := 0) hx hb dL_law_20 li_0 ?_
  refine lv_istore (lv' := [(4, .int (0 : Int32)), (3, .ref n22), (2, .ref n10), (1, .ref n), (0, .ref b)]) hx hb dL_law_21 hl (by decide) rfl (fun ls hl => ?_)
  obtain ⟨rl32, hw32, hfo32⟩ := bind_s hf
  have hx32_0 : ∀ (x32_0 : Int32 × gK × gI × gJ × gX × gI × gJ × gX × Nat), w_law_e32_0 x32_0 = some out → ∀ (pc : Nat) (H : Heap) (locs : List Loc) (ls : Array Slot), decode cL_law pc = .ok (.ireturn, 1) → narrow .boolean (.int x32_0.1) = .int x32_0.1 → RS G x32_0.2.1 x32_0.2.2.1 x32_0.2.2.2.1 x32_0.2.2.2.2.1 x32_0.2.2.2.2.2.1 x32_0.2.2.2.2.2.2.1 x32_0.2.2.2.2.2.2.2.1 H → va_S (gA G) s.heap H locs → W p l e ({ frames := 8192, cells := 1200128, slots := 5501098, locals := 100000 } : Room) s m args below meth c H locs 1200128 5501098 Z (F0 m pc ls [.int x32_0.1]) := by
    intro x32_0 hf pc H locs ls hd hz hR hS
    unfold w_law_e32_0 at hf
    obtain rfl := some_i hf
    exact hend _ _ _ _ hd hz hR hS
  refine whl_walk (P := fun (s32 : Int32 × gK × gI × gJ × gX × gI × gJ × gX × Nat × Nat × Nat) => ∀ (H : Heap) (locs : List Loc) (ls : Array Slot), RS G s32.2.1 s32.2.2.1 s32.2.2.2.1 s32.2.2.2.2.1 s32.2.2.2.2.2.1 s32.2.2.2.2.2.2.1 s32.2.2.2.2.2.2.2.1 H → va_S (gA G) s.heap H locs → lv_has ls 7 [(0, .ref b), (1, .ref n), (2, .ref n10), (3, .ref n22), (4, .int s32.1)] → W p l e ({ frames := 8192, cells := 1200128, slots := 5501098, locals := 100000 } : Room) s m args below meth c H locs s32.2.2.2.2.2.2.2.2.2.1 s32.2.2.2.2.2.2.2.2.2.2 Z (F0 m 23 ls [])) (r := rl32) ?_ FU _ hw32 _ _ _ hR hS (lv_sub hl [4, 3, 2, 1, 0] rfl)
  clear hR hS hl hf
  intro s32 o32 hf hk32 H locs ls hR hS hl
  obtain ⟨w32_4, w32_K, w32_I, w32_J, w32_X, w32_A, w32_B, w32_Q, w32_n, w32_u, w32_v⟩ := s32
  have hf : w_law_s32 G.2.2 (aK G) n L xs n10 n22 w32_4 w32_K w32_I w32_J w32_X w32_A w32_B w32_Q w32_n w32_u w32_v = some o32 := hf
  have hR : RS G w32_K w32_I w32_J w32_X w32_A w32_B w32_Q H := hR
  have hl : lv_has ls 7 [(0, .ref b), (1, .ref n), (2, .ref n10), (3, .ref n22), (4, .int w32_4)] := hl
  unfold w_law_s32 at hf
  refine lv_iload hx hb dL_law_23 (lv_at hl 4 rfl) ?_
  refine lv_aload_n hx hb dL_law_25 rfl (lv_at hl 0 rfl) ?_
  refine va_slen hx hb hX hbl hbA hS dL_law_26 ?_
  refine lv_bipush (v := 6) hx hb dL_law_27 lb_6 ?_
  obtain ⟨v33, ev33, hf⟩ := lt_some hf
  refine n_isub hx hb ev33 dL_law_29 ?_
  refine lv_icmp_gt (tgt := 1237) hx hb dL_law_30 (by decide) (fun c34 => ?_) (fun c34 => ?_)
  · have hf := ite_t c34 hf
    refine lv_iconst (v := 1) hx hb dL_law_1237 li_1 ?_
    obtain ⟨c35, hf⟩ := gdp_some hf
    refine W.widen c35.1 c35.2 ?_
    obtain rfl := some_i hf
    replace hk32 : _ = rl32 := hk32
    subst hk32
    exact hx32_0 ((1 : Int32), w32_K, w32_I, w32_J, w32_X, w32_A, w32_B, w32_Q, w32_n) hfo32 _ _ _ _ dL_law_1238 nz_1 hR hS
  · have hf := ite_f c34 hf
    refine lv_aload_n hx hb dL_law_33 rfl (lv_at hl 0 rfl) ?_
    refine lv_iload hx hb dL_law_34 (lv_at hl 4 rfl) ?_
    obtain ⟨c36, hf⟩ := gdp_some hf
    obtain ⟨v37, ev37, hf⟩ := lt_some hf
    refine va_sld hx hb hX hbl hbA hS c36 dL_law_36 ?_
    rw [← ev37]
    refine lv_bipush (v := 63) hx hb dL_law_37 lb_63 ?_
    obtain ⟨v38, ev38, hf⟩ := lt_some hf
    refine n_iand hx hb ev38 dL_law_39 ?_
    have hj1231 : ∀ (j1231_K : gK) (j1231_I : gI) (j1231_J : gJ) (j1231_X : gX) (j1231_A : gI) (j1231_B : gJ) (j1231_Q : gX) (j1231_n : Nat) (j1231_u : Nat) (j1231_v : Nat), w_law_j1231 w32_4 j1231_K j1231_I j1231_J j1231_X j1231_A j1231_B j1231_Q j1231_n j1231_u j1231_v = some o32 → ∀ (H : Heap) (locs : List Loc) (ls : Array Slot), RS G j1231_K j1231_I j1231_J j1231_X j1231_A j1231_B j1231_Q H → va_S (gA G) s.heap H locs → lv_has ls 7 [(0, .ref b), (1, .ref n), (2, .ref n10), (3, .ref n22), (4, .int w32_4)] → W p l e ({ frames := 8192, cells := 1200128, slots := 5501098, locals := 100000 } : Room) s m args below meth c H locs j1231_u j1231_v Z (F0 m 1231 ls []) := by
      intro j1231_K j1231_I j1231_J j1231_X j1231_A j1231_B j1231_Q j1231_n j1231_u j1231_v hf H locs ls hR hS hl
      unfold w_law_j1231 at hf
      obtain ⟨v39, ev39, hf⟩ := lt_some hf
      refine lv_iinc (k := 4) (v := v39) (lv' := [(4, .int v39), (0, .ref b), (1, .ref n), (2, .ref n10), (3, .ref n22)]) hx hb dL_law_1231 hl rfl (by rw [ev39]; rfl) (by decide) rfl (fun ls hl => ?_)
      refine lv_goto (tgt := 23) hx hb dL_law_1234 (by decide) ?_
      obtain rfl := some_i hf
      exact hk32 _ _ _ hR hS (lv_sub hl [1, 2, 3, 4, 0] rfl)
    have hj1206 : ∀ (j1206_K : gK) (j1206_I : gI) (j1206_J : gJ) (j1206_X : gX) (j1206_A : gI) (j1206_B : gJ) (j1206_Q : gX) (j1206_n : Nat) (j1206_u : Nat) (j1206_v : Nat), w_law_j1206 n L xs n10 w32_4 j1206_K j1206_I j1206_J j1206_X j1206_A j1206_B j1206_Q j1206_n j1206_u j1206_v = some o32 → ∀ (H : Heap) (locs : List Loc) (ls : Array Slot), RS G j1206_K j1206_I j1206_J j1206_X j1206_A j1206_B j1206_Q H → va_S (gA G) s.heap H locs → lv_has ls 7 [(0, .ref b), (1, .ref n), (2, .ref n10), (3, .ref n22), (4, .int w32_4)] → W p l e ({ frames := 8192, cells := 1200128, slots := 5501098, locals := 100000 } : Room) s m args below meth c H locs j1206_u j1206_v Z (F0 m 1206 ls []) := by
      intro j1206_K j1206_I j1206_J j1206_X j1206_A j1206_B j1206_Q j1206_n j1206_u j1206_v hf H locs ls hR hS hl
      unfold w_law_j1206 at hf
      refine lv_aload_n hx hb dL_law_1206 rfl (lv_at hl 1 rfl) ?_
      refine lv_aload_n hx hb dL_law_1207 rfl (lv_at hl 0 rfl) ?_
      refine lv_iload hx hb dL_law_1208 (lv_at hl 4 rfl) ?_
      refine lv_iconst (v := 1) hx hb dL_law_1210 li_1 ?_
      obtain ⟨v40, ev40, hf⟩ := lt_some hf
      refine n_iadd hx hb ev40 dL_law_1211 ?_
      obtain ⟨c41, hf⟩ := gdp_some hf
      obtain ⟨v42, ev42, hf⟩ := lt_some hf
      refine va_sld hx hb hX hbl hbA hS c41 dL_law_1212 ?_
      rw [← ev42]
      obtain ⟨c44, hf⟩ := gdp_some hf
      obtain ⟨a45, ha45, hf⟩ := bind_s hf
      obtain ⟨a46, ha46, hf⟩ := bind_s hf
      obtain ⟨g47, hf⟩ := gdp_some hf
      obtain ⟨g48, hf⟩ := gdp_some hf
      obtain ⟨g49, hf⟩ := gdp_some hf
      obtain ⟨g50, hf⟩ := gdp_some hf
      obtain ⟨g51, hf⟩ := gdp_some hf
      obtain ⟨r43, hr43, hf⟩ := bind_s hf
      refine g0_cV (rm := (0, 0)) (As := [.int v42]) (rest := []) ⟨hx, hb, hml, hown, hts⟩ hG hR hS (m1_count l G j1206_K j1206_I j1206_J j1206_X j1206_A j1206_B j1206_Q n a45 a46 g47 g48 g49 g50 ha45 ha46 g51 v42 (j1206_I 1 n) (j1206_I 303 a45) (j1206_I 304 a45) (j1206_I 305 a45) (j1206_I 306 a45) (j1206_I 307 a45) (j1206_I 401 a46) rfl rfl rfl rfl rfl rfl rfl r43 hr43) ⟨callB_of 1 hts (lw_meth q1561) rfl rfl rfl (hts _ q103) (hts _ q1558) (by decide +kernel) ⟨Nat.le_of_ble_eq_true rfl, Nat.le_of_ble_eq_true rfl⟩, hts _ q1559, hts _ q1560⟩ g47.1 rfl rfl hl.1 (Nat.le_of_ble_eq_true rfl) dL_law_1213 ⟨c44.1, c44.2⟩ rfl (fun H locs hR hS => ?_)
      refine lv_aload_n hx hb dL_law_1216 rfl (lv_at hl 2 rfl) ?_
      refine lv_aload_n hx hb dL_law_1217 rfl (lv_at hl 0 rfl) ?_
      refine lv_iload hx hb dL_law_1218 (lv_at hl 4 rfl) ?_
      refine lv_iconst (v := 1) hx hb dL_law_1220 li_1 ?_
      obtain ⟨v52, ev52, hf⟩ := lt_some hf
      refine n_iadd hx hb ev52 dL_law_1221 ?_
      obtain ⟨c53, hf⟩ := gdp_some hf
      obtain ⟨v54, ev54, hf⟩ := lt_some hf
      refine va_sld hx hb hX hbl hbA hS c53 dL_law_1222 ?_
      rw [← ev54]
      obtain ⟨g56, hf⟩ := gdp_some hf
      obtain ⟨r55, hr55, hf⟩ := bind_s hf
      refine g0_cV (rm := (2, 41)) (As := [.int v54]) (rest := [.int r43]) ⟨hx, hb, hml, hown, hts⟩ hG hR hS (m14_count l G j1206_K j1206_I j1206_J j1206_X j1206_A j1206_B j1206_Q n10 g56 v54 (j1206_I 1100 n10) (j1206_I 1102 n10) (j1206_I 1122 n10) (j1206_A (n10 + 2)) rfl rfl rfl rfl r55 hr55) ⟨callB_of 1 hts (lw_meth q2328) rfl rfl rfl (hts _ q118) (hts _ q2325) (by decide +kernel) ⟨Nat.le_of_ble_eq_true rfl, Nat.le_of_ble_eq_true rfl⟩, hts _ q2326, hts _ q2327⟩ g56.1 rfl rfl hl.1 (Nat.le_of_ble_eq_true rfl) dL_law_1223 ⟨c44.1, c44.2⟩ rfl (fun H locs hR hS => ?_)
      obtain ⟨Im57, eIm57, hf⟩ := lt_some hf
      obtain ⟨Am58, eAm58, hf⟩ := lt_some hf
      rw [← eIm57, ← eAm58] at hR
      refine lv_icmp_eq (tgt := 1231) hx hb dL_law_1226 (by decide) (fun c59 => ?_) (fun c59 => ?_)
      · have hf := ite_t c59 hf
        exact hj1231 j1206_K Im57 j1206_J j1206_X Am58 j1206_B j1206_Q j1206_n j1206_u j1206_v hf _ _ _ hR hS (lv_sub hl [0, 1, 2, 3, 4] rfl)
      · have hf := ite_f c59 hf
        refine lv_iconst (v := 0) hx hb dL_law_1229 li_0 ?_
        obtain ⟨c60, hf⟩ := gdp_some hf
        refine W.widen c60.1 c60.2 ?_
        obtain rfl := some_i hf
        replace hk32 : _ = rl32 := hk32
        subst hk32
        exact hx32_0 ((0 : Int32), j1206_K, Im57, j1206_J, j1206_X, Am58, j1206_B, j1206_Q, j1206_n) hfo32 _ _ _ _ dL_law_1230 nz_0 hR hS
    have hj1181 : ∀ (j1181_K : gK) (j1181_I : gI) (j1181_J : gJ) (j1181_X : gX) (j1181_A : gI) (j1181_B : gJ) (j1181_Q : gX) (j1181_n : Nat) (j1181_u : Nat) (j1181_v : Nat), w_law_j1181 G.2.2 (aK G) n L xs n10 w32_4 j1181_K j1181_I j1181_J j1181_X j1181_A j1181_B j1181_Q j1181_n j1181_u j1181_v = some o32 → ∀ (H : Heap) (locs : List Loc) (ls : Array Slot), RS G j1181_K j1181_I j1181_J j1181_X j1181_A j1181_B j1181_Q H → va_S (gA G) s.heap H locs → lv_has ls 7 [(0, .ref b), (1, .ref n), (2, .ref n10), (3, .ref n22), (4, .int w32_4)] → W p l e ({ frames := 8192, cells := 1200128, slots := 5501098, locals := 100000 } : Room) s m args below meth c H locs j1181_u j1181_v Z (F0 m 1181 ls []) := by
      intro j1181_K j1181_I j1181_J j1181_X j1181_A j1181_B j1181_Q j1181_n j1181_u j1181_v hf H locs ls hR hS hl
      unfold w_law_j1181 at hf
      refine lv_aload_n hx hb dL_law_1181 rfl (lv_at hl 1 rfl) ?_
      refine lv_aload_n hx hb dL_law_1182 rfl (lv_at hl 0 rfl) ?_
      refine lv_iload hx hb dL_law_1183 (lv_at hl 4 rfl) ?_
      refine lv_iconst (v := 1) hx hb dL_law_1185 li_1 ?_
      obtain ⟨v61, ev61, hf⟩ := lt_some hf
      refine n_iadd hx hb ev61 dL_law_1186 ?_
      obtain ⟨c62, hf⟩ := gdp_some hf
      obtain ⟨v63, ev63, hf⟩ := lt_some hf
      refine va_sld hx hb hX hbl hbA hS c62 dL_law_1187 ?_
      rw [← ev63]
      obtain ⟨k64, hf⟩ := gdp_some hf
      obtain ⟨c66, hf⟩ := gdp_some hf
      obtain ⟨r65, hr65, hf⟩ := bind_s hf
      refine x0_gor (vx_runV (As := [.int v63]) (rest := []) (b := n) ⟨hx, hb, hml, hown, hts⟩ (m1_restore_w l G j1181_K j1181_I j1181_J j1181_X j1181_A j1181_B j1181_Q j1181_n n v63 r65 hr65) ⟨callB_of 1 hts (lw_meth q1557) rfl rfl rfl (hts _ q103) (hts _ q1554) (by decide +kernel) ⟨Nat.le_of_ble_eq_true rfl, Nat.le_of_ble_eq_true rfl⟩, hts _ q1555, hts _ q1556⟩ (x_preV hG hR hW hS k64 rfl) rfl rfl hl.1 rfl (lv_room (Nat.le_of_ble_eq_true rfl)) dL_law_1188 ⟨c66.1, c66.2⟩) hS (fun H locs hR hS => ?_)
      refine lv_aload_n hx hb dL_law_1191 rfl (lv_at hl 2 rfl) ?_
      refine lv_aload_n hx hb dL_law_1192 rfl (lv_at hl 0 rfl) ?_
      refine lv_iload hx hb dL_law_1193 (lv_at hl 4 rfl) ?_
      refine lv_iconst (v := 1) hx hb dL_law_1195 li_1 ?_
      obtain ⟨v67, ev67, hf⟩ := lt_some hf
      refine n_iadd hx hb ev67 dL_law_1196 ?_
      obtain ⟨c68, hf⟩ := gdp_some hf
      obtain ⟨v69, ev69, hf⟩ := lt_some hf
      refine va_sld hx hb hX hbl hbA hS c68 dL_law_1197 ?_
      rw [← ev69]
      obtain ⟨g71, hf⟩ := gdp_some hf
      obtain ⟨r70, hr70, hf⟩ := bind_s hf
      refine g0_cV (rm := (2, 41)) (As := [.int v69]) (rest := [.int r65.1]) ⟨hx, hb, hml, hown, hts⟩ hG hR hS (m14_restore l G r65.2.1 r65.2.2.1 r65.2.2.2.1 r65.2.2.2.2.1 r65.2.2.2.2.2.1 r65.2.2.2.2.2.2.1 r65.2.2.2.2.2.2.2.1 n10 g71 v69 (r65.2.2.1 1100 n10) (r65.2.2.1 1122 n10) (r65.2.2.2.2.2.1 (n10 + 2)) (r65.2.2.2.2.2.1 (n10 + 5)) (r65.2.2.2.2.2.1 (n10 + 9)) (r65.2.2.2.2.2.2.1 (n10 + 6)) (r65.2.2.2.2.2.2.1 (n10 + 8)) rfl rfl rfl rfl rfl rfl rfl r70 hr70) ⟨callB_of 1 hts (lw_meth q2324) rfl rfl rfl (hts _ q118) (hts _ q2321) (by decide +kernel) ⟨Nat.le_of_ble_eq_true rfl, Nat.le_of_ble_eq_true rfl⟩, hts _ q2322, hts _ q2323⟩ g71.1 rfl rfl hl.1 (Nat.le_of_ble_eq_true rfl) dL_law_1198 ⟨c66.1, c66.2⟩ rfl (fun H locs hR hS => ?_)
      obtain ⟨Im72, eIm72, hf⟩ := lt_some hf
      obtain ⟨Am73, eAm73, hf⟩ := lt_some hf
      obtain ⟨Bm74, eBm74, hf⟩ := lt_some hf
      rw [← eIm72, ← eAm73, ← eBm74] at hR
      refine lv_icmp_eq (tgt := 1231) hx hb dL_law_1201 (by decide) (fun c75 => ?_) (fun c75 => ?_)
      · have hf := ite_t c75 hf
        exact hj1231 r65.2.1 Im72 r65.2.2.2.1 r65.2.2.2.2.1 Am73 Bm74 r65.2.2.2.2.2.2.2.1 r65.2.2.2.2.2.2.2.2 j1181_u j1181_v hf _ _ _ hR hS (lv_sub hl [0, 1, 2, 3, 4] rfl)
      · have hf := ite_f c75 hf
        refine lv_iconst (v := 0) hx hb dL_law_1204 li_0 ?_
        obtain ⟨c76, hf⟩ := gdp_some hf
        refine W.widen c76.1 c76.2 ?_
        obtain rfl := some_i hf
        replace hk32 : _ = rl32 := hk32
        subst hk32
        exact hx32_0 ((0 : Int32), r65.2.1, Im72, r65.2.2.2.1, r65.2.2.2.2.1, Am73, Bm74, r65.2.2.2.2.2.2.2.1, r65.2.2.2.2.2.2.2.2) hfo32 _ _ _ _ dL_law_1205 nz_0 hR hS
    have hj1156 : ∀ (j1156_K : gK) (j1156_I : gI) (j1156_J : gJ) (j1156_X : gX) (j1156_A : gI) (j1156_B : gJ) (j1156_Q : gX) (j1156_n : Nat) (j1156_u : Nat) (j1156_v : Nat), w_law_j1156 G.2.2 (aK G) n L xs n10 w32_4 j1156_K j1156_I j1156_J j1156_X j1156_A j1156_B j1156_Q j1156_n j1156_u j1156_v = some o32 → ∀ (H : Heap) (locs : List Loc) (ls : Array Slot), RS G j1156_K j1156_I j1156_J j1156_X j1156_A j1156_B j1156_Q H → va_S (gA G) s.heap H locs → lv_has ls 7 [(0, .ref b), (1, .ref n), (2, .ref n10), (3, .ref n22), (4, .int w32_4)] → W p l e ({ frames := 8192, cells := 1200128, slots := 5501098, locals := 100000 } : Room) s m args below meth c H locs j1156_u j1156_v Z (F0 m 1156 ls []) := by
      intro j1156_K j1156_I j1156_J j1156_X j1156_A j1156_B j1156_Q j1156_n j1156_u j1156_v hf H locs ls hR hS hl
      unfold w_law_j1156 at hf
      refine lv_aload_n hx hb dL_law_1156 rfl (lv_at hl 1 rfl) ?_
      refine lv_aload_n hx hb dL_law_1157 rfl (lv_at hl 0 rfl) ?_
      refine lv_iload hx hb dL_law_1158 (lv_at hl 4 rfl) ?_
      refine lv_iconst (v := 1) hx hb dL_law_1160 li_1 ?_
      obtain ⟨v77, ev77, hf⟩ := lt_some hf
      refine n_iadd hx hb ev77 dL_law_1161 ?_
      obtain ⟨c78, hf⟩ := gdp_some hf
      obtain ⟨v79, ev79, hf⟩ := lt_some hf
      refine va_sld hx hb hX hbl hbA hS c78 dL_law_1162 ?_
      rw [← ev79]
      obtain ⟨k80, hf⟩ := gdp_some hf
      obtain ⟨c82, hf⟩ := gdp_some hf
      obtain ⟨r81, hr81, hf⟩ := bind_s hf
      refine x_gor (vx_runV (As := [.int v79]) (rest := []) (b := n) ⟨hx, hb, hml, hown, hts⟩ (m1_image_w l G j1156_K j1156_I j1156_J j1156_X j1156_A j1156_B j1156_Q j1156_n n v79 r81 hr81) ⟨callB_of 1 hts (lw_meth q1549) rfl rfl rfl (hts _ q103) (hts _ q1546) (by decide +kernel) ⟨Nat.le_of_ble_eq_true rfl, Nat.le_of_ble_eq_true rfl⟩, hts _ q1547, hts _ q1548⟩ (x_preV hG hR hW hS k80 rfl) rfl rfl hl.1 rfl (lv_room (Nat.le_of_ble_eq_true rfl)) dL_law_1163 ⟨c82.1, c82.2⟩) hS (fun H locs hR hS => ?_)
      refine lv_aload_n hx hb dL_law_1166 rfl (lv_at hl 2 rfl) ?_
      refine lv_aload_n hx hb dL_law_1167 rfl (lv_at hl 0 rfl) ?_
      refine lv_iload hx hb dL_law_1168 (lv_at hl 4 rfl) ?_
      refine lv_iconst (v := 1) hx hb dL_law_1170 li_1 ?_
      obtain ⟨v83, ev83, hf⟩ := lt_some hf
      refine n_iadd hx hb ev83 dL_law_1171 ?_
      obtain ⟨c84, hf⟩ := gdp_some hf
      obtain ⟨v85, ev85, hf⟩ := lt_some hf
      refine va_sld hx hb hX hbl hbA hS c84 dL_law_1172 ?_
      rw [← ev85]
      obtain ⟨c87, hf⟩ := gdp_some hf
      obtain ⟨g88, hf⟩ := gdp_some hf
      obtain ⟨r86, hr86, hf⟩ := bind_s hf
      refine g0_cV (rm := (2, 41)) (As := [.int v85]) (rest := [.int r81.1]) ⟨hx, hb, hml, hown, hts⟩ hG hR hS (m14_image l G r81.2.1 r81.2.2.1 r81.2.2.2.1 r81.2.2.2.2.1 r81.2.2.2.2.2.1 r81.2.2.2.2.2.2.1 r81.2.2.2.2.2.2.2.1 n10 g88 v85 (r81.2.2.1 1100 n10) (r81.2.2.1 1122 n10) (r81.2.2.2.2.2.1 (n10 + 2)) (r81.2.2.2.2.2.1 (n10 + 5)) (r81.2.2.2.2.2.1 (n10 + 9)) (r81.2.2.2.2.2.2.1 (n10 + 6)) (r81.2.2.2.2.2.2.1 (n10 + 8)) rfl rfl rfl rfl rfl rfl rfl r86 hr86) ⟨callB_of 1 hts (lw_meth q2320) rfl rfl rfl (hts _ q118) (hts _ q2317) (by decide +kernel) ⟨Nat.le_of_ble_eq_true rfl, Nat.le_of_ble_eq_true rfl⟩, hts _ q2318, hts _ q2319⟩ g88.1 rfl rfl hl.1 (Nat.le_of_ble_eq_true rfl) dL_law_1173 ⟨c87.1, c87.2⟩ rfl (fun H locs hR hS => ?_)
      obtain ⟨Im89, eIm89, hf⟩ := lt_some hf
      obtain ⟨Am90, eAm90, hf⟩ := lt_some hf
      obtain ⟨Bm91, eBm91, hf⟩ := lt_some hf
      rw [← eIm89, ← eAm90, ← eBm91] at hR
      refine lv_icmp_eq (tgt := 1231) hx hb dL_law_1176 (by decide) (fun c92 => ?_) (fun c92 => ?_)
      · have hf := ite_t c92 hf
        exact hj1231 r81.2.1 Im89 r81.2.2.2.1 r81.2.2.2.2.1 Am90 Bm91 r81.2.2.2.2.2.2.2.1 r81.2.2.2.2.2.2.2.2 (j1156_u + 7) (j1156_v + 180) hf _ _ _ hR hS (lv_sub hl [0, 1, 2, 3, 4] rfl)
      · have hf := ite_f c92 hf
        refine lv_iconst (v := 0) hx hb dL_law_1179 li_0 ?_
        obtain ⟨c93, hf⟩ := gdp_some hf
        refine W.widen c93.1 c93.2 ?_
        obtain rfl := some_i hf
        replace hk32 : _ = rl32 := hk32
        subst hk32
        exact hx32_0 ((0 : Int32), r81.2.1, Im89, r81.2.2.2.1, r81.2.2.2.2.1, Am90, Bm91, r81.2.2.2.2.2.2.2.1, r81.2.2.2.2.2.2.2.2) hfo32 _ _ _ _ dL_law_1180 nz_0 hR hS
    have hj1131 : ∀ (j1131_K : gK) (j1131_I : gI) (j1131_J : gJ) (j1131_X : gX) (j1131_A : gI) (j1131_B : gJ) (j1131_Q : gX) (j1131_n : Nat) (j1131_u : Nat) (j1131_v : Nat), w_law_j1131 G.2.2 (aK G) n L xs n10 w32_4 j1131_K j1131_I j1131_J j1131_X j1131_A j1131_B j1131_Q j1131_n j1131_u j1131_v = some o32 → ∀ (H : Heap) (locs : List Loc) (ls : Array Slot), RS G j1131_K j1131_I j1131_J j1131_X j1131_A j1131_B j1131_Q H → va_S (gA G) s.heap H locs → lv_has ls 7 [(0, .ref b), (1, .ref n), (2, .ref n10), (3, .ref n22), (4, .int w32_4)] → W p l e ({ frames := 8192, cells := 1200128, slots := 5501098, locals := 100000 } : Room) s m args below meth c H locs j1131_u j1131_v Z (F0 m 1131 ls []) := by
      intro j1131_K j1131_I j1131_J j1131_X j1131_A j1131_B j1131_Q j1131_n j1131_u j1131_v hf H locs ls hR hS hl
      unfold w_law_j1131 at hf
      refine lv_aload_n hx hb dL_law_1131 rfl (lv_at hl 1 rfl) ?_
      refine lv_aload_n hx hb dL_law_1132 rfl (lv_at hl 0 rfl) ?_
      refine lv_iload hx hb dL_law_1133 (lv_at hl 4 rfl) ?_
      refine lv_iconst (v := 1) hx hb dL_law_1135 li_1 ?_
      obtain ⟨v94, ev94, hf⟩ := lt_some hf
      refine n_iadd hx hb ev94 dL_law_1136 ?_
      obtain ⟨c95, hf⟩ := gdp_some hf
      obtain ⟨v96, ev96, hf⟩ := lt_some hf
      refine va_sld hx hb hX hbl hbA hS c95 dL_law_1137 ?_
      rw [← ev96]
      obtain ⟨k97, hf⟩ := gdp_some hf
      obtain ⟨c99, hf⟩ := gdp_some hf
      obtain ⟨r98, hr98, hf⟩ := bind_s hf
      refine x0_gor (vx_runV (As := [.int v96]) (rest := []) (b := n) ⟨hx, hb, hml, hown, hts⟩ (m1_said_w l G j1131_K j1131_I j1131_J j1131_X j1131_A j1131_B j1131_Q j1131_n n v96 r98 hr98) ⟨callB_of 1 hts (lw_meth q1520) rfl rfl rfl (hts _ q103) (hts _ q1517) (by decide +kernel) ⟨Nat.le_of_ble_eq_true rfl, Nat.le_of_ble_eq_true rfl⟩, hts _ q1518, hts _ q1519⟩ (x_preV hG hR hW hS k97 rfl) rfl rfl hl.1 rfl (lv_room (Nat.le_of_ble_eq_true rfl)) dL_law_1138 ⟨c99.1, c99.2⟩) hS (fun H locs hR hS => ?_)
      refine lv_aload_n hx hb dL_law_1141 rfl (lv_at hl 2 rfl) ?_
      refine lv_aload_n hx hb dL_law_1142 rfl (lv_at hl 0 rfl) ?_
      refine lv_iload hx hb dL_law_1143 (lv_at hl 4 rfl) ?_
      refine lv_iconst (v := 1) hx hb dL_law_1145 li_1 ?_
      obtain ⟨v100, ev100, hf⟩ := lt_some hf
      refine n_iadd hx hb ev100 dL_law_1146 ?_
      obtain ⟨c101, hf⟩ := gdp_some hf
      obtain ⟨v102, ev102, hf⟩ := lt_some hf
      refine va_sld hx hb hX hbl hbA hS c101 dL_law_1147 ?_
      rw [← ev102]
      obtain ⟨g104, hf⟩ := gdp_some hf
      obtain ⟨r103, hr103, hf⟩ := bind_s hf
      refine g0_cV (rm := (51, 1326)) (As := [.int v102]) (rest := [.int r98.1]) ⟨hx, hb, hml, hown, hts⟩ hG hR hS (m14_said l G r98.2.1 r98.2.2.1 r98.2.2.2.1 r98.2.2.2.2.1 r98.2.2.2.2.2.1 r98.2.2.2.2.2.2.1 r98.2.2.2.2.2.2.2.1 n10 g104 v102 (r98.2.2.1 1100 n10) (r98.2.2.1 1122 n10) (r98.2.2.1 1133 n10) (r98.2.2.1 1134 n10) (r98.2.2.1 1135 n10) (r98.2.2.1 1136 n10) (r98.2.2.1 1137 n10) (r98.2.2.1 1138 n10) (r98.2.2.1 1139 n10) (r98.2.2.1 1140 n10) (r98.2.2.1 1141 n10) (r98.2.2.1 1142 n10) (r98.2.2.1 1170 n10) (r98.2.2.2.2.2.1 (n10 + 2)) (r98.2.2.2.2.2.1 (n10 + 10)) (r98.2.2.2.2.2.1 (n10 + 11)) (r98.2.2.2.2.2.1 (n10 + 12)) (r98.2.2.2.2.2.1 (n10 + 13)) (r98.2.2.2.2.2.1 (n10 + 14)) (r98.2.2.2.2.2.1 (n10 + 15)) (r98.2.2.2.2.2.1 (n10 + 16)) (r98.2.2.2.2.2.1 (n10 + 17)) (r98.2.2.2.2.2.1 (n10 + 18)) (r98.2.2.2.2.2.1 (n10 + 32)) (r98.2.2.2.2.2.1 (n10 + 33)) (r98.2.2.2.2.2.1 (n10 + 34)) (r98.2.2.2.2.2.1 (n10 + 35)) (r98.2.2.2.2.2.1 (n10 + 43)) rfl rfl rfl rfl rfl rfl rfl rfl rfl rfl rfl rfl rfl rfl rfl rfl rfl rfl rfl rfl rfl rfl rfl rfl rfl rfl rfl rfl r103 hr103) ⟨callB_of 1 hts (lw_meth q2312) rfl rfl rfl (hts _ q118) (hts _ q2309) (by decide +kernel) ⟨Nat.le_of_ble_eq_true rfl, Nat.le_of_ble_eq_true rfl⟩, hts _ q2310, hts _ q2311⟩ g104.1 rfl rfl hl.1 (Nat.le_of_ble_eq_true rfl) dL_law_1148 ⟨c99.1, c99.2⟩ rfl (fun H locs hR hS => ?_)
      obtain ⟨Im105, eIm105, hf⟩ := lt_some hf
      obtain ⟨Am106, eAm106, hf⟩ := lt_some hf
      rw [← eIm105, ← eAm106] at hR
      refine lv_icmp_eq (tgt := 1231) hx hb dL_law_1151 (by decide) (fun c107 => ?_) (fun c107 => ?_)
      · have hf := ite_t c107 hf
        exact hj1231 r98.2.1 Im105 r98.2.2.2.1 r98.2.2.2.2.1 Am106 r98.2.2.2.2.2.2.1 r98.2.2.2.2.2.2.2.1 r98.2.2.2.2.2.2.2.2 j1131_u j1131_v hf _ _ _ hR hS (lv_sub hl [0, 1, 2, 3, 4] rfl)
      · have hf := ite_f c107 hf
        refine lv_iconst (v := 0) hx hb dL_law_1154 li_0 ?_
        obtain ⟨c108, hf⟩ := gdp_some hf
        refine W.widen c108.1 c108.2 ?_
        obtain rfl := some_i hf
        replace hk32 : _ = rl32 := hk32
        subst hk32
        exact hx32_0 ((0 : Int32), r98.2.1, Im105, r98.2.2.2.1, r98.2.2.2.2.1, Am106, r98.2.2.2.2.2.2.1, r98.2.2.2.2.2.2.2.1, r98.2.2.2.2.2.2.2.2) hfo32 _ _ _ _ dL_law_1155 nz_0 hR hS
    have hj1118 : ∀ (j1118_K : gK) (j1118_I : gI) (j1118_J : gJ) (j1118_X : gX) (j1118_A : gI) (j1118_B : gJ) (j1118_Q : gX) (j1118_n : Nat) (j1118_u : Nat) (j1118_v : Nat), w_law_j1118 G.2.2 (aK G) n n10 w32_4 j1118_K j1118_I j1118_J j1118_X j1118_A j1118_B j1118_Q j1118_n j1118_u j1118_v = some o32 → ∀ (H : Heap) (locs : List Loc) (ls : Array Slot), RS G j1118_K j1118_I j1118_J j1118_X j1118_A j1118_B j1118_Q H → va_S (gA G) s.heap H locs → lv_has ls 7 [(0, .ref b), (1, .ref n), (2, .ref n10), (3, .ref n22), (4, .int w32_4)] → W p l e ({ frames := 8192, cells := 1200128, slots := 5501098, locals := 100000 } : Room) s m args below meth c H locs j1118_u j1118_v Z (F0 m 1118 ls []) := by
      intro j1118_K j1118_I j1118_J j1118_X j1118_A j1118_B j1118_Q j1118_n j1118_u j1118_v hf H locs ls hR hS hl
      unfold w_law_j1118 at hf
      refine lv_aload_n hx hb dL_law_1118 rfl (lv_at hl 1 rfl) ?_
      obtain ⟨k109, hf⟩ := gdp_some hf
      obtain ⟨c111, hf⟩ := gdp_some hf
      obtain ⟨r110, hr110, hf⟩ := bind_s hf
      refine x_gor (vx_runVX (As := []) (rest := []) (b := n) ⟨hx, hb, hml, hown, hts⟩ (m1_sentence_w l G j1118_K j1118_I j1118_J j1118_X j1118_A j1118_B j1118_Q j1118_n n r110 hr110) (vx_cwVW 0 hts (lw_VW q1405 q1406 q1407 q103 q1408) rfl rfl rfl (by decide +kernel) ⟨Nat.le_of_ble_eq_true rfl, Nat.le_of_ble_eq_true rfl⟩) (x_preV hG hR hW hS k109 rfl) rfl rfl hl.1 rfl (lv_room (Nat.le_of_ble_eq_true rfl)) dL_law_1119 ⟨c111.1, c111.2⟩) hS (fun H locs hR hS => ?_)
      refine lv_aload_n hx hb dL_law_1122 rfl (lv_at hl 2 rfl) ?_
      obtain ⟨c113, hf⟩ := gdp_some hf
      obtain ⟨g114, hf⟩ := gdp_some hf
      obtain ⟨r112, hr112, hf⟩ := bind_s hf
      refine g0_cV (rm := (65, 1490)) (As := []) (rest := [.int r110.1]) ⟨hx, hb, hml, hown, hts⟩ hG hR hS (m14_sentence l G r110.2.1 r110.2.2.1 r110.2.2.2.1 r110.2.2.2.2.1 r110.2.2.2.2.2.1 r110.2.2.2.2.2.2.1 r110.2.2.2.2.2.2.2.1 n10 g114 (r110.2.2.1 1100 n10) (r110.2.2.1 1102 n10) (r110.2.2.1 1103 n10) (r110.2.2.1 1104 n10) (r110.2.2.1 1105 n10) (r110.2.2.1 1106 n10) (r110.2.2.1 1107 n10) (r110.2.2.1 1108 n10) (r110.2.2.1 1109 n10) (r110.2.2.1 1110 n10) (r110.2.2.1 1111 n10) (r110.2.2.1 1113 n10) (r110.2.2.1 1122 n10) (r110.2.2.1 1187 n10) (r110.2.2.1 1188 n10) (r110.2.2.1 1189 n10) (r110.2.2.1 1190 n10) (r110.2.2.2.1 1112 n10) (r110.2.2.2.2.2.1 (n10 + 1)) (r110.2.2.2.2.2.1 (n10 + 2)) (r110.2.2.2.2.2.1 (n10 + 44)) rfl rfl rfl rfl rfl rfl rfl rfl rfl rfl rfl rfl rfl rfl rfl rfl rfl rfl rfl rfl rfl r112 hr112) ⟨callB_of 0 hts (lw_meth q2279) rfl rfl rfl (hts _ q118) (hts _ q2276) (by decide +kernel) ⟨Nat.le_of_ble_eq_true rfl, Nat.le_of_ble_eq_true rfl⟩, hts _ q2277, hts _ q2278⟩ g114.1 rfl rfl hl.1 (Nat.le_of_ble_eq_true rfl) dL_law_1123 ⟨c113.1, c113.2⟩ rfl (fun H locs hR hS => ?_)
      obtain ⟨Im115, eIm115, hf⟩ := lt_some hf
      obtain ⟨Jm116, eJm116, hf⟩ := lt_some hf
      obtain ⟨Am117, eAm117, hf⟩ := lt_some hf
      rw [← eIm115, ← eJm116, ← eAm117] at hR
      refine lv_icmp_eq (tgt := 1231) hx hb dL_law_1126 (by decide) (fun c118 => ?_) (fun c118 => ?_)
      · have hf := ite_t c118 hf
        exact hj1231 r110.2.1 Im115 Jm116 r110.2.2.2.2.1 Am117 r110.2.2.2.2.2.2.1 r110.2.2.2.2.2.2.2.1 r110.2.2.2.2.2.2.2.2 (j1118_u + 39) (j1118_v + 117) hf _ _ _ hR hS (lv_sub hl [0, 1, 2, 3, 4] rfl)
      · have hf := ite_f c118 hf
        refine lv_iconst (v := 0) hx hb dL_law_1129 li_0 ?_
        obtain ⟨c119, hf⟩ := gdp_some hf
        refine W.widen c119.1 c119.2 ?_
        obtain rfl := some_i hf
        replace hk32 : _ = rl32 := hk32
        subst hk32
        exact hx32_0 ((0 : Int32), r110.2.1, Im115, Jm116, r110.2.2.2.2.1, Am117, r110.2.2.2.2.2.2.1, r110.2.2.2.2.2.2.2.1, r110.2.2.2.2.2.2.2.2) hfo32 _ _ _ _ dL_law_1130 nz_0 hR hS
    have hj1081 : ∀ (j1081_K : gK) (j1081_I : gI) (j1081_J : gJ) (j1081_X : gX) (j1081_A : gI) (j1081_B : gJ) (j1081_Q : gX) (j1081_n : Nat) (j1081_u : Nat) (j1081_v : Nat), w_law_j1081 G.2.2 (aK G) n L xs n10 w32_4 j1081_K j1081_I j1081_J j1081_X j1081_A j1081_B j1081_Q j1081_n j1081_u j1081_v = some o32 → ∀ (H : Heap) (locs : List Loc) (ls : Array Slot), RS G j1081_K j1081_I j1081_J j1081_X j1081_A j1081_B j1081_Q H → va_S (gA G) s.heap H locs → lv_has ls 7 [(0, .ref b), (1, .ref n), (2, .ref n10), (3, .ref n22), (4, .int w32_4)] → W p l e ({ frames := 8192, cells := 1200128, slots := 5501098, locals := 100000 } : Room) s m args below meth c H locs j1081_u j1081_v Z (F0 m 1081 ls []) := by
      intro j1081_K j1081_I j1081_J j1081_X j1081_A j1081_B j1081_Q j1081_n j1081_u j1081_v hf H locs ls hR hS hl
      unfold w_law_j1081 at hf
      refine lv_aload_n hx hb dL_law_1081 rfl (lv_at hl 1 rfl) ?_
      refine lv_aload_n hx hb dL_law_1082 rfl (lv_at hl 0 rfl) ?_
      refine lv_iload hx hb dL_law_1083 (lv_at hl 4 rfl) ?_
      refine lv_iconst (v := 1) hx hb dL_law_1085 li_1 ?_
      obtain ⟨v120, ev120, hf⟩ := lt_some hf
      refine n_iadd hx hb ev120 dL_law_1086 ?_
      obtain ⟨c121, hf⟩ := gdp_some hf
      obtain ⟨v122, ev122, hf⟩ := lt_some hf
      refine va_sld hx hb hX hbl hbA hS c121 dL_law_1087 ?_
      rw [← ev122]
      refine lv_aload_n hx hb dL_law_1088 rfl (lv_at hl 0 rfl) ?_
      refine lv_iload hx hb dL_law_1089 (lv_at hl 4 rfl) ?_
      refine lv_iconst (v := 2) hx hb dL_law_1091 li_2 ?_
      obtain ⟨v123, ev123, hf⟩ := lt_some hf
      refine n_iadd hx hb ev123 dL_law_1092 ?_
      obtain ⟨c124, hf⟩ := gdp_some hf
      obtain ⟨v125, ev125, hf⟩ := lt_some hf
      refine va_sld hx hb hX hbl hbA hS c124 dL_law_1093 ?_
      rw [← ev125]
      obtain ⟨k126, hf⟩ := gdp_some hf
      obtain ⟨c128, hf⟩ := gdp_some hf
      obtain ⟨r127, hr127, hf⟩ := bind_s hf
      refine x0_gor (vx_runV (As := [.int v122, .int v125]) (rest := []) (b := n) ⟨hx, hb, hml, hown, hts⟩ (m1_night_w l G j1081_K j1081_I j1081_J j1081_X j1081_A j1081_B j1081_Q j1081_n n v122 v125 r127 hr127) ⟨callB_of 2 hts (lw_meth q1398) rfl rfl rfl (hts _ q103) (hts _ q1395) (by decide +kernel) ⟨Nat.le_of_ble_eq_true rfl, Nat.le_of_ble_eq_true rfl⟩, hts _ q1396, hts _ q1397⟩ (x_preV hG hR hW hS k126 rfl) rfl rfl hl.1 rfl (lv_room (Nat.le_of_ble_eq_true rfl)) dL_law_1094 ⟨c128.1, c128.2⟩) hS (fun H locs hR hS => ?_)
      refine lv_aload_n hx hb dL_law_1097 rfl (lv_at hl 2 rfl) ?_
      refine lv_aload_n hx hb dL_law_1098 rfl (lv_at hl 0 rfl) ?_
      refine lv_iload hx hb dL_law_1099 (lv_at hl 4 rfl) ?_
      refine lv_iconst (v := 1) hx hb dL_law_1101 li_1 ?_
      obtain ⟨v129, ev129, hf⟩ := lt_some hf
      refine n_iadd hx hb ev129 dL_law_1102 ?_
      obtain ⟨c130, hf⟩ := gdp_some hf
      obtain ⟨v131, ev131, hf⟩ := lt_some hf
      refine va_sld hx hb hX hbl hbA hS c130 dL_law_1103 ?_
      rw [← ev131]
      refine lv_aload_n hx hb dL_law_1104 rfl (lv_at hl 0 rfl) ?_
      refine lv_iload hx hb dL_law_1105 (lv_at hl 4 rfl) ?_
      refine lv_iconst (v := 2) hx hb dL_law_1107 li_2 ?_
      obtain ⟨v132, ev132, hf⟩ := lt_some hf
      refine n_iadd hx hb ev132 dL_law_1108 ?_
      obtain ⟨c133, hf⟩ := gdp_some hf
      obtain ⟨v134, ev134, hf⟩ := lt_some hf
      refine va_sld hx hb hX hbl hbA hS c133 dL_law_1109 ?_
      rw [← ev134]
      obtain ⟨g136, hf⟩ := gdp_some hf
      obtain ⟨r135, hr135, hf⟩ := bind_s hf
      refine g0_cV (rm := (7, 154)) (As := [.int v131, .int v134]) (rest := [.int r127.1]) ⟨hx, hb, hml, hown, hts⟩ hG hR hS (m14_night l G r127.2.1 r127.2.2.1 r127.2.2.2.1 r127.2.2.2.2.1 r127.2.2.2.2.2.1 r127.2.2.2.2.2.2.1 r127.2.2.2.2.2.2.2.1 n10 g136 v131 v134 (r127.2.2.1 1100 n10) (r127.2.2.1 1122 n10) (r127.2.2.1 1133 n10) (r127.2.2.1 1134 n10) (r127.2.2.1 1135 n10) (r127.2.2.1 1136 n10) (r127.2.2.1 1137 n10) (r127.2.2.1 1138 n10) (r127.2.2.1 1139 n10) (r127.2.2.1 1140 n10) (r127.2.2.1 1141 n10) (r127.2.2.1 1142 n10) (r127.2.2.1 1170 n10) (r127.2.2.2.2.2.1 (n10 + 2)) (r127.2.2.2.2.2.1 (n10 + 10)) (r127.2.2.2.2.2.1 (n10 + 11)) (r127.2.2.2.2.2.1 (n10 + 12)) (r127.2.2.2.2.2.1 (n10 + 13)) (r127.2.2.2.2.2.1 (n10 + 14)) (r127.2.2.2.2.2.1 (n10 + 15)) (r127.2.2.2.2.2.1 (n10 + 16)) (r127.2.2.2.2.2.1 (n10 + 17)) (r127.2.2.2.2.2.1 (n10 + 18)) (r127.2.2.2.2.2.1 (n10 + 32)) (r127.2.2.2.2.2.1 (n10 + 33)) (r127.2.2.2.2.2.1 (n10 + 34)) (r127.2.2.2.2.2.1 (n10 + 35)) (r127.2.2.2.2.2.1 (n10 + 43)) rfl rfl rfl rfl rfl rfl rfl rfl rfl rfl rfl rfl rfl rfl rfl rfl rfl rfl rfl rfl rfl rfl rfl rfl rfl rfl rfl rfl r135 hr135) ⟨callB_of 2 hts (lw_meth q2271) rfl rfl rfl (hts _ q118) (hts _ q2268) (by decide +kernel) ⟨Nat.le_of_ble_eq_true rfl, Nat.le_of_ble_eq_true rfl⟩, hts _ q2269, hts _ q2270⟩ g136.1 rfl rfl hl.1 (Nat.le_of_ble_eq_true rfl) dL_law_1110 ⟨c128.1, c128.2⟩ rfl (fun H locs hR hS => ?_)
      obtain ⟨Im137, eIm137, hf⟩ := lt_some hf
      obtain ⟨Am138, eAm138, hf⟩ := lt_some hf
      rw [← eIm137, ← eAm138] at hR
      refine lv_icmp_eq (tgt := 1231) hx hb dL_law_1113 (by decide) (fun c139 => ?_) (fun c139 => ?_)
      · have hf := ite_t c139 hf
        exact hj1231 r127.2.1 Im137 r127.2.2.2.1 r127.2.2.2.2.1 Am138 r127.2.2.2.2.2.2.1 r127.2.2.2.2.2.2.2.1 r127.2.2.2.2.2.2.2.2 j1081_u j1081_v hf _ _ _ hR hS (lv_sub hl [0, 1, 2, 3, 4] rfl)
      · have hf := ite_f c139 hf
        refine lv_iconst (v := 0) hx hb dL_law_1116 li_0 ?_
        obtain ⟨c140, hf⟩ := gdp_some hf
        refine W.widen c140.1 c140.2 ?_
        obtain rfl := some_i hf
        replace hk32 : _ = rl32 := hk32
        subst hk32
        exact hx32_0 ((0 : Int32), r127.2.1, Im137, r127.2.2.2.1, r127.2.2.2.2.1, Am138, r127.2.2.2.2.2.2.1, r127.2.2.2.2.2.2.2.1, r127.2.2.2.2.2.2.2.2) hfo32 _ _ _ _ dL_law_1117 nz_0 hR hS
    have hj1068 : ∀ (j1068_K : gK) (j1068_I : gI) (j1068_J : gJ) (j1068_X : gX) (j1068_A : gI) (j1068_B : gJ) (j1068_Q : gX) (j1068_n : Nat) (j1068_u : Nat) (j1068_v : Nat), w_law_j1068 G.2.2 (aK G) n n10 w32_4 j1068_K j1068_I j1068_J j1068_X j1068_A j1068_B j1068_Q j1068_n j1068_u j1068_v = some o32 → ∀ (H : Heap) (locs : List Loc) (ls : Array Slot), RS G j1068_K j1068_I j1068_J j1068_X j1068_A j1068_B j1068_Q H → va_S (gA G) s.heap H locs → lv_has ls 7 [(0, .ref b), (1, .ref n), (2, .ref n10), (3, .ref n22), (4, .int w32_4)] → W p l e ({ frames := 8192, cells := 1200128, slots := 5501098, locals := 100000 } : Room) s m args below meth c H locs j1068_u j1068_v Z (F0 m 1068 ls []) := by
      intro j1068_K j1068_I j1068_J j1068_X j1068_A j1068_B j1068_Q j1068_n j1068_u j1068_v hf H locs ls hR hS hl
      unfold w_law_j1068 at hf
      refine lv_aload_n hx hb dL_law_1068 rfl (lv_at hl 1 rfl) ?_
      obtain ⟨k141, hf⟩ := gdp_some hf
      obtain ⟨c143, hf⟩ := gdp_some hf
      obtain ⟨r142, hr142, hf⟩ := bind_s hf
      refine x_gor (vx_runVX (As := []) (rest := []) (b := n) ⟨hx, hb, hml, hown, hts⟩ (m1_plan_w l G j1068_K j1068_I j1068_J j1068_X j1068_A j1068_B j1068_Q j1068_n n r142 hr142) (vx_cwVW 0 hts (lw_VW q1030 q1031 q1032 q103 q1033) rfl rfl rfl (by decide +kernel) ⟨Nat.le_of_ble_eq_true rfl, Nat.le_of_ble_eq_true rfl⟩) (x_preV hG hR hW hS k141 rfl) rfl rfl hl.1 rfl (lv_room (Nat.le_of_ble_eq_true rfl)) dL_law_1069 ⟨c143.1, c143.2⟩) hS (fun H locs hR hS => ?_)
      refine lv_aload_n hx hb dL_law_1072 rfl (lv_at hl 2 rfl) ?_
      obtain ⟨c145, hf⟩ := gdp_some hf
      obtain ⟨g146, hf⟩ := gdp_some hf
      obtain ⟨r144, hr144, hf⟩ := bind_s hf
      refine g0_cV (rm := (5, 114)) (As := []) (rest := [.int r142.1]) ⟨hx, hb, hml, hown, hts⟩ hG hR hS (m14_plan l G r142.2.1 r142.2.2.1 r142.2.2.2.1 r142.2.2.2.2.1 r142.2.2.2.2.2.1 r142.2.2.2.2.2.2.1 r142.2.2.2.2.2.2.2.1 n10 g146 (r142.2.2.1 1100 n10) (r142.2.2.1 1102 n10) (r142.2.2.1 1103 n10) (r142.2.2.1 1104 n10) (r142.2.2.1 1105 n10) (r142.2.2.1 1106 n10) (r142.2.2.1 1107 n10) (r142.2.2.1 1108 n10) (r142.2.2.1 1109 n10) (r142.2.2.1 1110 n10) (r142.2.2.1 1111 n10) (r142.2.2.1 1113 n10) (r142.2.2.1 1122 n10) (r142.2.2.1 1184 n10) (r142.2.2.2.1 1112 n10) (r142.2.2.2.2.2.1 (n10 + 1)) (r142.2.2.2.2.2.1 (n10 + 2)) (r142.2.2.2.2.2.1 (n10 + 4)) (r142.2.2.2.2.2.2.1 (n10 + 6)) rfl rfl rfl rfl rfl rfl rfl rfl rfl rfl rfl rfl rfl rfl rfl rfl rfl rfl rfl r144 hr144) ⟨callB_of 0 hts (lw_meth q2255) rfl rfl rfl (hts _ q118) (hts _ q2252) (by decide +kernel) ⟨Nat.le_of_ble_eq_true rfl, Nat.le_of_ble_eq_true rfl⟩, hts _ q2253, hts _ q2254⟩ g146.1 rfl rfl hl.1 (Nat.le_of_ble_eq_true rfl) dL_law_1073 ⟨c145.1, c145.2⟩ rfl (fun H locs hR hS => ?_)
      obtain ⟨Im147, eIm147, hf⟩ := lt_some hf
      obtain ⟨Jm148, eJm148, hf⟩ := lt_some hf
      obtain ⟨Am149, eAm149, hf⟩ := lt_some hf
      rw [← eIm147, ← eJm148, ← eAm149] at hR
      refine lv_icmp_eq (tgt := 1231) hx hb dL_law_1076 (by decide) (fun c150 => ?_) (fun c150 => ?_)
      · have hf := ite_t c150 hf
        exact hj1231 r142.2.1 Im147 Jm148 r142.2.2.2.2.1 Am149 r142.2.2.2.2.2.2.1 r142.2.2.2.2.2.2.2.1 r142.2.2.2.2.2.2.2.2 (j1068_u + 42) (j1068_v + 362) hf _ _ _ hR hS (lv_sub hl [0, 1, 2, 3, 4] rfl)
      · have hf := ite_f c150 hf
        refine lv_iconst (v := 0) hx hb dL_law_1079 li_0 ?_
        obtain ⟨c151, hf⟩ := gdp_some hf
        refine W.widen c151.1 c151.2 ?_
        obtain rfl := some_i hf
        replace hk32 : _ = rl32 := hk32
        subst hk32
        exact hx32_0 ((0 : Int32), r142.2.1, Im147, Jm148, r142.2.2.2.2.1, Am149, r142.2.2.2.2.2.2.1, r142.2.2.2.2.2.2.2.1, r142.2.2.2.2.2.2.2.2) hfo32 _ _ _ _ dL_law_1080 nz_0 hR hS
    have hj1031 : ∀ (j1031_K : gK) (j1031_I : gI) (j1031_J : gJ) (j1031_X : gX) (j1031_A : gI) (j1031_B : gJ) (j1031_Q : gX) (j1031_n : Nat) (j1031_u : Nat) (j1031_v : Nat), w_law_j1031 n L xs n10 w32_4 j1031_K j1031_I j1031_J j1031_X j1031_A j1031_B j1031_Q j1031_n j1031_u j1031_v = some o32 → ∀ (H : Heap) (locs : List Loc) (ls : Array Slot), RS G j1031_K j1031_I j1031_J j1031_X j1031_A j1031_B j1031_Q H → va_S (gA G) s.heap H locs → lv_has ls 7 [(0, .ref b), (1, .ref n), (2, .ref n10), (3, .ref n22), (4, .int w32_4)] → W p l e ({ frames := 8192, cells := 1200128, slots := 5501098, locals := 100000 } : Room) s m args below meth c H locs j1031_u j1031_v Z (F0 m 1031 ls []) := by
      intro j1031_K j1031_I j1031_J j1031_X j1031_A j1031_B j1031_Q j1031_n j1031_u j1031_v hf H locs ls hR hS hl
      unfold w_law_j1031 at hf
      refine lv_aload_n hx hb dL_law_1031 rfl (lv_at hl 1 rfl) ?_
      refine lv_aload_n hx hb dL_law_1032 rfl (lv_at hl 0 rfl) ?_
      refine lv_iload hx hb dL_law_1033 (lv_at hl 4 rfl) ?_
      refine lv_iconst (v := 1) hx hb dL_law_1035 li_1 ?_
      obtain ⟨v152, ev152, hf⟩ := lt_some hf
      refine n_iadd hx hb ev152 dL_law_1036 ?_
      obtain ⟨c153, hf⟩ := gdp_some hf
      obtain ⟨v154, ev154, hf⟩ := lt_some hf
      refine va_sld hx hb hX hbl hbA hS c153 dL_law_1037 ?_
      rw [← ev154]
      refine lv_aload_n hx hb dL_law_1038 rfl (lv_at hl 0 rfl) ?_
      refine lv_iload hx hb dL_law_1039 (lv_at hl 4 rfl) ?_
      refine lv_iconst (v := 2) hx hb dL_law_1041 li_2 ?_
      obtain ⟨v155, ev155, hf⟩ := lt_some hf
      refine n_iadd hx hb ev155 dL_law_1042 ?_
      obtain ⟨c156, hf⟩ := gdp_some hf
      obtain ⟨v157, ev157, hf⟩ := lt_some hf
      refine va_sld hx hb hX hbl hbA hS c156 dL_law_1043 ?_
      rw [← ev157]
      obtain ⟨c159, hf⟩ := gdp_some hf
      obtain ⟨a160, ha160, hf⟩ := bind_s hf
      obtain ⟨g161, hf⟩ := gdp_some hf
      obtain ⟨g162, hf⟩ := gdp_some hf
      obtain ⟨g163, hf⟩ := gdp_some hf
      obtain ⟨g164, hf⟩ := gdp_some hf
      obtain ⟨g165, hf⟩ := gdp_some hf
      obtain ⟨g166, hf⟩ := gdp_some hf
      obtain ⟨g167, hf⟩ := gdp_some hf
      obtain ⟨r158, hr158, hf⟩ := bind_s hf
      refine g0_cV (rm := (6, 138)) (As := [.int v154, .int v157]) (rest := []) ⟨hx, hb, hml, hown, hts⟩ hG hR hS (m1_enough l G j1031_K j1031_I j1031_J j1031_X j1031_A j1031_B j1031_Q n a160 g161 g162 g163 g164 ha160 g165 g166 g167 v154 v157 (j1031_I 304 a160) (j1031_I 305 a160) (j1031_I 314 a160) (j1031_I 905 (n + 85)) (j1031_X 904 (n + 85)) (j1031_A (n + 86)) (j1031_A (n + 87)) (j1031_A (n + 88)) (j1031_A (n + 89)) (j1031_A (a160 + 2)) (j1031_A (a160 + 3)) rfl rfl rfl rfl rfl rfl rfl rfl rfl rfl rfl r158 hr158) ⟨callB_of 2 hts (lw_meth q1394) rfl rfl rfl (hts _ q103) (hts _ q1391) (by decide +kernel) ⟨Nat.le_of_ble_eq_true rfl, Nat.le_of_ble_eq_true rfl⟩, hts _ q1392, hts _ q1393⟩ g161.1 rfl rfl hl.1 (Nat.le_of_ble_eq_true rfl) dL_law_1044 ⟨c159.1, c159.2⟩ rfl (fun H locs hR hS => ?_)
      obtain ⟨Im168, eIm168, hf⟩ := lt_some hf
      obtain ⟨Xm169, eXm169, hf⟩ := lt_some hf
      obtain ⟨Am170, eAm170, hf⟩ := lt_some hf
      rw [← eIm168, ← eXm169, ← eAm170] at hR
      refine lv_aload_n hx hb dL_law_1047 rfl (lv_at hl 2 rfl) ?_
      refine lv_aload_n hx hb dL_law_1048 rfl (lv_at hl 0 rfl) ?_
      refine lv_iload hx hb dL_law_1049 (lv_at hl 4 rfl) ?_
      refine lv_iconst (v := 1) hx hb dL_law_1051 li_1 ?_
      obtain ⟨v171, ev171, hf⟩ := lt_some hf
      refine n_iadd hx hb ev171 dL_law_1052 ?_
      obtain ⟨c172, hf⟩ := gdp_some hf
      obtain ⟨v173, ev173, hf⟩ := lt_some hf
      refine va_sld hx hb hX hbl hbA hS c172 dL_law_1053 ?_
      rw [← ev173]
      refine lv_aload_n hx hb dL_law_1054 rfl (lv_at hl 0 rfl) ?_
      refine lv_iload hx hb dL_law_1055 (lv_at hl 4 rfl) ?_
      refine lv_iconst (v := 2) hx hb dL_law_1057 li_2 ?_
      obtain ⟨v174, ev174, hf⟩ := lt_some hf
      refine n_iadd hx hb ev174 dL_law_1058 ?_
      obtain ⟨c175, hf⟩ := gdp_some hf
      obtain ⟨v176, ev176, hf⟩ := lt_some hf
      refine va_sld hx hb hX hbl hbA hS c175 dL_law_1059 ?_
      rw [← ev176]
      obtain ⟨g178, hf⟩ := gdp_some hf
      obtain ⟨r177, hr177, hf⟩ := bind_s hf
      refine g0_cV (rm := (5, 126)) (As := [.int v173, .int v176]) (rest := [.int r158.1]) ⟨hx, hb, hml, hown, hts⟩ hG hR hS (m14_enough l G j1031_K Im168 j1031_J Xm169 Am170 j1031_B j1031_Q n10 g178 v173 v176 (Im168 1100 n10) (Im168 1122 n10) (Im168 1170 n10) (Im168 1171 n10) (Am170 (n10 + 2)) (Am170 (n10 + 32)) (Am170 (n10 + 33)) (Am170 (n10 + 34)) (Am170 (n10 + 35)) (Am170 (n10 + 36)) (Am170 (n10 + 37)) rfl rfl rfl rfl rfl rfl rfl rfl rfl rfl rfl r177 hr177) ⟨callB_of 2 hts (lw_meth q2251) rfl rfl rfl (hts _ q118) (hts _ q2248) (by decide +kernel) ⟨Nat.le_of_ble_eq_true rfl, Nat.le_of_ble_eq_true rfl⟩, hts _ q2249, hts _ q2250⟩ g178.1 rfl rfl hl.1 (Nat.le_of_ble_eq_true rfl) dL_law_1060 ⟨c159.1, c159.2⟩ rfl (fun H locs hR hS => ?_)
      obtain ⟨Im179, eIm179, hf⟩ := lt_some hf
      obtain ⟨Am180, eAm180, hf⟩ := lt_some hf
      rw [← eIm179, ← eAm180] at hR
      refine lv_icmp_eq (tgt := 1231) hx hb dL_law_1063 (by decide) (fun c181 => ?_) (fun c181 => ?_)
      · have hf := ite_t c181 hf
        exact hj1231 j1031_K Im179 j1031_J Xm169 Am180 j1031_B j1031_Q j1031_n j1031_u j1031_v hf _ _ _ hR hS (lv_sub hl [0, 1, 2, 3, 4] rfl)
      · have hf := ite_f c181 hf
        refine lv_iconst (v := 0) hx hb dL_law_1066 li_0 ?_
        obtain ⟨c182, hf⟩ := gdp_some hf
        refine W.widen c182.1 c182.2 ?_
        obtain rfl := some_i hf
        replace hk32 : _ = rl32 := hk32
        subst hk32
        exact hx32_0 ((0 : Int32), j1031_K, Im179, j1031_J, Xm169, Am180, j1031_B, j1031_Q, j1031_n) hfo32 _ _ _ _ dL_law_1067 nz_0 hR hS
    have hj1006 : ∀ (j1006_K : gK) (j1006_I : gI) (j1006_J : gJ) (j1006_X : gX) (j1006_A : gI) (j1006_B : gJ) (j1006_Q : gX) (j1006_n : Nat) (j1006_u : Nat) (j1006_v : Nat), w_law_j1006 n L xs n10 w32_4 j1006_K j1006_I j1006_J j1006_X j1006_A j1006_B j1006_Q j1006_n j1006_u j1006_v = some o32 → ∀ (H : Heap) (locs : List Loc) (ls : Array Slot), RS G j1006_K j1006_I j1006_J j1006_X j1006_A j1006_B j1006_Q H → va_S (gA G) s.heap H locs → lv_has ls 7 [(0, .ref b), (1, .ref n), (2, .ref n10), (3, .ref n22), (4, .int w32_4)] → W p l e ({ frames := 8192, cells := 1200128, slots := 5501098, locals := 100000 } : Room) s m args below meth c H locs j1006_u j1006_v Z (F0 m 1006 ls []) := by
      intro j1006_K j1006_I j1006_J j1006_X j1006_A j1006_B j1006_Q j1006_n j1006_u j1006_v hf H locs ls hR hS hl
      unfold w_law_j1006 at hf
      refine lv_aload_n hx hb dL_law_1006 rfl (lv_at hl 1 rfl) ?_
      refine lv_aload_n hx hb dL_law_1007 rfl (lv_at hl 0 rfl) ?_
      refine lv_iload hx hb dL_law_1008 (lv_at hl 4 rfl) ?_
      refine lv_iconst (v := 1) hx hb dL_law_1010 li_1 ?_
      obtain ⟨v183, ev183, hf⟩ := lt_some hf
      refine n_iadd hx hb ev183 dL_law_1011 ?_
      obtain ⟨c184, hf⟩ := gdp_some hf
      obtain ⟨v185, ev185, hf⟩ := lt_some hf
      refine va_sld hx hb hX hbl hbA hS c184 dL_law_1012 ?_
      rw [← ev185]
      obtain ⟨c187, hf⟩ := gdp_some hf
      obtain ⟨a188, ha188, hf⟩ := bind_s hf
      obtain ⟨g189, hf⟩ := gdp_some hf
      obtain ⟨g190, hf⟩ := gdp_some hf
      obtain ⟨g191, hf⟩ := gdp_some hf
      obtain ⟨g192, hf⟩ := gdp_some hf
      obtain ⟨g193, hf⟩ := gdp_some hf
      obtain ⟨g194, hf⟩ := gdp_some hf
      obtain ⟨g195, hf⟩ := gdp_some hf
      obtain ⟨r186, hr186, hf⟩ := bind_s hf
      refine g0_cV (rm := (7, 162)) (As := [.int v185]) (rest := []) ⟨hx, hb, hml, hown, hts⟩ hG hR hS (m1_give l G j1006_K j1006_I j1006_J j1006_X j1006_A j1006_B j1006_Q n a188 g189 g190 g191 g192 ha188 g193 g194 g195 v185 (j1006_I 304 a188) (j1006_I 305 a188) (j1006_I 314 a188) (j1006_I 905 (n + 85)) (j1006_X 904 (n + 85)) (j1006_A (n + 86)) (j1006_A (n + 87)) (j1006_A (n + 88)) (j1006_A (n + 89)) (j1006_A (a188 + 2)) (j1006_A (a188 + 3)) rfl rfl rfl rfl rfl rfl rfl rfl rfl rfl rfl r186 hr186) ⟨callB_of 1 hts (lw_meth q1382) rfl rfl rfl (hts _ q103) (hts _ q1379) (by decide +kernel) ⟨Nat.le_of_ble_eq_true rfl, Nat.le_of_ble_eq_true rfl⟩, hts _ q1380, hts _ q1381⟩ g189.1 rfl rfl hl.1 (Nat.le_of_ble_eq_true rfl) dL_law_1013 ⟨c187.1, c187.2⟩ rfl (fun H locs hR hS => ?_)
      obtain ⟨Im196, eIm196, hf⟩ := lt_some hf
      obtain ⟨Xm197, eXm197, hf⟩ := lt_some hf
      obtain ⟨Am198, eAm198, hf⟩ := lt_some hf
      rw [← eIm196, ← eXm197, ← eAm198] at hR
      refine lv_aload_n hx hb dL_law_1016 rfl (lv_at hl 2 rfl) ?_
      refine lv_aload_n hx hb dL_law_1017 rfl (lv_at hl 0 rfl) ?_
      refine lv_iload hx hb dL_law_1018 (lv_at hl 4 rfl) ?_
      refine lv_iconst (v := 1) hx hb dL_law_1020 li_1 ?_
      obtain ⟨v199, ev199, hf⟩ := lt_some hf
      refine n_iadd hx hb ev199 dL_law_1021 ?_
      obtain ⟨c200, hf⟩ := gdp_some hf
      obtain ⟨v201, ev201, hf⟩ := lt_some hf
      refine va_sld hx hb hX hbl hbA hS c200 dL_law_1022 ?_
      rw [← ev201]
      obtain ⟨g203, hf⟩ := gdp_some hf
      obtain ⟨r202, hr202, hf⟩ := bind_s hf
      refine g0_cV (rm := (5, 126)) (As := [.int v201]) (rest := [.int r186.1]) ⟨hx, hb, hml, hown, hts⟩ hG hR hS (m14_give l G j1006_K Im196 j1006_J Xm197 Am198 j1006_B j1006_Q n10 g203 v201 (Im196 1100 n10) (Im196 1122 n10) (Im196 1170 n10) (Im196 1171 n10) (Am198 (n10 + 2)) (Am198 (n10 + 32)) (Am198 (n10 + 33)) (Am198 (n10 + 34)) (Am198 (n10 + 35)) (Am198 (n10 + 36)) (Am198 (n10 + 37)) rfl rfl rfl rfl rfl rfl rfl rfl rfl rfl rfl r202 hr202) ⟨callB_of 1 hts (lw_meth q2243) rfl rfl rfl (hts _ q118) (hts _ q2240) (by decide +kernel) ⟨Nat.le_of_ble_eq_true rfl, Nat.le_of_ble_eq_true rfl⟩, hts _ q2241, hts _ q2242⟩ g203.1 rfl rfl hl.1 (Nat.le_of_ble_eq_true rfl) dL_law_1023 ⟨c187.1, c187.2⟩ rfl (fun H locs hR hS => ?_)
      obtain ⟨Im204, eIm204, hf⟩ := lt_some hf
      obtain ⟨Am205, eAm205, hf⟩ := lt_some hf
      rw [← eIm204, ← eAm205] at hR
      refine lv_icmp_eq (tgt := 1231) hx hb dL_law_1026 (by decide) (fun c206 => ?_) (fun c206 => ?_)
      · have hf := ite_t c206 hf
        exact hj1231 j1006_K Im204 j1006_J Xm197 Am205 j1006_B j1006_Q j1006_n j1006_u j1006_v hf _ _ _ hR hS (lv_sub hl [0, 1, 2, 3, 4] rfl)
      · have hf := ite_f c206 hf
        refine lv_iconst (v := 0) hx hb dL_law_1029 li_0 ?_
        obtain ⟨c207, hf⟩ := gdp_some hf
        refine W.widen c207.1 c207.2 ?_
        obtain rfl := some_i hf
        replace hk32 : _ = rl32 := hk32
        subst hk32
        exact hx32_0 ((0 : Int32), j1006_K, Im204, j1006_J, Xm197, Am205, j1006_B, j1006_Q, j1006_n) hfo32 _ _ _ _ dL_law_1030 nz_0 hR hS
    have hj981 : ∀ (j981_K : gK) (j981_I : gI) (j981_J : gJ) (j981_X : gX) (j981_A : gI) (j981_B : gJ) (j981_Q : gX) (j981_n : Nat) (j981_u : Nat) (j981_v : Nat), w_law_j981 n L xs n10 w32_4 j981_K j981_I j981_J j981_X j981_A j981_B j981_Q j981_n j981_u j981_v = some o32 → ∀ (H : Heap) (locs : List Loc) (ls : Array Slot), RS G j981_K j981_I j981_J j981_X j981_A j981_B j981_Q H → va_S (gA G) s.heap H locs → lv_has ls 7 [(0, .ref b), (1, .ref n), (2, .ref n10), (3, .ref n22), (4, .int w32_4)] → W p l e ({ frames := 8192, cells := 1200128, slots := 5501098, locals := 100000 } : Room) s m args below meth c H locs j981_u j981_v Z (F0 m 981 ls []) := by
      intro j981_K j981_I j981_J j981_X j981_A j981_B j981_Q j981_n j981_u j981_v hf H locs ls hR hS hl
      unfold w_law_j981 at hf
      refine lv_aload_n hx hb dL_law_981 rfl (lv_at hl 1 rfl) ?_
      refine lv_aload_n hx hb dL_law_982 rfl (lv_at hl 0 rfl) ?_
      refine lv_iload hx hb dL_law_983 (lv_at hl 4 rfl) ?_
      refine lv_iconst (v := 1) hx hb dL_law_985 li_1 ?_
      obtain ⟨v208, ev208, hf⟩ := lt_some hf
      refine n_iadd hx hb ev208 dL_law_986 ?_
      obtain ⟨c209, hf⟩ := gdp_some hf
      obtain ⟨v210, ev210, hf⟩ := lt_some hf
      refine va_sld hx hb hX hbl hbA hS c209 dL_law_987 ?_
      rw [← ev210]
      obtain ⟨c212, hf⟩ := gdp_some hf
      obtain ⟨g213, hf⟩ := gdp_some hf
      obtain ⟨r211, hr211, hf⟩ := bind_s hf
      refine g0_cV (rm := (1, 22)) (As := [.int v210]) (rest := []) ⟨hx, hb, hml, hown, hts⟩ hG hR hS (m1_aimAt l G j981_K j981_I j981_J j981_X j981_A j981_B j981_Q n g213 v210 (j981_I 43 n) (j981_A (n + 113)) rfl rfl r211 hr211) ⟨callB_of 1 hts (lw_meth q1378) rfl rfl rfl (hts _ q103) (hts _ q1375) (by decide +kernel) ⟨Nat.le_of_ble_eq_true rfl, Nat.le_of_ble_eq_true rfl⟩, hts _ q1376, hts _ q1377⟩ g213.1 rfl rfl hl.1 (Nat.le_of_ble_eq_true rfl) dL_law_988 ⟨c212.1, c212.2⟩ rfl (fun H locs hR hS => ?_)
      refine lv_aload_n hx hb dL_law_991 rfl (lv_at hl 2 rfl) ?_
      refine lv_aload_n hx hb dL_law_992 rfl (lv_at hl 0 rfl) ?_
      refine lv_iload hx hb dL_law_993 (lv_at hl 4 rfl) ?_
      refine lv_iconst (v := 1) hx hb dL_law_995 li_1 ?_
      obtain ⟨v214, ev214, hf⟩ := lt_some hf
      refine n_iadd hx hb ev214 dL_law_996 ?_
      obtain ⟨c215, hf⟩ := gdp_some hf
      obtain ⟨v216, ev216, hf⟩ := lt_some hf
      refine va_sld hx hb hX hbl hbA hS c215 dL_law_997 ?_
      rw [← ev216]
      obtain ⟨g218, hf⟩ := gdp_some hf
      obtain ⟨r217, hr217, hf⟩ := bind_s hf
      refine g0_cV (rm := (0, 0)) (As := [.int v216]) (rest := [.int r211]) ⟨hx, hb, hml, hown, hts⟩ hG hR hS (m14_aimAt l G j981_K j981_I j981_J j981_X j981_A j981_B j981_Q n10 g218 v216 (j981_I 1100 n10) (j981_I 1183 n10) (j981_A (n10 + 42)) rfl rfl rfl r217 hr217) ⟨callB_of 1 hts (lw_meth q2239) rfl rfl rfl (hts _ q118) (hts _ q2236) (by decide +kernel) ⟨Nat.le_of_ble_eq_true rfl, Nat.le_of_ble_eq_true rfl⟩, hts _ q2237, hts _ q2238⟩ g218.1 rfl rfl hl.1 (Nat.le_of_ble_eq_true rfl) dL_law_998 ⟨c212.1, c212.2⟩ rfl (fun H locs hR hS => ?_)
      obtain ⟨Im219, eIm219, hf⟩ := lt_some hf
      rw [← eIm219] at hR
      refine lv_icmp_eq (tgt := 1231) hx hb dL_law_1001 (by decide) (fun c220 => ?_) (fun c220 => ?_)
      · have hf := ite_t c220 hf
        exact hj1231 j981_K Im219 j981_J j981_X j981_A j981_B j981_Q j981_n j981_u j981_v hf _ _ _ hR hS (lv_sub hl [0, 1, 2, 3, 4] rfl)
      · have hf := ite_f c220 hf
        refine lv_iconst (v := 0) hx hb dL_law_1004 li_0 ?_
        obtain ⟨c221, hf⟩ := gdp_some hf
        refine W.widen c221.1 c221.2 ?_
        obtain rfl := some_i hf
        replace hk32 : _ = rl32 := hk32
        subst hk32
        exact hx32_0 ((0 : Int32), j981_K, Im219, j981_J, j981_X, j981_A, j981_B, j981_Q, j981_n) hfo32 _ _ _ _ dL_law_1005 nz_0 hR hS
    have hj944 : ∀ (j944_K : gK) (j944_I : gI) (j944_J : gJ) (j944_X : gX) (j944_A : gI) (j944_B : gJ) (j944_Q : gX) (j944_n : Nat) (j944_u : Nat) (j944_v : Nat), w_law_j944 n L xs n10 w32_4 j944_K j944_I j944_J j944_X j944_A j944_B j944_Q j944_n j944_u j944_v = some o32 → ∀ (H : Heap) (locs : List Loc) (ls : Array Slot), RS G j944_K j944_I j944_J j944_X j944_A j944_B j944_Q H → va_S (gA G) s.heap H locs → lv_has ls 7 [(0, .ref b), (1, .ref n), (2, .ref n10), (3, .ref n22), (4, .int w32_4)] → W p l e ({ frames := 8192, cells := 1200128, slots := 5501098, locals := 100000 } : Room) s m args below meth c H locs j944_u j944_v Z (F0 m 944 ls []) := by
      intro j944_K j944_I j944_J j944_X j944_A j944_B j944_Q j944_n j944_u j944_v hf H locs ls hR hS hl
      unfold w_law_j944 at hf
      refine lv_aload_n hx hb dL_law_944 rfl (lv_at hl 1 rfl) ?_
      refine lv_aload_n hx hb dL_law_945 rfl (lv_at hl 0 rfl) ?_
      refine lv_iload hx hb dL_law_946 (lv_at hl 4 rfl) ?_
      refine lv_iconst (v := 1) hx hb dL_law_948 li_1 ?_
      obtain ⟨v222, ev222, hf⟩ := lt_some hf
      refine n_iadd hx hb ev222 dL_law_949 ?_
      obtain ⟨c223, hf⟩ := gdp_some hf
      obtain ⟨v224, ev224, hf⟩ := lt_some hf
      refine va_sld hx hb hX hbl hbA hS c223 dL_law_950 ?_
      rw [← ev224]
      refine lv_aload_n hx hb dL_law_951 rfl (lv_at hl 0 rfl) ?_
      refine lv_iload hx hb dL_law_952 (lv_at hl 4 rfl) ?_
      refine lv_iconst (v := 2) hx hb dL_law_954 li_2 ?_
      obtain ⟨v225, ev225, hf⟩ := lt_some hf
      refine n_iadd hx hb ev225 dL_law_955 ?_
      obtain ⟨c226, hf⟩ := gdp_some hf
      obtain ⟨v227, ev227, hf⟩ := lt_some hf
      refine va_sld hx hb hX hbl hbA hS c226 dL_law_956 ?_
      rw [← ev227]
      obtain ⟨c229, hf⟩ := gdp_some hf
      obtain ⟨a230, ha230, hf⟩ := bind_s hf
      obtain ⟨g231, hf⟩ := gdp_some hf
      obtain ⟨g232, hf⟩ := gdp_some hf
      obtain ⟨g233, hf⟩ := gdp_some hf
      obtain ⟨g234, hf⟩ := gdp_some hf
      obtain ⟨g235, hf⟩ := gdp_some hf
      obtain ⟨g236, hf⟩ := gdp_some hf
      obtain ⟨g237, hf⟩ := gdp_some hf
      obtain ⟨g238, hf⟩ := gdp_some hf
      obtain ⟨g239, hf⟩ := gdp_some hf
      obtain ⟨g240, hf⟩ := gdp_some hf
      obtain ⟨g241, hf⟩ := gdp_some hf
      obtain ⟨g242, hf⟩ := gdp_some hf
      obtain ⟨g243, hf⟩ := gdp_some hf
      obtain ⟨g244, hf⟩ := gdp_some hf
      obtain ⟨g245, hf⟩ := gdp_some hf
      obtain ⟨r228, hr228, hf⟩ := bind_s hf
      refine g0_cV (rm := (12, 290)) (As := [.int v224, .int v227]) (rest := []) ⟨hx, hb, hml, hown, hts⟩ hG hR hS (m1_aims l G j944_K j944_I j944_J j944_X j944_A j944_B j944_Q n a230 g231 g232 g233 g234 g235 g236 g237 g238 ha230 g239 g240 g241 g242 g243 g244 g245 v224 v227 (j944_I 43 n) (j944_I 44 n) (j944_I 304 a230) (j944_I 305 a230) (j944_I 314 a230) (j944_I 905 (n + 85)) (j944_I 905 (n + 92)) (j944_I 905 (n + 97)) (j944_I 905 (n + 102)) (j944_I 905 (n + 107)) (j944_X 904 (n + 85)) (j944_X 904 (n + 92)) (j944_X 904 (n + 97)) (j944_X 904 (n + 102)) (j944_X 904 (n + 107)) (j944_A (n + 86)) (j944_A (n + 87)) (j944_A (n + 88)) (j944_A (n + 89)) (j944_A (n + 93)) (j944_A (n + 94)) (j944_A (n + 96)) (j944_A (n + 98)) (j944_A (n + 99)) (j944_A (n + 100)) (j944_A (n + 101)) (j944_A (n + 103)) (j944_A (n + 104)) (j944_A (n + 105)) (j944_A (n + 106)) (j944_A (n + 108)) (j944_A (n + 109)) (j944_A (n + 110)) (j944_A (n + 111)) (j944_A (n + 112)) (j944_A (n + 113)) (j944_A (a230 + 2)) (j944_A (a230 + 3)) rfl rfl rfl rfl rfl rfl rfl rfl rfl rfl rfl rfl rfl rfl rfl rfl rfl rfl rfl rfl rfl rfl rfl rfl rfl rfl rfl rfl rfl rfl rfl rfl rfl rfl rfl rfl rfl rfl r228 hr228) ⟨callB_of 2 hts (lw_meth q1366) rfl rfl rfl (hts _ q103) (hts _ q1363) (by decide +kernel) ⟨Nat.le_of_ble_eq_true rfl, Nat.le_of_ble_eq_true rfl⟩, hts _ q1364, hts _ q1365⟩ g231.1 rfl rfl hl.1 (Nat.le_of_ble_eq_true rfl) dL_law_957 ⟨c229.1, c229.2⟩ rfl (fun H locs hR hS => ?_)
      obtain ⟨Im246, eIm246, hf⟩ := lt_some hf
      obtain ⟨Xm247, eXm247, hf⟩ := lt_some hf
      obtain ⟨Am248, eAm248, hf⟩ := lt_some hf
      rw [← eIm246, ← eXm247, ← eAm248] at hR
      refine lv_aload_n hx hb dL_law_960 rfl (lv_at hl 2 rfl) ?_
      refine lv_aload_n hx hb dL_law_961 rfl (lv_at hl 0 rfl) ?_
      refine lv_iload hx hb dL_law_962 (lv_at hl 4 rfl) ?_
      refine lv_iconst (v := 1) hx hb dL_law_964 li_1 ?_
      obtain ⟨v249, ev249, hf⟩ := lt_some hf
      refine n_iadd hx hb ev249 dL_law_965 ?_
      obtain ⟨c250, hf⟩ := gdp_some hf
      obtain ⟨v251, ev251, hf⟩ := lt_some hf
      refine va_sld hx hb hX hbl hbA hS c250 dL_law_966 ?_
      rw [← ev251]
      refine lv_aload_n hx hb dL_law_967 rfl (lv_at hl 0 rfl) ?_
      refine lv_iload hx hb dL_law_968 (lv_at hl 4 rfl) ?_
      refine lv_iconst (v := 2) hx hb dL_law_970 li_2 ?_
      obtain ⟨v252, ev252, hf⟩ := lt_some hf
      refine n_iadd hx hb ev252 dL_law_971 ?_
      obtain ⟨c253, hf⟩ := gdp_some hf
      obtain ⟨v254, ev254, hf⟩ := lt_some hf
      refine va_sld hx hb hX hbl hbA hS c253 dL_law_972 ?_
      rw [← ev254]
      obtain ⟨g256, hf⟩ := gdp_some hf
      obtain ⟨r255, hr255, hf⟩ := bind_s hf
      refine g0_cV (rm := (10, 245)) (As := [.int v251, .int v254]) (rest := [.int r228.1]) ⟨hx, hb, hml, hown, hts⟩ hG hR hS (m14_aims l G j944_K Im246 j944_J Xm247 Am248 j944_B j944_Q n10 g256 v251 v254 (Im246 1100 n10) (Im246 1122 n10) (Im246 1170 n10) (Im246 1181 n10) (Im246 1182 n10) (Im246 1183 n10) (Am248 (n10 + 2)) (Am248 (n10 + 32)) (Am248 (n10 + 33)) (Am248 (n10 + 34)) (Am248 (n10 + 35)) (Am248 (n10 + 39)) (Am248 (n10 + 40)) (Am248 (n10 + 41)) (Am248 (n10 + 42)) rfl rfl rfl rfl rfl rfl rfl rfl rfl rfl rfl rfl rfl rfl rfl r255 hr255) ⟨callB_of 2 hts (lw_meth q2223) rfl rfl rfl (hts _ q118) (hts _ q2220) (by decide +kernel) ⟨Nat.le_of_ble_eq_true rfl, Nat.le_of_ble_eq_true rfl⟩, hts _ q2221, hts _ q2222⟩ g256.1 rfl rfl hl.1 (Nat.le_of_ble_eq_true rfl) dL_law_973 ⟨c229.1, c229.2⟩ rfl (fun H locs hR hS => ?_)
      obtain ⟨Im257, eIm257, hf⟩ := lt_some hf
      obtain ⟨Am258, eAm258, hf⟩ := lt_some hf
      rw [← eIm257, ← eAm258] at hR
      refine lv_icmp_eq (tgt := 1231) hx hb dL_law_976 (by decide) (fun c259 => ?_) (fun c259 => ?_)
      · have hf := ite_t c259 hf
        exact hj1231 j944_K Im257 j944_J Xm247 Am258 j944_B j944_Q j944_n j944_u j944_v hf _ _ _ hR hS (lv_sub hl [0, 1, 2, 3, 4] rfl)
      · have hf := ite_f c259 hf
        refine lv_iconst (v := 0) hx hb dL_law_979 li_0 ?_
        obtain ⟨c260, hf⟩ := gdp_some hf
        refine W.widen c260.1 c260.2 ?_
        obtain rfl := some_i hf
        replace hk32 : _ = rl32 := hk32
        subst hk32
        exact hx32_0 ((0 : Int32), j944_K, Im257, j944_J, Xm247, Am258, j944_B, j944_Q, j944_n) hfo32 _ _ _ _ dL_law_980 nz_0 hR hS
    have hj931 : ∀ (j931_K : gK) (j931_I : gI) (j931_J : gJ) (j931_X : gX) (j931_A : gI) (j931_B : gJ) (j931_Q : gX) (j931_n : Nat) (j931_u : Nat) (j931_v : Nat), w_law_j931 n n10 w32_4 j931_K j931_I j931_J j931_X j931_A j931_B j931_Q j931_n j931_u j931_v = some o32 → ∀ (H : Heap) (locs : List Loc) (ls : Array Slot), RS G j931_K j931_I j931_J j931_X j931_A j931_B j931_Q H → va_S (gA G) s.heap H locs → lv_has ls 7 [(0, .ref b), (1, .ref n), (2, .ref n10), (3, .ref n22), (4, .int w32_4)] → W p l e ({ frames := 8192, cells := 1200128, slots := 5501098, locals := 100000 } : Room) s m args below meth c H locs j931_u j931_v Z (F0 m 931 ls []) := by
      intro j931_K j931_I j931_J j931_X j931_A j931_B j931_Q j931_n j931_u j931_v hf H locs ls hR hS hl
      unfold w_law_j931 at hf
      refine lv_aload_n hx hb dL_law_931 rfl (lv_at hl 1 rfl) ?_
      obtain ⟨c262, hf⟩ := gdp_some hf
      obtain ⟨g263, hf⟩ := gdp_some hf
      obtain ⟨r261, hr261, hf⟩ := bind_s hf
      refine g0_cV (rm := (0, 0)) (As := []) (rest := []) ⟨hx, hb, hml, hown, hts⟩ hG hR hS (m1_out l G j931_K j931_I j931_J j931_X j931_A j931_B j931_Q n g263 (j931_I 38 n) (j931_I 39 n) rfl rfl r261 hr261) ⟨callB_of 0 hts (lw_meth q1362) rfl rfl rfl (hts _ q103) (hts _ q1359) (by decide +kernel) ⟨Nat.le_of_ble_eq_true rfl, Nat.le_of_ble_eq_true rfl⟩, hts _ q1360, hts _ q1361⟩ g263.1 rfl rfl hl.1 (Nat.le_of_ble_eq_true rfl) dL_law_932 ⟨c262.1, c262.2⟩ rfl (fun H locs hR hS => ?_)
      refine lv_aload_n hx hb dL_law_935 rfl (lv_at hl 2 rfl) ?_
      obtain ⟨g265, hf⟩ := gdp_some hf
      obtain ⟨r264, hr264, hf⟩ := bind_s hf
      refine g0_cV (rm := (0, 0)) (As := []) (rest := [.int r261]) ⟨hx, hb, hml, hown, hts⟩ hG hR hS (m14_out l G j931_K j931_I j931_J j931_X j931_A j931_B j931_Q n10 g265 (j931_I 1100 n10) (j931_I 1175 n10) rfl rfl r264 hr264) ⟨callB_of 0 hts (lw_meth q2219) rfl rfl rfl (hts _ q118) (hts _ q2216) (by decide +kernel) ⟨Nat.le_of_ble_eq_true rfl, Nat.le_of_ble_eq_true rfl⟩, hts _ q2217, hts _ q2218⟩ g265.1 rfl rfl hl.1 (Nat.le_of_ble_eq_true rfl) dL_law_936 ⟨c262.1, c262.2⟩ rfl (fun H locs hR hS => ?_)
      obtain ⟨Im266, eIm266, hf⟩ := lt_some hf
      rw [← eIm266] at hR
      refine lv_icmp_eq (tgt := 1231) hx hb dL_law_939 (by decide) (fun c267 => ?_) (fun c267 => ?_)
      · have hf := ite_t c267 hf
        exact hj1231 j931_K Im266 j931_J j931_X j931_A j931_B j931_Q j931_n j931_u j931_v hf _ _ _ hR hS (lv_sub hl [0, 1, 2, 3, 4] rfl)
      · have hf := ite_f c267 hf
        refine lv_iconst (v := 0) hx hb dL_law_942 li_0 ?_
        obtain ⟨c268, hf⟩ := gdp_some hf
        refine W.widen c268.1 c268.2 ?_
        obtain rfl := some_i hf
        replace hk32 : _ = rl32 := hk32
        subst hk32
        exact hx32_0 ((0 : Int32), j931_K, Im266, j931_J, j931_X, j931_A, j931_B, j931_Q, j931_n) hfo32 _ _ _ _ dL_law_943 nz_0 hR hS
    have hj882 : ∀ (j882_K : gK) (j882_I : gI) (j882_J : gJ) (j882_X : gX) (j882_A : gI) (j882_B : gJ) (j882_Q : gX) (j882_n : Nat) (j882_u : Nat) (j882_v : Nat), w_law_j882 G.2.2 (aK G) n L xs n10 w32_4 j882_K j882_I j882_J j882_X j882_A j882_B j882_Q j882_n j882_u j882_v = some o32 → ∀ (H : Heap) (locs : List Loc) (ls : Array Slot), RS G j882_K j882_I j882_J j882_X j882_A j882_B j882_Q H → va_S (gA G) s.heap H locs → lv_has ls 7 [(0, .ref b), (1, .ref n), (2, .ref n10), (3, .ref n22), (4, .int w32_4)] → W p l e ({ frames := 8192, cells := 1200128, slots := 5501098, locals := 100000 } : Room) s m args below meth c H locs j882_u j882_v Z (F0 m 882 ls []) := by
      intro j882_K j882_I j882_J j882_X j882_A j882_B j882_Q j882_n j882_u j882_v hf H locs ls hR hS hl
      unfold w_law_j882 at hf
      refine lv_aload_n hx hb dL_law_882 rfl (lv_at hl 1 rfl) ?_
      refine lv_aload_n hx hb dL_law_883 rfl (lv_at hl 0 rfl) ?_
      refine lv_iload hx hb dL_law_884 (lv_at hl 4 rfl) ?_
      refine lv_iconst (v := 1) hx hb dL_law_886 li_1 ?_
      obtain ⟨v269, ev269, hf⟩ := lt_some hf
      refine n_iadd hx hb ev269 dL_law_887 ?_
      obtain ⟨c270, hf⟩ := gdp_some hf
      obtain ⟨v271, ev271, hf⟩ := lt_some hf
      refine va_sld hx hb hX hbl hbA hS c270 dL_law_888 ?_
      rw [← ev271]
      refine lv_aload_n hx hb dL_law_889 rfl (lv_at hl 0 rfl) ?_
      refine lv_iload hx hb dL_law_890 (lv_at hl 4 rfl) ?_
      refine lv_iconst (v := 2) hx hb dL_law_892 li_2 ?_
      obtain ⟨v272, ev272, hf⟩ := lt_some hf
      refine n_iadd hx hb ev272 dL_law_893 ?_
      obtain ⟨c273, hf⟩ := gdp_some hf
      obtain ⟨v274, ev274, hf⟩ := lt_some hf
      refine va_sld hx hb hX hbl hbA hS c273 dL_law_894 ?_
      rw [← ev274]
      refine lv_aload_n hx hb dL_law_895 rfl (lv_at hl 0 rfl) ?_
      refine lv_iload hx hb dL_law_896 (lv_at hl 4 rfl) ?_
      refine lv_iconst (v := 3) hx hb dL_law_898 li_3 ?_
      obtain ⟨v275, ev275, hf⟩ := lt_some hf
      refine n_iadd hx hb ev275 dL_law_899 ?_
      obtain ⟨c276, hf⟩ := gdp_some hf
      obtain ⟨v277, ev277, hf⟩ := lt_some hf
      refine va_sld hx hb hX hbl hbA hS c276 dL_law_900 ?_
      rw [← ev277]
      obtain ⟨k278, hf⟩ := gdp_some hf
      obtain ⟨c280, hf⟩ := gdp_some hf
      obtain ⟨r279, hr279, hf⟩ := bind_s hf
      refine x0_gor (vx_runV (As := [.int v271, .int v274, .int v277]) (rest := []) (b := n) ⟨hx, hb, hml, hown, hts⟩ (m1_fireAt_w l G j882_K j882_I j882_J j882_X j882_A j882_B j882_Q j882_n n v271 v274 v277 r279 hr279) ⟨callB_of 3 hts (lw_meth q1357) rfl rfl rfl (hts _ q103) (hts _ q1354) (by decide +kernel) ⟨Nat.le_of_ble_eq_true rfl, Nat.le_of_ble_eq_true rfl⟩, hts _ q1355, hts _ q1356⟩ (x_preV hG hR hW hS k278 rfl) rfl rfl hl.1 rfl (lv_room (Nat.le_of_ble_eq_true rfl)) dL_law_901 ⟨c280.1, c280.2⟩) hS (fun H locs hR hS => ?_)
      refine lv_aload_n hx hb dL_law_904 rfl (lv_at hl 2 rfl) ?_
      refine lv_aload_n hx hb dL_law_905 rfl (lv_at hl 0 rfl) ?_
      refine lv_iload hx hb dL_law_906 (lv_at hl 4 rfl) ?_
      refine lv_iconst (v := 1) hx hb dL_law_908 li_1 ?_
      obtain ⟨v281, ev281, hf⟩ := lt_some hf
      refine n_iadd hx hb ev281 dL_law_909 ?_
      obtain ⟨c282, hf⟩ := gdp_some hf
      obtain ⟨v283, ev283, hf⟩ := lt_some hf
      refine va_sld hx hb hX hbl hbA hS c282 dL_law_910 ?_
      rw [← ev283]
      refine lv_aload_n hx hb dL_law_911 rfl (lv_at hl 0 rfl) ?_
      refine lv_iload hx hb dL_law_912 (lv_at hl 4 rfl) ?_
      refine lv_iconst (v := 2) hx hb dL_law_914 li_2 ?_
      obtain ⟨v284, ev284, hf⟩ := lt_some hf
      refine n_iadd hx hb ev284 dL_law_915 ?_
      obtain ⟨c285, hf⟩ := gdp_some hf
      obtain ⟨v286, ev286, hf⟩ := lt_some hf
      refine va_sld hx hb hX hbl hbA hS c285 dL_law_916 ?_
      rw [← ev286]
      refine lv_aload_n hx hb dL_law_917 rfl (lv_at hl 0 rfl) ?_
      refine lv_iload hx hb dL_law_918 (lv_at hl 4 rfl) ?_
      refine lv_iconst (v := 3) hx hb dL_law_920 li_3 ?_
      obtain ⟨v287, ev287, hf⟩ := lt_some hf
      refine n_iadd hx hb ev287 dL_law_921 ?_
      obtain ⟨c288, hf⟩ := gdp_some hf
      obtain ⟨v289, ev289, hf⟩ := lt_some hf
      refine va_sld hx hb hX hbl hbA hS c288 dL_law_922 ?_
      rw [← ev289]
      obtain ⟨g291, hf⟩ := gdp_some hf
      obtain ⟨r290, hr290, hf⟩ := bind_s hf
      refine g0_cV (rm := (1, 22)) (As := [.int v283, .int v286, .int v289]) (rest := [.int r279.1]) ⟨hx, hb, hml, hown, hts⟩ hG hR hS (m14_fireAt l G r279.2.1 r279.2.2.1 r279.2.2.2.1 r279.2.2.2.2.1 r279.2.2.2.2.2.1 r279.2.2.2.2.2.2.1 r279.2.2.2.2.2.2.2.1 n10 g291 v283 v286 v289 (r279.2.2.1 1100 n10) (r279.2.2.1 1173 n10) (r279.2.2.1 1174 n10) (r279.2.2.1 1176 n10) (r279.2.2.2.2.2.1 (n10 + 38)) rfl rfl rfl rfl rfl r290 hr290) ⟨callB_of 3 hts (lw_meth q2215) rfl rfl rfl (hts _ q118) (hts _ q2212) (by decide +kernel) ⟨Nat.le_of_ble_eq_true rfl, Nat.le_of_ble_eq_true rfl⟩, hts _ q2213, hts _ q2214⟩ g291.1 rfl rfl hl.1 (Nat.le_of_ble_eq_true rfl) dL_law_923 ⟨c280.1, c280.2⟩ rfl (fun H locs hR hS => ?_)
      obtain ⟨Im292, eIm292, hf⟩ := lt_some hf
      rw [← eIm292] at hR
      refine lv_icmp_eq (tgt := 1231) hx hb dL_law_926 (by decide) (fun c293 => ?_) (fun c293 => ?_)
      · have hf := ite_t c293 hf
        exact hj1231 r279.2.1 Im292 r279.2.2.2.1 r279.2.2.2.2.1 r279.2.2.2.2.2.1 r279.2.2.2.2.2.2.1 r279.2.2.2.2.2.2.2.1 r279.2.2.2.2.2.2.2.2 j882_u j882_v hf _ _ _ hR hS (lv_sub hl [0, 1, 2, 3, 4] rfl)
      · have hf := ite_f c293 hf
        refine lv_iconst (v := 0) hx hb dL_law_929 li_0 ?_
        obtain ⟨c294, hf⟩ := gdp_some hf
        refine W.widen c294.1 c294.2 ?_
        obtain rfl := some_i hf
        replace hk32 : _ = rl32 := hk32
        subst hk32
        exact hx32_0 ((0 : Int32), r279.2.1, Im292, r279.2.2.2.1, r279.2.2.2.2.1, r279.2.2.2.2.2.1, r279.2.2.2.2.2.2.1, r279.2.2.2.2.2.2.2.1, r279.2.2.2.2.2.2.2.2) hfo32 _ _ _ _ dL_law_930 nz_0 hR hS
    have hj821 : ∀ (j821_K : gK) (j821_I : gI) (j821_J : gJ) (j821_X : gX) (j821_A : gI) (j821_B : gJ) (j821_Q : gX) (j821_n : Nat) (j821_u : Nat) (j821_v : Nat), w_law_j821 G.2.2 (aK G) n L xs n10 w32_4 j821_K j821_I j821_J j821_X j821_A j821_B j821_Q j821_n j821_u j821_v = some o32 → ∀ (H : Heap) (locs : List Loc) (ls : Array Slot), RS G j821_K j821_I j821_J j821_X j821_A j821_B j821_Q H → va_S (gA G) s.heap H locs → lv_has ls 7 [(0, .ref b), (1, .ref n), (2, .ref n10), (3, .ref n22), (4, .int w32_4)] → W p l e ({ frames := 8192, cells := 1200128, slots := 5501098, locals := 100000 } : Room) s m args below meth c H locs j821_u j821_v Z (F0 m 821 ls []) := by
      intro j821_K j821_I j821_J j821_X j821_A j821_B j821_Q j821_n j821_u j821_v hf H locs ls hR hS hl
      unfold w_law_j821 at hf
      refine lv_aload_n hx hb dL_law_821 rfl (lv_at hl 1 rfl) ?_
      refine lv_aload_n hx hb dL_law_822 rfl (lv_at hl 0 rfl) ?_
      refine lv_iload hx hb dL_law_823 (lv_at hl 4 rfl) ?_
      refine lv_iconst (v := 1) hx hb dL_law_825 li_1 ?_
      obtain ⟨v295, ev295, hf⟩ := lt_some hf
      refine n_iadd hx hb ev295 dL_law_826 ?_
      obtain ⟨c296, hf⟩ := gdp_some hf
      obtain ⟨v297, ev297, hf⟩ := lt_some hf
      refine va_sld hx hb hX hbl hbA hS c296 dL_law_827 ?_
      rw [← ev297]
      refine lv_aload_n hx hb dL_law_828 rfl (lv_at hl 0 rfl) ?_
      refine lv_iload hx hb dL_law_829 (lv_at hl 4 rfl) ?_
      refine lv_iconst (v := 2) hx hb dL_law_831 li_2 ?_
      obtain ⟨v298, ev298, hf⟩ := lt_some hf
      refine n_iadd hx hb ev298 dL_law_832 ?_
      obtain ⟨c299, hf⟩ := gdp_some hf
      obtain ⟨v300, ev300, hf⟩ := lt_some hf
      refine va_sld hx hb hX hbl hbA hS c299 dL_law_833 ?_
      rw [← ev300]
      refine lv_aload_n hx hb dL_law_834 rfl (lv_at hl 0 rfl) ?_
      refine lv_iload hx hb dL_law_835 (lv_at hl 4 rfl) ?_
      refine lv_iconst (v := 3) hx hb dL_law_837 li_3 ?_
      obtain ⟨v301, ev301, hf⟩ := lt_some hf
      refine n_iadd hx hb ev301 dL_law_838 ?_
      obtain ⟨c302, hf⟩ := gdp_some hf
      obtain ⟨v303, ev303, hf⟩ := lt_some hf
      refine va_sld hx hb hX hbl hbA hS c302 dL_law_839 ?_
      rw [← ev303]
      refine lv_aload_n hx hb dL_law_840 rfl (lv_at hl 0 rfl) ?_
      refine lv_iload hx hb dL_law_841 (lv_at hl 4 rfl) ?_
      refine lv_iconst (v := 4) hx hb dL_law_843 li_4 ?_
      obtain ⟨v304, ev304, hf⟩ := lt_some hf
      refine n_iadd hx hb ev304 dL_law_844 ?_
      obtain ⟨c305, hf⟩ := gdp_some hf
      obtain ⟨v306, ev306, hf⟩ := lt_some hf
      refine va_sld hx hb hX hbl hbA hS c305 dL_law_845 ?_
      rw [← ev306]
      obtain ⟨k307, hf⟩ := gdp_some hf
      obtain ⟨c309, hf⟩ := gdp_some hf
      obtain ⟨r308, hr308, hf⟩ := bind_s hf
      refine x_gor (vx_runV (As := [.int v297, .int v300, .int v303, .int v306]) (rest := []) (b := n) ⟨hx, hb, hml, hown, hts⟩ (m1_fire_w l G j821_K j821_I j821_J j821_X j821_A j821_B j821_Q j821_n n v297 v300 v303 v306 r308 hr308) ⟨callB_of 4 hts (lw_meth q1315) rfl rfl rfl (hts _ q103) (hts _ q1312) (by decide +kernel) ⟨Nat.le_of_ble_eq_true rfl, Nat.le_of_ble_eq_true rfl⟩, hts _ q1313, hts _ q1314⟩ (x_preV hG hR hW hS k307 rfl) rfl rfl hl.1 rfl (lv_room (Nat.le_of_ble_eq_true rfl)) dL_law_846 ⟨c309.1, c309.2⟩) hS (fun H locs hR hS => ?_)
      refine lv_aload_n hx hb dL_law_849 rfl (lv_at hl 2 rfl) ?_
      refine lv_aload_n hx hb dL_law_850 rfl (lv_at hl 0 rfl) ?_
      refine lv_iload hx hb dL_law_851 (lv_at hl 4 rfl) ?_
      refine lv_iconst (v := 1) hx hb dL_law_853 li_1 ?_
      obtain ⟨v310, ev310, hf⟩ := lt_some hf
      refine n_iadd hx hb ev310 dL_law_854 ?_
      obtain ⟨c311, hf⟩ := gdp_some hf
      obtain ⟨v312, ev312, hf⟩ := lt_some hf
      refine va_sld hx hb hX hbl hbA hS c311 dL_law_855 ?_
      rw [← ev312]
      refine lv_aload_n hx hb dL_law_856 rfl (lv_at hl 0 rfl) ?_
      refine lv_iload hx hb dL_law_857 (lv_at hl 4 rfl) ?_
      refine lv_iconst (v := 2) hx hb dL_law_859 li_2 ?_
      obtain ⟨v313, ev313, hf⟩ := lt_some hf
      refine n_iadd hx hb ev313 dL_law_860 ?_
      obtain ⟨c314, hf⟩ := gdp_some hf
      obtain ⟨v315, ev315, hf⟩ := lt_some hf
      refine va_sld hx hb hX hbl hbA hS c314 dL_law_861 ?_
      rw [← ev315]
      refine lv_aload_n hx hb dL_law_862 rfl (lv_at hl 0 rfl) ?_
      refine lv_iload hx hb dL_law_863 (lv_at hl 4 rfl) ?_
      refine lv_iconst (v := 3) hx hb dL_law_865 li_3 ?_
      obtain ⟨v316, ev316, hf⟩ := lt_some hf
      refine n_iadd hx hb ev316 dL_law_866 ?_
      obtain ⟨c317, hf⟩ := gdp_some hf
      obtain ⟨v318, ev318, hf⟩ := lt_some hf
      refine va_sld hx hb hX hbl hbA hS c317 dL_law_867 ?_
      rw [← ev318]
      refine lv_aload_n hx hb dL_law_868 rfl (lv_at hl 0 rfl) ?_
      refine lv_iload hx hb dL_law_869 (lv_at hl 4 rfl) ?_
      refine lv_iconst (v := 4) hx hb dL_law_871 li_4 ?_
      obtain ⟨v319, ev319, hf⟩ := lt_some hf
      refine n_iadd hx hb ev319 dL_law_872 ?_
      obtain ⟨c320, hf⟩ := gdp_some hf
      obtain ⟨v321, ev321, hf⟩ := lt_some hf
      refine va_sld hx hb hX hbl hbA hS c320 dL_law_873 ?_
      rw [← ev321]
      obtain ⟨c323, hf⟩ := gdp_some hf
      obtain ⟨g324, hf⟩ := gdp_some hf
      obtain ⟨r322, hr322, hf⟩ := bind_s hf
      refine g0_cV (rm := (5, 126)) (As := [.int v312, .int v315, .int v318, .int v321]) (rest := [.int r308.1]) ⟨hx, hb, hml, hown, hts⟩ hG hR hS (m14_fire l G r308.2.1 r308.2.2.1 r308.2.2.2.1 r308.2.2.2.2.1 r308.2.2.2.2.2.1 r308.2.2.2.2.2.2.1 r308.2.2.2.2.2.2.2.1 n10 g324 v312 v315 v318 v321 (r308.2.2.1 1100 n10) (r308.2.2.1 1122 n10) (r308.2.2.1 1170 n10) (r308.2.2.1 1171 n10) (r308.2.2.1 1173 n10) (r308.2.2.1 1174 n10) (r308.2.2.1 1175 n10) (r308.2.2.1 1176 n10) (r308.2.2.2.2.2.1 (n10 + 2)) (r308.2.2.2.2.2.1 (n10 + 32)) (r308.2.2.2.2.2.1 (n10 + 33)) (r308.2.2.2.2.2.1 (n10 + 34)) (r308.2.2.2.2.2.1 (n10 + 35)) (r308.2.2.2.2.2.1 (n10 + 36)) (r308.2.2.2.2.2.1 (n10 + 37)) (r308.2.2.2.2.2.1 (n10 + 38)) rfl rfl rfl rfl rfl rfl rfl rfl rfl rfl rfl rfl rfl rfl rfl rfl r322 hr322) ⟨callB_of 4 hts (lw_meth q2175) rfl rfl rfl (hts _ q118) (hts _ q2172) (by decide +kernel) ⟨Nat.le_of_ble_eq_true rfl, Nat.le_of_ble_eq_true rfl⟩, hts _ q2173, hts _ q2174⟩ g324.1 rfl rfl hl.1 (Nat.le_of_ble_eq_true rfl) dL_law_874 ⟨c323.1, c323.2⟩ rfl (fun H locs hR hS => ?_)
      obtain ⟨Im325, eIm325, hf⟩ := lt_some hf
      obtain ⟨Am326, eAm326, hf⟩ := lt_some hf
      rw [← eIm325, ← eAm326] at hR
      refine lv_icmp_eq (tgt := 1231) hx hb dL_law_877 (by decide) (fun c327 => ?_) (fun c327 => ?_)
      · have hf := ite_t c327 hf
        exact hj1231 r308.2.1 Im325 r308.2.2.2.1 r308.2.2.2.2.1 Am326 r308.2.2.2.2.2.2.1 r308.2.2.2.2.2.2.2.1 r308.2.2.2.2.2.2.2.2 (j821_u + 105) (j821_v + 5502) hf _ _ _ hR hS (lv_sub hl [0, 1, 2, 3, 4] rfl)
      · have hf := ite_f c327 hf
        refine lv_iconst (v := 0) hx hb dL_law_880 li_0 ?_
        obtain ⟨c328, hf⟩ := gdp_some hf
        refine W.widen c328.1 c328.2 ?_
        obtain rfl := some_i hf
        replace hk32 : _ = rl32 := hk32
        subst hk32
        exact hx32_0 ((0 : Int32), r308.2.1, Im325, r308.2.2.2.1, r308.2.2.2.2.1, Am326, r308.2.2.2.2.2.2.1, r308.2.2.2.2.2.2.2.1, r308.2.2.2.2.2.2.2.2) hfo32 _ _ _ _ dL_law_881 nz_0 hR hS
    have hj796 : ∀ (j796_K : gK) (j796_I : gI) (j796_J : gJ) (j796_X : gX) (j796_A : gI) (j796_B : gJ) (j796_Q : gX) (j796_n : Nat) (j796_u : Nat) (j796_v : Nat), w_law_j796 n L xs n10 w32_4 j796_K j796_I j796_J j796_X j796_A j796_B j796_Q j796_n j796_u j796_v = some o32 → ∀ (H : Heap) (locs : List Loc) (ls : Array Slot), RS G j796_K j796_I j796_J j796_X j796_A j796_B j796_Q H → va_S (gA G) s.heap H locs → lv_has ls 7 [(0, .ref b), (1, .ref n), (2, .ref n10), (3, .ref n22), (4, .int w32_4)] → W p l e ({ frames := 8192, cells := 1200128, slots := 5501098, locals := 100000 } : Room) s m args below meth c H locs j796_u j796_v Z (F0 m 796 ls []) := by
      intro j796_K j796_I j796_J j796_X j796_A j796_B j796_Q j796_n j796_u j796_v hf H locs ls hR hS hl
      unfold w_law_j796 at hf
      refine lv_aload_n hx hb dL_law_796 rfl (lv_at hl 1 rfl) ?_
      refine lv_aload_n hx hb dL_law_797 rfl (lv_at hl 0 rfl) ?_
      refine lv_iload hx hb dL_law_798 (lv_at hl 4 rfl) ?_
      refine lv_iconst (v := 1) hx hb dL_law_800 li_1 ?_
      obtain ⟨v329, ev329, hf⟩ := lt_some hf
      refine n_iadd hx hb ev329 dL_law_801 ?_
      obtain ⟨c330, hf⟩ := gdp_some hf
      obtain ⟨v331, ev331, hf⟩ := lt_some hf
      refine va_sld hx hb hX hbl hbA hS c330 dL_law_802 ?_
      rw [← ev331]
      obtain ⟨c333, hf⟩ := gdp_some hf
      obtain ⟨g334, hf⟩ := gdp_some hf
      obtain ⟨r332, hr332, hf⟩ := bind_s hf
      refine g0_cV (rm := (1, 22)) (As := [.int v331]) (rest := []) ⟨hx, hb, hml, hown, hts⟩ hG hR hS (m1_hookAt l G j796_K j796_I j796_J j796_X j796_A j796_B j796_Q n g334 v331 (j796_I 33 n) (j796_A (n + 79)) rfl rfl r332 hr332) ⟨callB_of 1 hts (lw_meth q1311) rfl rfl rfl (hts _ q103) (hts _ q1308) (by decide +kernel) ⟨Nat.le_of_ble_eq_true rfl, Nat.le_of_ble_eq_true rfl⟩, hts _ q1309, hts _ q1310⟩ g334.1 rfl rfl hl.1 (Nat.le_of_ble_eq_true rfl) dL_law_803 ⟨c333.1, c333.2⟩ rfl (fun H locs hR hS => ?_)
      refine lv_aload_n hx hb dL_law_806 rfl (lv_at hl 2 rfl) ?_
      refine lv_aload_n hx hb dL_law_807 rfl (lv_at hl 0 rfl) ?_
      refine lv_iload hx hb dL_law_808 (lv_at hl 4 rfl) ?_
      refine lv_iconst (v := 1) hx hb dL_law_810 li_1 ?_
      obtain ⟨v335, ev335, hf⟩ := lt_some hf
      refine n_iadd hx hb ev335 dL_law_811 ?_
      obtain ⟨c336, hf⟩ := gdp_some hf
      obtain ⟨v337, ev337, hf⟩ := lt_some hf
      refine va_sld hx hb hX hbl hbA hS c336 dL_law_812 ?_
      rw [← ev337]
      obtain ⟨g339, hf⟩ := gdp_some hf
      obtain ⟨r338, hr338, hf⟩ := bind_s hf
      refine g0_cV (rm := (0, 0)) (As := [.int v337]) (rest := [.int r332]) ⟨hx, hb, hml, hown, hts⟩ hG hR hS (m14_hookAt l G j796_K j796_I j796_J j796_X j796_A j796_B j796_Q n10 g339 v337 (j796_I 1100 n10) (j796_I 1163 n10) (j796_A (n10 + 31)) rfl rfl rfl r338 hr338) ⟨callB_of 1 hts (lw_meth q2171) rfl rfl rfl (hts _ q118) (hts _ q2168) (by decide +kernel) ⟨Nat.le_of_ble_eq_true rfl, Nat.le_of_ble_eq_true rfl⟩, hts _ q2169, hts _ q2170⟩ g339.1 rfl rfl hl.1 (Nat.le_of_ble_eq_true rfl) dL_law_813 ⟨c333.1, c333.2⟩ rfl (fun H locs hR hS => ?_)
      obtain ⟨Im340, eIm340, hf⟩ := lt_some hf
      rw [← eIm340] at hR
      refine lv_icmp_eq (tgt := 1231) hx hb dL_law_816 (by decide) (fun c341 => ?_) (fun c341 => ?_)
      · have hf := ite_t c341 hf
        exact hj1231 j796_K Im340 j796_J j796_X j796_A j796_B j796_Q j796_n j796_u j796_v hf _ _ _ hR hS (lv_sub hl [0, 1, 2, 3, 4] rfl)
      · have hf := ite_f c341 hf
        refine lv_iconst (v := 0) hx hb dL_law_819 li_0 ?_
        obtain ⟨c342, hf⟩ := gdp_some hf
        refine W.widen c342.1 c342.2 ?_
        obtain rfl := some_i hf
        replace hk32 : _ = rl32 := hk32
        subst hk32
        exact hx32_0 ((0 : Int32), j796_K, Im340, j796_J, j796_X, j796_A, j796_B, j796_Q, j796_n) hfo32 _ _ _ _ dL_law_820 nz_0 hR hS
    have hj771 : ∀ (j771_K : gK) (j771_I : gI) (j771_J : gJ) (j771_X : gX) (j771_A : gI) (j771_B : gJ) (j771_Q : gX) (j771_n : Nat) (j771_u : Nat) (j771_v : Nat), w_law_j771 n L xs n10 w32_4 j771_K j771_I j771_J j771_X j771_A j771_B j771_Q j771_n j771_u j771_v = some o32 → ∀ (H : Heap) (locs : List Loc) (ls : Array Slot), RS G j771_K j771_I j771_J j771_X j771_A j771_B j771_Q H → va_S (gA G) s.heap H locs → lv_has ls 7 [(0, .ref b), (1, .ref n), (2, .ref n10), (3, .ref n22), (4, .int w32_4)] → W p l e ({ frames := 8192, cells := 1200128, slots := 5501098, locals := 100000 } : Room) s m args below meth c H locs j771_u j771_v Z (F0 m 771 ls []) := by
      intro j771_K j771_I j771_J j771_X j771_A j771_B j771_Q j771_n j771_u j771_v hf H locs ls hR hS hl
      unfold w_law_j771 at hf
      refine lv_aload_n hx hb dL_law_771 rfl (lv_at hl 1 rfl) ?_
      refine lv_aload_n hx hb dL_law_772 rfl (lv_at hl 0 rfl) ?_
      refine lv_iload hx hb dL_law_773 (lv_at hl 4 rfl) ?_
      refine lv_iconst (v := 1) hx hb dL_law_775 li_1 ?_
      obtain ⟨v343, ev343, hf⟩ := lt_some hf
      refine n_iadd hx hb ev343 dL_law_776 ?_
      obtain ⟨c344, hf⟩ := gdp_some hf
      obtain ⟨v345, ev345, hf⟩ := lt_some hf
      refine va_sld hx hb hX hbl hbA hS c344 dL_law_777 ?_
      rw [← ev345]
      obtain ⟨c347, hf⟩ := gdp_some hf
      obtain ⟨g348, hf⟩ := gdp_some hf
      obtain ⟨r346, hr346, hf⟩ := bind_s hf
      refine g0_cV (rm := (11, 262)) (As := [.int v345]) (rest := []) ⟨hx, hb, hml, hown, hts⟩ hG hR hS (m1_hooks l G j771_K j771_I j771_J j771_X j771_A j771_B j771_Q n g348 v345 (j771_I 1 n) (j771_I 2 n) (j771_I 33 n) (j771_I 34 n) (j771_A (n + 1)) (j771_A (n + 78)) (j771_A (n + 79)) rfl rfl rfl rfl rfl rfl rfl r346 hr346) ⟨callB_of 1 hts (lw_meth q1295) rfl rfl rfl (hts _ q103) (hts _ q1292) (by decide +kernel) ⟨Nat.le_of_ble_eq_true rfl, Nat.le_of_ble_eq_true rfl⟩, hts _ q1293, hts _ q1294⟩ g348.1 rfl rfl hl.1 (Nat.le_of_ble_eq_true rfl) dL_law_778 ⟨c347.1, c347.2⟩ rfl (fun H locs hR hS => ?_)
      obtain ⟨Im349, eIm349, hf⟩ := lt_some hf
      obtain ⟨Am350, eAm350, hf⟩ := lt_some hf
      rw [← eIm349, ← eAm350] at hR
      refine lv_aload_n hx hb dL_law_781 rfl (lv_at hl 2 rfl) ?_
      refine lv_aload_n hx hb dL_law_782 rfl (lv_at hl 0 rfl) ?_
      refine lv_iload hx hb dL_law_783 (lv_at hl 4 rfl) ?_
      refine lv_iconst (v := 1) hx hb dL_law_785 li_1 ?_
      obtain ⟨v351, ev351, hf⟩ := lt_some hf
      refine n_iadd hx hb ev351 dL_law_786 ?_
      obtain ⟨c352, hf⟩ := gdp_some hf
      obtain ⟨v353, ev353, hf⟩ := lt_some hf
      refine va_sld hx hb hX hbl hbA hS c352 dL_law_787 ?_
      rw [← ev353]
      obtain ⟨g355, hf⟩ := gdp_some hf
      obtain ⟨r354, hr354, hf⟩ := bind_s hf
      refine g0_cV (rm := (9, 252)) (As := [.int v353]) (rest := [.int r346.1]) ⟨hx, hb, hml, hown, hts⟩ hG hR hS (m14_hooks l G j771_K Im349 j771_J j771_X Am350 j771_B j771_Q n10 g355 v353 (Im349 1100 n10) (Im349 1102 n10) (Im349 1161 n10) (Im349 1162 n10) (Im349 1163 n10) (Am350 (n10 + 1)) (Am350 (n10 + 28)) (Am350 (n10 + 29)) (Am350 (n10 + 30)) (Am350 (n10 + 31)) rfl rfl rfl rfl rfl rfl rfl rfl rfl rfl r354 hr354) ⟨callB_of 1 hts (lw_meth q2163) rfl rfl rfl (hts _ q118) (hts _ q2160) (by decide +kernel) ⟨Nat.le_of_ble_eq_true rfl, Nat.le_of_ble_eq_true rfl⟩, hts _ q2161, hts _ q2162⟩ g355.1 rfl rfl hl.1 (Nat.le_of_ble_eq_true rfl) dL_law_788 ⟨c347.1, c347.2⟩ rfl (fun H locs hR hS => ?_)
      obtain ⟨Im356, eIm356, hf⟩ := lt_some hf
      obtain ⟨Am357, eAm357, hf⟩ := lt_some hf
      rw [← eIm356, ← eAm357] at hR
      refine lv_icmp_eq (tgt := 1231) hx hb dL_law_791 (by decide) (fun c358 => ?_) (fun c358 => ?_)
      · have hf := ite_t c358 hf
        exact hj1231 j771_K Im356 j771_J j771_X Am357 j771_B j771_Q j771_n j771_u j771_v hf _ _ _ hR hS (lv_sub hl [0, 1, 2, 3, 4] rfl)
      · have hf := ite_f c358 hf
        refine lv_iconst (v := 0) hx hb dL_law_794 li_0 ?_
        obtain ⟨c359, hf⟩ := gdp_some hf
        refine W.widen c359.1 c359.2 ?_
        obtain rfl := some_i hf
        replace hk32 : _ = rl32 := hk32
        subst hk32
        exact hx32_0 ((0 : Int32), j771_K, Im356, j771_J, j771_X, Am357, j771_B, j771_Q, j771_n) hfo32 _ _ _ _ dL_law_795 nz_0 hR hS
    have hj758 : ∀ (j758_K : gK) (j758_I : gI) (j758_J : gJ) (j758_X : gX) (j758_A : gI) (j758_B : gJ) (j758_Q : gX) (j758_n : Nat) (j758_u : Nat) (j758_v : Nat), w_law_j758 n n10 w32_4 j758_K j758_I j758_J j758_X j758_A j758_B j758_Q j758_n j758_u j758_v = some o32 → ∀ (H : Heap) (locs : List Loc) (ls : Array Slot), RS G j758_K j758_I j758_J j758_X j758_A j758_B j758_Q H → va_S (gA G) s.heap H locs → lv_has ls 7 [(0, .ref b), (1, .ref n), (2, .ref n10), (3, .ref n22), (4, .int w32_4)] → W p l e ({ frames := 8192, cells := 1200128, slots := 5501098, locals := 100000 } : Room) s m args below meth c H locs j758_u j758_v Z (F0 m 758 ls []) := by
      intro j758_K j758_I j758_J j758_X j758_A j758_B j758_Q j758_n j758_u j758_v hf H locs ls hR hS hl
      unfold w_law_j758 at hf
      refine lv_aload_n hx hb dL_law_758 rfl (lv_at hl 1 rfl) ?_
      obtain ⟨c361, hf⟩ := gdp_some hf
      obtain ⟨a362, ha362, hf⟩ := bind_s hf
      obtain ⟨g363, hf⟩ := gdp_some hf
      obtain ⟨g364, hf⟩ := gdp_some hf
      obtain ⟨g365, hf⟩ := gdp_some hf
      obtain ⟨g366, hf⟩ := gdp_some hf
      obtain ⟨g367, hf⟩ := gdp_some hf
      obtain ⟨r360, hr360, hf⟩ := bind_s hf
      refine g0_cV (rm := (3, 68)) (As := []) (rest := []) ⟨hx, hb, hml, hown, hts⟩ hG hR hS (m1_relief l G j758_K j758_I j758_J j758_X j758_A j758_B j758_Q n a362 g363 g364 g365 ha362 g366 (j758_I 1 n) (j758_I 2 n) (j758_I 18 n) (j758_I 303 a362) (j758_A (n + 1)) (j758_A (n + 70)) (j758_A (n + 77)) (j758_Q (a362 + 1)) (j758_I 1203) rfl rfl rfl rfl rfl rfl rfl rfl rfl g367 r360 hr360) ⟨callB_of 0 hts (lw_meth q1286) rfl rfl rfl (hts _ q103) (hts _ q1283) (by decide +kernel) ⟨Nat.le_of_ble_eq_true rfl, Nat.le_of_ble_eq_true rfl⟩, hts _ q1284, hts _ q1285⟩ g363.1 rfl rfl hl.1 (Nat.le_of_ble_eq_true rfl) dL_law_759 ⟨c361.1, c361.2⟩ rfl (fun H locs hR hS => ?_)
      obtain ⟨Im368, eIm368, hf⟩ := lt_some hf
      obtain ⟨Am369, eAm369, hf⟩ := lt_some hf
      rw [← eIm368, ← eAm369] at hR
      refine lv_aload_n hx hb dL_law_762 rfl (lv_at hl 2 rfl) ?_
      obtain ⟨g371, hf⟩ := gdp_some hf
      obtain ⟨r370, hr370, hf⟩ := bind_s hf
      refine g0_cV (rm := (3, 66)) (As := []) (rest := [.int r360.1]) ⟨hx, hb, hml, hown, hts⟩ hG hR hS (m14_relief l G j758_K Im368 j758_J j758_X Am369 j758_B j758_Q n10 g371 (Im368 1100 n10) (Im368 1102 n10) (Im368 1122 n10) (Im368 1133 n10) (Am369 (n10 + 1)) (Am369 (n10 + 2)) (Am369 (n10 + 10)) (Am369 (n10 + 27)) rfl rfl rfl rfl rfl rfl rfl rfl r370 hr370) ⟨callB_of 0 hts (lw_meth q2155) rfl rfl rfl (hts _ q118) (hts _ q2152) (by decide +kernel) ⟨Nat.le_of_ble_eq_true rfl, Nat.le_of_ble_eq_true rfl⟩, hts _ q2153, hts _ q2154⟩ g371.1 rfl rfl hl.1 (Nat.le_of_ble_eq_true rfl) dL_law_763 ⟨c361.1, c361.2⟩ rfl (fun H locs hR hS => ?_)
      obtain ⟨Im372, eIm372, hf⟩ := lt_some hf
      obtain ⟨Am373, eAm373, hf⟩ := lt_some hf
      rw [← eIm372, ← eAm373] at hR
      refine lv_icmp_eq (tgt := 1231) hx hb dL_law_766 (by decide) (fun c374 => ?_) (fun c374 => ?_)
      · have hf := ite_t c374 hf
        exact hj1231 j758_K Im372 j758_J j758_X Am373 j758_B j758_Q j758_n j758_u j758_v hf _ _ _ hR hS (lv_sub hl [0, 1, 2, 3, 4] rfl)
      · have hf := ite_f c374 hf
        refine lv_iconst (v := 0) hx hb dL_law_769 li_0 ?_
        obtain ⟨c375, hf⟩ := gdp_some hf
        refine W.widen c375.1 c375.2 ?_
        obtain rfl := some_i hf
        replace hk32 : _ = rl32 := hk32
        subst hk32
        exact hx32_0 ((0 : Int32), j758_K, Im372, j758_J, j758_X, Am373, j758_B, j758_Q, j758_n) hfo32 _ _ _ _ dL_law_770 nz_0 hR hS
    have hj733 : ∀ (j733_K : gK) (j733_I : gI) (j733_J : gJ) (j733_X : gX) (j733_A : gI) (j733_B : gJ) (j733_Q : gX) (j733_n : Nat) (j733_u : Nat) (j733_v : Nat), w_law_j733 n L xs n10 w32_4 j733_K j733_I j733_J j733_X j733_A j733_B j733_Q j733_n j733_u j733_v = some o32 → ∀ (H : Heap) (locs : List Loc) (ls : Array Slot), RS G j733_K j733_I j733_J j733_X j733_A j733_B j733_Q H → va_S (gA G) s.heap H locs → lv_has ls 7 [(0, .ref b), (1, .ref n), (2, .ref n10), (3, .ref n22), (4, .int w32_4)] → W p l e ({ frames := 8192, cells := 1200128, slots := 5501098, locals := 100000 } : Room) s m args below meth c H locs j733_u j733_v Z (F0 m 733 ls []) := by
      intro j733_K j733_I j733_J j733_X j733_A j733_B j733_Q j733_n j733_u j733_v hf H locs ls hR hS hl
      unfold w_law_j733 at hf
      refine lv_aload_n hx hb dL_law_733 rfl (lv_at hl 1 rfl) ?_
      refine lv_aload_n hx hb dL_law_734 rfl (lv_at hl 0 rfl) ?_
      refine lv_iload hx hb dL_law_735 (lv_at hl 4 rfl) ?_
      refine lv_iconst (v := 1) hx hb dL_law_737 li_1 ?_
      obtain ⟨v376, ev376, hf⟩ := lt_some hf
      refine n_iadd hx hb ev376 dL_law_738 ?_
      obtain ⟨c377, hf⟩ := gdp_some hf
      obtain ⟨v378, ev378, hf⟩ := lt_some hf
      refine va_sld hx hb hX hbl hbA hS c377 dL_law_739 ?_
      rw [← ev378]
      obtain ⟨c380, hf⟩ := gdp_some hf
      obtain ⟨g381, hf⟩ := gdp_some hf
      obtain ⟨r379, hr379, hf⟩ := bind_s hf
      refine g0_cV (rm := (1, 22)) (As := [.int v378]) (rest := []) ⟨hx, hb, hml, hown, hts⟩ hG hR hS (m1_moreAt l G j733_K j733_I j733_J j733_X j733_A j733_B j733_Q n g381 v378 (j733_I 29 n) (j733_A (n + 76)) rfl rfl r379 hr379) ⟨callB_of 1 hts (lw_meth q1282) rfl rfl rfl (hts _ q103) (hts _ q1279) (by decide +kernel) ⟨Nat.le_of_ble_eq_true rfl, Nat.le_of_ble_eq_true rfl⟩, hts _ q1280, hts _ q1281⟩ g381.1 rfl rfl hl.1 (Nat.le_of_ble_eq_true rfl) dL_law_740 ⟨c380.1, c380.2⟩ rfl (fun H locs hR hS => ?_)
      refine lv_aload_n hx hb dL_law_743 rfl (lv_at hl 2 rfl) ?_
      refine lv_aload_n hx hb dL_law_744 rfl (lv_at hl 0 rfl) ?_
      refine lv_iload hx hb dL_law_745 (lv_at hl 4 rfl) ?_
      refine lv_iconst (v := 1) hx hb dL_law_747 li_1 ?_
      obtain ⟨v382, ev382, hf⟩ := lt_some hf
      refine n_iadd hx hb ev382 dL_law_748 ?_
      obtain ⟨c383, hf⟩ := gdp_some hf
      obtain ⟨v384, ev384, hf⟩ := lt_some hf
      refine va_sld hx hb hX hbl hbA hS c383 dL_law_749 ?_
      rw [← ev384]
      obtain ⟨g386, hf⟩ := gdp_some hf
      obtain ⟨r385, hr385, hf⟩ := bind_s hf
      refine g0_cV (rm := (0, 0)) (As := [.int v384]) (rest := [.int r379]) ⟨hx, hb, hml, hown, hts⟩ hG hR hS (m14_moreAt l G j733_K j733_I j733_J j733_X j733_A j733_B j733_Q n10 g386 v384 (j733_I 1100 n10) (j733_I 1155 n10) (j733_A (n10 + 26)) rfl rfl rfl r385 hr385) ⟨callB_of 1 hts (lw_meth q2151) rfl rfl rfl (hts _ q118) (hts _ q2148) (by decide +kernel) ⟨Nat.le_of_ble_eq_true rfl, Nat.le_of_ble_eq_true rfl⟩, hts _ q2149, hts _ q2150⟩ g386.1 rfl rfl hl.1 (Nat.le_of_ble_eq_true rfl) dL_law_750 ⟨c380.1, c380.2⟩ rfl (fun H locs hR hS => ?_)
      obtain ⟨Im387, eIm387, hf⟩ := lt_some hf
      rw [← eIm387] at hR
      refine lv_icmp_eq (tgt := 1231) hx hb dL_law_753 (by decide) (fun c388 => ?_) (fun c388 => ?_)
      · have hf := ite_t c388 hf
        exact hj1231 j733_K Im387 j733_J j733_X j733_A j733_B j733_Q j733_n j733_u j733_v hf _ _ _ hR hS (lv_sub hl [0, 1, 2, 3, 4] rfl)
      · have hf := ite_f c388 hf
        refine lv_iconst (v := 0) hx hb dL_law_756 li_0 ?_
        obtain ⟨c389, hf⟩ := gdp_some hf
        refine W.widen c389.1 c389.2 ?_
        obtain rfl := some_i hf
        replace hk32 : _ = rl32 := hk32
        subst hk32
        exact hx32_0 ((0 : Int32), j733_K, Im387, j733_J, j733_X, j733_A, j733_B, j733_Q, j733_n) hfo32 _ _ _ _ dL_law_757 nz_0 hR hS
    have hj708 : ∀ (j708_K : gK) (j708_I : gI) (j708_J : gJ) (j708_X : gX) (j708_A : gI) (j708_B : gJ) (j708_Q : gX) (j708_n : Nat) (j708_u : Nat) (j708_v : Nat), w_law_j708 n L xs n10 w32_4 j708_K j708_I j708_J j708_X j708_A j708_B j708_Q j708_n j708_u j708_v = some o32 → ∀ (H : Heap) (locs : List Loc) (ls : Array Slot), RS G j708_K j708_I j708_J j708_X j708_A j708_B j708_Q H → va_S (gA G) s.heap H locs → lv_has ls 7 [(0, .ref b), (1, .ref n), (2, .ref n10), (3, .ref n22), (4, .int w32_4)] → W p l e ({ frames := 8192, cells := 1200128, slots := 5501098, locals := 100000 } : Room) s m args below meth c H locs j708_u j708_v Z (F0 m 708 ls []) := by
      intro j708_K j708_I j708_J j708_X j708_A j708_B j708_Q j708_n j708_u j708_v hf H locs ls hR hS hl
      unfold w_law_j708 at hf
      refine lv_aload_n hx hb dL_law_708 rfl (lv_at hl 1 rfl) ?_
      refine lv_aload_n hx hb dL_law_709 rfl (lv_at hl 0 rfl) ?_
      refine lv_iload hx hb dL_law_710 (lv_at hl 4 rfl) ?_
      refine lv_iconst (v := 1) hx hb dL_law_712 li_1 ?_
      obtain ⟨v390, ev390, hf⟩ := lt_some hf
      refine n_iadd hx hb ev390 dL_law_713 ?_
      obtain ⟨c391, hf⟩ := gdp_some hf
      obtain ⟨v392, ev392, hf⟩ := lt_some hf
      refine va_sld hx hb hX hbl hbA hS c391 dL_law_714 ?_
      rw [← ev392]
      obtain ⟨c394, hf⟩ := gdp_some hf
      obtain ⟨a395, ha395, hf⟩ := bind_s hf
      obtain ⟨g396, hf⟩ := gdp_some hf
      obtain ⟨g397, hf⟩ := gdp_some hf
      obtain ⟨g398, hf⟩ := gdp_some hf
      obtain ⟨g399, hf⟩ := gdp_some hf
      obtain ⟨g400, hf⟩ := gdp_some hf
      obtain ⟨g401, hf⟩ := gdp_some hf
      obtain ⟨g402, hf⟩ := gdp_some hf
      obtain ⟨r393, hr393, hf⟩ := bind_s hf
      refine g0_cV (rm := (4, 86)) (As := [.int v392]) (rest := []) ⟨hx, hb, hml, hown, hts⟩ hG hR hS (m1_more l G j708_K j708_I j708_J j708_X j708_A j708_B j708_Q n a395 g396 g397 g398 g399 ha395 g400 g401 v392 (j708_I 1 n) (j708_I 2 n) (j708_I 18 n) (j708_I 29 n) (j708_I 303 a395) (j708_I 306 a395) (j708_I 307 a395) (j708_I 309 a395) (j708_I 313 a395) (j708_I 702 (n + 16)) (j708_I 703 (n + 16)) (j708_I 704 (n + 16)) (j708_I 705 (n + 16)) (j708_I 714 (n + 16)) (j708_I 715 (n + 16)) (j708_I 716 (n + 16)) (j708_I 717 (n + 16)) (j708_I 718 (n + 16)) (j708_X 701 (n + 16)) (j708_A (n + 1)) (j708_A (n + 17)) (j708_A (n + 18)) (j708_A (n + 19)) (j708_A (n + 20)) (j708_A (n + 21)) (j708_A (n + 22)) (j708_A (n + 23)) (j708_A (n + 70)) (j708_A (n + 76)) (j708_Q (a395 + 1)) (j708_I 1201) rfl rfl rfl rfl rfl rfl rfl rfl rfl rfl rfl rfl rfl rfl rfl rfl rfl rfl rfl rfl rfl rfl rfl rfl rfl rfl rfl rfl rfl rfl rfl g402 r393 hr393) ⟨callB_of 1 hts (lw_meth q1268) rfl rfl rfl (hts _ q103) (hts _ q1265) (by decide +kernel) ⟨Nat.le_of_ble_eq_true rfl, Nat.le_of_ble_eq_true rfl⟩, hts _ q1266, hts _ q1267⟩ g396.1 rfl rfl hl.1 (Nat.le_of_ble_eq_true rfl) dL_law_715 ⟨c394.1, c394.2⟩ rfl (fun H locs hR hS => ?_)
      obtain ⟨Im403, eIm403, hf⟩ := lt_some hf
      obtain ⟨Xm404, eXm404, hf⟩ := lt_some hf
      obtain ⟨Am405, eAm405, hf⟩ := lt_some hf
      rw [← eIm403, ← eXm404, ← eAm405] at hR
      refine lv_aload_n hx hb dL_law_718 rfl (lv_at hl 2 rfl) ?_
      refine lv_aload_n hx hb dL_law_719 rfl (lv_at hl 0 rfl) ?_
      refine lv_iload hx hb dL_law_720 (lv_at hl 4 rfl) ?_
      refine lv_iconst (v := 1) hx hb dL_law_722 li_1 ?_
      obtain ⟨v406, ev406, hf⟩ := lt_some hf
      refine n_iadd hx hb ev406 dL_law_723 ?_
      obtain ⟨c407, hf⟩ := gdp_some hf
      obtain ⟨v408, ev408, hf⟩ := lt_some hf
      refine va_sld hx hb hX hbl hbA hS c407 dL_law_724 ?_
      rw [← ev408]
      obtain ⟨g410, hf⟩ := gdp_some hf
      obtain ⟨r409, hr409, hf⟩ := bind_s hf
      refine g0_cV (rm := (5, 110)) (As := [.int v408]) (rest := [.int r393.1]) ⟨hx, hb, hml, hown, hts⟩ hG hR hS (m14_more l G j708_K Im403 j708_J Xm404 Am405 j708_B j708_Q n10 g410 v408 (Im403 1100 n10) (Im403 1102 n10) (Im403 1122 n10) (Im403 1133 n10) (Im403 1155 n10) (Am405 (n10 + 1)) (Am405 (n10 + 2)) (Am405 (n10 + 10)) (Am405 (n10 + 25)) (Am405 (n10 + 26)) rfl rfl rfl rfl rfl rfl rfl rfl rfl rfl r409 hr409) ⟨callB_of 1 hts (lw_meth q2139) rfl rfl rfl (hts _ q118) (hts _ q2136) (by decide +kernel) ⟨Nat.le_of_ble_eq_true rfl, Nat.le_of_ble_eq_true rfl⟩, hts _ q2137, hts _ q2138⟩ g410.1 rfl rfl hl.1 (Nat.le_of_ble_eq_true rfl) dL_law_725 ⟨c394.1, c394.2⟩ rfl (fun H locs hR hS => ?_)
      obtain ⟨Im411, eIm411, hf⟩ := lt_some hf
      obtain ⟨Am412, eAm412, hf⟩ := lt_some hf
      rw [← eIm411, ← eAm412] at hR
      refine lv_icmp_eq (tgt := 1231) hx hb dL_law_728 (by decide) (fun c413 => ?_) (fun c413 => ?_)
      · have hf := ite_t c413 hf
        exact hj1231 j708_K Im411 j708_J Xm404 Am412 j708_B j708_Q j708_n j708_u j708_v hf _ _ _ hR hS (lv_sub hl [0, 1, 2, 3, 4] rfl)
      · have hf := ite_f c413 hf
        refine lv_iconst (v := 0) hx hb dL_law_731 li_0 ?_
        obtain ⟨c414, hf⟩ := gdp_some hf
        refine W.widen c414.1 c414.2 ?_
        obtain rfl := some_i hf
        replace hk32 : _ = rl32 := hk32
        subst hk32
        exact hx32_0 ((0 : Int32), j708_K, Im411, j708_J, Xm404, Am412, j708_B, j708_Q, j708_n) hfo32 _ _ _ _ dL_law_732 nz_0 hR hS
    have hj640 : ∀ (j640_K : gK) (j640_I : gI) (j640_J : gJ) (j640_X : gX) (j640_A : gI) (j640_B : gJ) (j640_Q : gX) (j640_n : Nat) (j640_u : Nat) (j640_v : Nat), w_law_j640 G.2.2 (aK G) n L xs n10 n22 w32_4 j640_K j640_I j640_J j640_X j640_A j640_B j640_Q j640_n j640_u j640_v = some o32 → ∀ (H : Heap) (locs : List Loc) (ls : Array Slot), RS G j640_K j640_I j640_J j640_X j640_A j640_B j640_Q H → va_S (gA G) s.heap H locs → lv_has ls 7 [(0, .ref b), (1, .ref n), (2, .ref n10), (3, .ref n22), (4, .int w32_4)] → W p l e ({ frames := 8192, cells := 1200128, slots := 5501098, locals := 100000 } : Room) s m args below meth c H locs j640_u j640_v Z (F0 m 640 ls []) := by
      intro j640_K j640_I j640_J j640_X j640_A j640_B j640_Q j640_n j640_u j640_v hf H locs ls hR hS hl
      unfold w_law_j640 at hf
      refine lv_aload_n hx hb dL_law_640 rfl (lv_at hl 1 rfl) ?_
      refine lv_aload_n hx hb dL_law_641 rfl (lv_at hl 0 rfl) ?_
      refine lv_iload hx hb dL_law_642 (lv_at hl 4 rfl) ?_
      refine lv_iconst (v := 1) hx hb dL_law_644 li_1 ?_
      obtain ⟨v415, ev415, hf⟩ := lt_some hf
      refine n_iadd hx hb ev415 dL_law_645 ?_
      obtain ⟨c416, hf⟩ := gdp_some hf
      obtain ⟨v417, ev417, hf⟩ := lt_some hf
      refine va_sld hx hb hX hbl hbA hS c416 dL_law_646 ?_
      rw [← ev417]
      refine lv_aload_n hx hb dL_law_647 rfl (lv_at hl 0 rfl) ?_
      refine lv_iload hx hb dL_law_648 (lv_at hl 4 rfl) ?_
      refine lv_iconst (v := 2) hx hb dL_law_650 li_2 ?_
      obtain ⟨v418, ev418, hf⟩ := lt_some hf
      refine n_iadd hx hb ev418 dL_law_651 ?_
      obtain ⟨c419, hf⟩ := gdp_some hf
      obtain ⟨v420, ev420, hf⟩ := lt_some hf
      refine va_sld hx hb hX hbl hbA hS c419 dL_law_652 ?_
      rw [← ev420]
      refine lv_aload_n hx hb dL_law_653 rfl (lv_at hl 3 rfl) ?_
      obtain ⟨c422, hf⟩ := gdp_some hf
      obtain ⟨r421, hr421, hf⟩ := bind_s hf
      refine x_gor (vx_runSX (As := [.ref n, .int v417, .int v420, .ref n22]) (rest := []) ⟨hx, hb, hml, hown, hts⟩ (m0_cost_w l hlS G j640_K j640_I j640_J j640_X j640_A j640_B j640_Q j640_n n v417 v420 n22 r421 hr421) (vx_cwSW 4 hts (lw_SW q1603 q1604 q102 q1605) rfl rfl rfl (by decide +kernel) ⟨Nat.le_of_ble_eq_true rfl, Nat.le_of_ble_eq_true rfl⟩) (x_preS hG hR hW hS) rfl rfl hl.1 rfl (lv_room (Nat.le_of_ble_eq_true rfl)) dL_law_654 ⟨c422.1, c422.2⟩) hS (fun H locs hR hS => ?_)
      refine lv_istore (lv' := [(5, .int r421.1), (0, .ref b), (1, .ref n), (2, .ref n10), (3, .ref n22), (4, .int w32_4)]) hx hb dL_law_657 hl (by decide) rfl (fun ls hl => ?_)
      refine lv_aload_n hx hb dL_law_659 rfl (lv_at hl 3 rfl) ?_
      refine lv_aload_n hx hb dL_law_660 rfl (lv_at hl 1 rfl) ?_
      refine lv_iload hx hb dL_law_661 (lv_at hl 5 rfl) ?_
      refine lv_iconst (v := 1) hx hb dL_law_663 li_1 ?_
      obtain ⟨v423, ev423, hf⟩ := lt_some hf
      refine n_iadd hx hb ev423 dL_law_664 ?_
      obtain ⟨c424, hf⟩ := gdp_some hf
      obtain ⟨v425, ev425, hf⟩ := lt_some hf
      refine va_sld hx hb hX hbl hbA hS c424 dL_law_665 ?_
      rw [← ev425]
      refine lv_aload_n hx hb dL_law_666 rfl (lv_at hl 1 rfl) ?_
      refine lv_iload hx hb dL_law_667 (lv_at hl 5 rfl) ?_
      refine lv_iconst (v := 2) hx hb dL_law_669 li_2 ?_
      obtain ⟨v426, ev426, hf⟩ := lt_some hf
      refine n_iadd hx hb ev426 dL_law_670 ?_
      obtain ⟨c427, hf⟩ := gdp_some hf
      obtain ⟨v428, ev428, hf⟩ := lt_some hf
      refine va_sld hx hb hX hbl hbA hS c427 dL_law_671 ?_
      rw [← ev428]
      obtain ⟨c430, hf⟩ := gdp_some hf
      obtain ⟨g431, hf⟩ := gdp_some hf
      obtain ⟨r429, hr429, hf⟩ := bind_s hf
      refine g0_cV (rm := (7, 153)) (As := [.int v425, .int v428]) (rest := []) ⟨hx, hb, hml, hown, hts⟩ hG hR hS (m14_cost l G r421.2.1 r421.2.2.1 r421.2.2.2.1 r421.2.2.2.2.1 r421.2.2.2.2.2.1 r421.2.2.2.2.2.2.1 r421.2.2.2.2.2.2.2.1 n10 g431 v425 v428 (r421.2.2.1 1100 n10) (r421.2.2.1 1102 n10) (r421.2.2.1 1122 n10) (r421.2.2.1 1133 n10) (r421.2.2.1 1134 n10) (r421.2.2.1 1135 n10) (r421.2.2.1 1136 n10) (r421.2.2.1 1137 n10) (r421.2.2.1 1138 n10) (r421.2.2.1 1139 n10) (r421.2.2.1 1140 n10) (r421.2.2.1 1141 n10) (r421.2.2.1 1142 n10) (r421.2.2.2.2.2.1 (n10 + 1)) (r421.2.2.2.2.2.1 (n10 + 2)) (r421.2.2.2.2.2.1 (n10 + 10)) (r421.2.2.2.2.2.1 (n10 + 11)) (r421.2.2.2.2.2.1 (n10 + 12)) (r421.2.2.2.2.2.1 (n10 + 13)) (r421.2.2.2.2.2.1 (n10 + 14)) (r421.2.2.2.2.2.1 (n10 + 15)) (r421.2.2.2.2.2.1 (n10 + 16)) (r421.2.2.2.2.2.1 (n10 + 17)) (r421.2.2.2.2.2.1 (n10 + 18)) rfl rfl rfl rfl rfl rfl rfl rfl rfl rfl rfl rfl rfl rfl rfl rfl rfl rfl rfl rfl rfl rfl rfl rfl r429 hr429) ⟨callB_of 2 hts (lw_meth q2135) rfl rfl rfl (hts _ q118) (hts _ q2132) (by decide +kernel) ⟨Nat.le_of_ble_eq_true rfl, Nat.le_of_ble_eq_true rfl⟩, hts _ q2133, hts _ q2134⟩ g431.1 rfl rfl hl.1 (Nat.le_of_ble_eq_true rfl) dL_law_672 ⟨c430.1, c430.2⟩ rfl (fun H locs hR hS => ?_)
      obtain ⟨Im432, eIm432, hf⟩ := lt_some hf
      obtain ⟨Am433, eAm433, hf⟩ := lt_some hf
      rw [← eIm432, ← eAm433] at hR
      refine lv_istore (lv' := [(6, .int r429.1), (5, .int r421.1), (0, .ref b), (1, .ref n), (2, .ref n10), (3, .ref n22), (4, .int w32_4)]) hx hb dL_law_675 hl (by decide) rfl (fun ls hl => ?_)
      refine lv_aload_n hx hb dL_law_677 rfl (lv_at hl 4 rfl) ?_
      obtain ⟨r434, hr434, hf⟩ := bind_s hf
      refine g0_cV (rm := (0, 0)) (As := []) (rest := []) ⟨hx, hb, hml, hown, hts⟩ hG hR hS (m14_thrown l G r421.2.1 Im432 r421.2.2.2.1 r421.2.2.2.2.1 Am433 r421.2.2.2.2.2.2.1 r421.2.2.2.2.2.2.2.1 n10 g431 (Im432 1100 n10) rfl r434 hr434) ⟨callB_of 0 hts (lw_meth q1894) rfl rfl rfl (hts _ q118) (hts _ q1891) (by decide +kernel) ⟨Nat.le_of_ble_eq_true rfl, Nat.le_of_ble_eq_true rfl⟩, hts _ q1892, hts _ q1893⟩ g431.1 rfl rfl hl.1 (Nat.le_of_ble_eq_true rfl) dL_law_678 ⟨c430.1, c430.2⟩ rfl (fun H locs hR hS => ?_)
      refine lv_iload hx hb dL_law_681 (lv_at hl 1 rfl) ?_
      refine lv_icmp_eq (tgt := 688) hx hb dL_law_683 (by decide) (fun c435 => ?_) (fun c435 => ?_)
      · have hf := ite_t c435 hf
        refine lv_iload hx hb dL_law_688 (lv_at hl 1 rfl) ?_
        have hj705 : ∀ (_ : Unit), w_law_j705 w32_4 j640_u j640_v r421 Im432 Am433 = some o32 → ∀ (H : Heap) (locs : List Loc) (ls : Array Slot), RS G r421.2.1 Im432 r421.2.2.2.1 r421.2.2.2.2.1 Am433 r421.2.2.2.2.2.2.1 r421.2.2.2.2.2.2.2.1 H → va_S (gA G) s.heap H locs → lv_has ls 7 [(0, .ref b), (1, .ref n), (2, .ref n10), (3, .ref n22), (4, .int w32_4)] → W p l e ({ frames := 8192, cells := 1200128, slots := 5501098, locals := 100000 } : Room) s m args below meth c H locs (j640_u + 1) (j640_v + 6) Z (F0 m 705 ls []) := by
          intro _ hf H locs ls hR hS hl
          unfold w_law_j705 at hf
          refine lv_goto (tgt := 1231) hx hb dL_law_705 (by decide) ?_
          exact hj1231 r421.2.1 Im432 r421.2.2.2.1 r421.2.2.2.2.1 Am433 r421.2.2.2.2.2.2.1 r421.2.2.2.2.2.2.2.1 r421.2.2.2.2.2.2.2.2 (j640_u + 1) (j640_v + 6) hf _ _ _ hR hS (lv_sub hl [0, 1, 2, 3, 4] rfl)
        refine lv_if_ne (tgt := 705) hx hb dL_law_690 (by decide) (fun c436 => ?_) (fun c436 => ?_)
        · have hf := ite_f c436 hf
          exact hj705 () hf _ _ _ hR hS (lv_sub hl [2, 3, 4, 5, 6] rfl)
        · have hf := ite_t c436 hf
          refine lv_aload_n hx hb dL_law_693 rfl (lv_at hl 5 rfl) ?_
          refine lv_iconst (v := 0) hx hb dL_law_694 li_0 ?_
          obtain ⟨n437, hn437, hf⟩ := bind_s hf
          have kn437 := alen_k hn437
          obtain ⟨c438, hf⟩ := gdp_some hf
          obtain ⟨v439, ev439, hf⟩ := lt_some hf
          refine g_lald hx hb hG hR kn437 c438 dL_law_695 ?_
          rw [← ev439]
          refine lv_iload hx hb dL_law_696 (lv_at hl 0 rfl) ?_
          obtain ⟨v440, ev440, hf⟩ := lt_some hf
          refine n_i2l hx hb ev440 dL_law_698 ?_
          obtain ⟨v441, ev441, hf⟩ := lt_some hf
          refine n_lcmp hx hb ev441 dL_law_699 ?_
          refine lv_if_eq (tgt := 705) hx hb dL_law_700 (by decide) (fun c442 => ?_) (fun c442 => ?_)
          · have hf := ite_t c442 hf
            exact hj705 () hf _ _ _ hR hS (lv_sub hl [2, 3, 4, 5, 6] rfl)
          · have hf := ite_f c442 hf
            refine lv_iconst (v := 0) hx hb dL_law_703 li_0 ?_
            obtain ⟨c443, hf⟩ := gdp_some hf
            refine W.widen c443.1 c443.2 ?_
            obtain rfl := some_i hf
            replace hk32 : _ = rl32 := hk32
            subst hk32
            exact hx32_0 ((0 : Int32), r421.2.1, Im432, r421.2.2.2.1, r421.2.2.2.2.1, Am433, r421.2.2.2.2.2.2.1, r421.2.2.2.2.2.2.2.1, r421.2.2.2.2.2.2.2.2) hfo32 _ _ _ _ dL_law_704 nz_0 hR hS
      · have hf := ite_f c435 hf
        refine lv_iconst (v := 0) hx hb dL_law_686 li_0 ?_
        obtain ⟨c444, hf⟩ := gdp_some hf
        refine W.widen c444.1 c444.2 ?_
        obtain rfl := some_i hf
        replace hk32 : _ = rl32 := hk32
        subst hk32
        exact hx32_0 ((0 : Int32), r421.2.1, Im432, r421.2.2.2.1, r421.2.2.2.2.1, Am433, r421.2.2.2.2.2.2.1, r421.2.2.2.2.2.2.2.1, r421.2.2.2.2.2.2.2.2) hfo32 _ _ _ _ dL_law_687 nz_0 hR hS
    have hj615 : ∀ (j615_K : gK) (j615_I : gI) (j615_J : gJ) (j615_X : gX) (j615_A : gI) (j615_B : gJ) (j615_Q : gX) (j615_n : Nat) (j615_u : Nat) (j615_v : Nat), w_law_j615 n L xs n10 w32_4 j615_K j615_I j615_J j615_X j615_A j615_B j615_Q j615_n j615_u j615_v = some o32 → ∀ (H : Heap) (locs : List Loc) (ls : Array Slot), RS G j615_K j615_I j615_J j615_X j615_A j615_B j615_Q H → va_S (gA G) s.heap H locs → lv_has ls 7 [(0, .ref b), (1, .ref n), (2, .ref n10), (3, .ref n22), (4, .int w32_4)] → W p l e ({ frames := 8192, cells := 1200128, slots := 5501098, locals := 100000 } : Room) s m args below meth c H locs j615_u j615_v Z (F0 m 615 ls []) := by
      intro j615_K j615_I j615_J j615_X j615_A j615_B j615_Q j615_n j615_u j615_v hf H locs ls hR hS hl
      unfold w_law_j615 at hf
      refine lv_aload_n hx hb dL_law_615 rfl (lv_at hl 1 rfl) ?_
      refine lv_aload_n hx hb dL_law_616 rfl (lv_at hl 0 rfl) ?_
      refine lv_iload hx hb dL_law_617 (lv_at hl 4 rfl) ?_
      refine lv_iconst (v := 1) hx hb dL_law_619 li_1 ?_
      obtain ⟨v445, ev445, hf⟩ := lt_some hf
      refine n_iadd hx hb ev445 dL_law_620 ?_
      obtain ⟨c446, hf⟩ := gdp_some hf
      obtain ⟨v447, ev447, hf⟩ := lt_some hf
      refine va_sld hx hb hX hbl hbA hS c446 dL_law_621 ?_
      rw [← ev447]
      obtain ⟨c449, hf⟩ := gdp_some hf
      obtain ⟨a450, ha450, hf⟩ := bind_s hf
      obtain ⟨g451, hf⟩ := gdp_some hf
      obtain ⟨g452, hf⟩ := gdp_some hf
      obtain ⟨g453, hf⟩ := gdp_some hf
      obtain ⟨g454, hf⟩ := gdp_some hf
      obtain ⟨g455, hf⟩ := gdp_some hf
      obtain ⟨g456, hf⟩ := gdp_some hf
      obtain ⟨g457, hf⟩ := gdp_some hf
      obtain ⟨g458, hf⟩ := gdp_some hf
      obtain ⟨g459, hf⟩ := gdp_some hf
      obtain ⟨g460, hf⟩ := gdp_some hf
      obtain ⟨r448, hr448, hf⟩ := bind_s hf
      refine g0_cV (rm := (6, 132)) (As := [.int v447]) (rest := []) ⟨hx, hb, hml, hown, hts⟩ hG hR hS (m1_line l G j615_K j615_I j615_J j615_X j615_A j615_B j615_Q n a450 g451 g452 g453 g454 g455 ha450 g456 g457 g458 g459 v447 (j615_I 303 a450) (j615_I 306 a450) (j615_I 307 a450) (j615_I 308 a450) (j615_I 309 a450) (j615_I 310 a450) (j615_I 311 a450) (j615_I 312 a450) (j615_I 313 a450) (j615_I 702 (n + 16)) (j615_I 703 (n + 16)) (j615_I 704 (n + 16)) (j615_I 705 (n + 16)) (j615_I 714 (n + 16)) (j615_I 715 (n + 16)) (j615_I 716 (n + 16)) (j615_I 717 (n + 16)) (j615_I 718 (n + 16)) (j615_I 802 (n + 60)) (j615_I 803 (n + 60)) (j615_I 804 (n + 60)) (j615_I 805 (n + 60)) (j615_I 809 (n + 60)) (j615_X 701 (n + 16)) (j615_X 801 (n + 60)) (j615_A (n + 17)) (j615_A (n + 18)) (j615_A (n + 19)) (j615_A (n + 20)) (j615_A (n + 21)) (j615_A (n + 22)) (j615_A (n + 23)) (j615_A (n + 37)) (j615_A (n + 61)) (j615_A (n + 62)) (j615_A (n + 63)) (j615_A (n + 64)) (j615_A (n + 75)) (j615_Q (a450 + 1)) (j615_I 1201) (j615_I 1202) (j615_I 1203) (fun j => j615_A ((n + 25) + j)) rfl rfl rfl rfl rfl rfl rfl rfl rfl rfl rfl rfl rfl rfl rfl rfl rfl rfl rfl rfl rfl rfl rfl rfl rfl rfl rfl rfl rfl rfl rfl rfl rfl rfl rfl rfl rfl rfl rfl rfl rfl rfl (fun _ _ => rfl) g460 r448 hr448) ⟨callB_of 1 hts (lw_meth q1260) rfl rfl rfl (hts _ q103) (hts _ q1257) (by decide +kernel) ⟨Nat.le_of_ble_eq_true rfl, Nat.le_of_ble_eq_true rfl⟩, hts _ q1258, hts _ q1259⟩ g451.1 rfl rfl hl.1 (Nat.le_of_ble_eq_true rfl) dL_law_622 ⟨c449.1, c449.2⟩ rfl (fun H locs hR hS => ?_)
      obtain ⟨Im461, eIm461, hf⟩ := lt_some hf
      obtain ⟨Xm462, eXm462, hf⟩ := lt_some hf
      obtain ⟨Am463, eAm463, hf⟩ := lt_some hf
      rw [← eIm461, ← eXm462, ← eAm463] at hR
      refine lv_aload_n hx hb dL_law_625 rfl (lv_at hl 2 rfl) ?_
      refine lv_aload_n hx hb dL_law_626 rfl (lv_at hl 0 rfl) ?_
      refine lv_iload hx hb dL_law_627 (lv_at hl 4 rfl) ?_
      refine lv_iconst (v := 1) hx hb dL_law_629 li_1 ?_
      obtain ⟨v464, ev464, hf⟩ := lt_some hf
      refine n_iadd hx hb ev464 dL_law_630 ?_
      obtain ⟨c465, hf⟩ := gdp_some hf
      obtain ⟨v466, ev466, hf⟩ := lt_some hf
      refine va_sld hx hb hX hbl hbA hS c465 dL_law_631 ?_
      rw [← ev466]
      obtain ⟨g468, hf⟩ := gdp_some hf
      obtain ⟨r467, hr467, hf⟩ := bind_s hf
      refine g0_cV (rm := (7, 153)) (As := [.int v466]) (rest := [.int r448.1]) ⟨hx, hb, hml, hown, hts⟩ hG hR hS (m14_line l G j615_K Im461 j615_J Xm462 Am463 j615_B j615_Q n10 g468 v466 (Im461 1100 n10) (Im461 1122 n10) (Im461 1133 n10) (Im461 1134 n10) (Im461 1135 n10) (Im461 1136 n10) (Im461 1137 n10) (Im461 1138 n10) (Im461 1139 n10) (Im461 1140 n10) (Im461 1141 n10) (Im461 1142 n10) (Am463 (n10 + 2)) (Am463 (n10 + 10)) (Am463 (n10 + 11)) (Am463 (n10 + 12)) (Am463 (n10 + 13)) (Am463 (n10 + 14)) (Am463 (n10 + 15)) (Am463 (n10 + 16)) (Am463 (n10 + 17)) (Am463 (n10 + 18)) rfl rfl rfl rfl rfl rfl rfl rfl rfl rfl rfl rfl rfl rfl rfl rfl rfl rfl rfl rfl rfl rfl r467 hr467) ⟨callB_of 1 hts (lw_meth q2131) rfl rfl rfl (hts _ q118) (hts _ q2128) (by decide +kernel) ⟨Nat.le_of_ble_eq_true rfl, Nat.le_of_ble_eq_true rfl⟩, hts _ q2129, hts _ q2130⟩ g468.1 rfl rfl hl.1 (Nat.le_of_ble_eq_true rfl) dL_law_632 ⟨c449.1, c449.2⟩ rfl (fun H locs hR hS => ?_)
      obtain ⟨Im469, eIm469, hf⟩ := lt_some hf
      obtain ⟨Am470, eAm470, hf⟩ := lt_some hf
      rw [← eIm469, ← eAm470] at hR
      refine lv_icmp_eq (tgt := 1231) hx hb dL_law_635 (by decide) (fun c471 => ?_) (fun c471 => ?_)
      · have hf := ite_t c471 hf
        exact hj1231 j615_K Im469 j615_J Xm462 Am470 j615_B j615_Q j615_n j615_u j615_v hf _ _ _ hR hS (lv_sub hl [0, 1, 2, 3, 4] rfl)
      · have hf := ite_f c471 hf
        refine lv_iconst (v := 0) hx hb dL_law_638 li_0 ?_
        obtain ⟨c472, hf⟩ := gdp_some hf
        refine W.widen c472.1 c472.2 ?_
        obtain rfl := some_i hf
        replace hk32 : _ = rl32 := hk32
        subst hk32
        exact hx32_0 ((0 : Int32), j615_K, Im469, j615_J, Xm462, Am470, j615_B, j615_Q, j615_n) hfo32 _ _ _ _ dL_law_639 nz_0 hR hS
    have hj590 : ∀ (j590_K : gK) (j590_I : gI) (j590_J : gJ) (j590_X : gX) (j590_A : gI) (j590_B : gJ) (j590_Q : gX) (j590_n : Nat) (j590_u : Nat) (j590_v : Nat), w_law_j590 n L xs n10 w32_4 j590_K j590_I j590_J j590_X j590_A j590_B j590_Q j590_n j590_u j590_v = some o32 → ∀ (H : Heap) (locs : List Loc) (ls : Array Slot), RS G j590_K j590_I j590_J j590_X j590_A j590_B j590_Q H → va_S (gA G) s.heap H locs → lv_has ls 7 [(0, .ref b), (1, .ref n), (2, .ref n10), (3, .ref n22), (4, .int w32_4)] → W p l e ({ frames := 8192, cells := 1200128, slots := 5501098, locals := 100000 } : Room) s m args below meth c H locs j590_u j590_v Z (F0 m 590 ls []) := by
      intro j590_K j590_I j590_J j590_X j590_A j590_B j590_Q j590_n j590_u j590_v hf H locs ls hR hS hl
      unfold w_law_j590 at hf
      refine lv_aload_n hx hb dL_law_590 rfl (lv_at hl 1 rfl) ?_
      refine lv_aload_n hx hb dL_law_591 rfl (lv_at hl 0 rfl) ?_
      refine lv_iload hx hb dL_law_592 (lv_at hl 4 rfl) ?_
      refine lv_iconst (v := 1) hx hb dL_law_594 li_1 ?_
      obtain ⟨v473, ev473, hf⟩ := lt_some hf
      refine n_iadd hx hb ev473 dL_law_595 ?_
      obtain ⟨c474, hf⟩ := gdp_some hf
      obtain ⟨v475, ev475, hf⟩ := lt_some hf
      refine va_sld hx hb hX hbl hbA hS c474 dL_law_596 ?_
      rw [← ev475]
      obtain ⟨c477, hf⟩ := gdp_some hf
      obtain ⟨a478, ha478, hf⟩ := bind_s hf
      obtain ⟨g479, hf⟩ := gdp_some hf
      obtain ⟨g480, hf⟩ := gdp_some hf
      obtain ⟨g481, hf⟩ := gdp_some hf
      obtain ⟨g482, hf⟩ := gdp_some hf
      obtain ⟨g483, hf⟩ := gdp_some hf
      obtain ⟨g484, hf⟩ := gdp_some hf
      obtain ⟨g485, hf⟩ := gdp_some hf
      obtain ⟨r476, hr476, hf⟩ := bind_s hf
      refine g0_cV (rm := (5, 109)) (As := [.int v475]) (rest := []) ⟨hx, hb, hml, hown, hts⟩ hG hR hS (m1_running l G j590_K j590_I j590_J j590_X j590_A j590_B j590_Q n a478 g479 g480 g481 g482 ha478 g483 g484 v475 (j590_I 1 n) (j590_I 2 n) (j590_I 18 n) (j590_I 303 a478) (j590_I 306 a478) (j590_I 307 a478) (j590_I 308 a478) (j590_I 309 a478) (j590_I 310 a478) (j590_I 802 (n + 60)) (j590_I 803 (n + 60)) (j590_I 804 (n + 60)) (j590_I 805 (n + 60)) (j590_I 809 (n + 60)) (j590_X 801 (n + 60)) (j590_A (n + 1)) (j590_A (n + 61)) (j590_A (n + 62)) (j590_A (n + 63)) (j590_A (n + 64)) (j590_A (n + 70)) (j590_Q (a478 + 1)) (j590_I 1202) rfl rfl rfl rfl rfl rfl rfl rfl rfl rfl rfl rfl rfl rfl rfl rfl rfl rfl rfl rfl rfl rfl rfl g485 r476 hr476) ⟨callB_of 1 hts (lw_meth q1243) rfl rfl rfl (hts _ q103) (hts _ q1240) (by decide +kernel) ⟨Nat.le_of_ble_eq_true rfl, Nat.le_of_ble_eq_true rfl⟩, hts _ q1241, hts _ q1242⟩ g479.1 rfl rfl hl.1 (Nat.le_of_ble_eq_true rfl) dL_law_597 ⟨c477.1, c477.2⟩ rfl (fun H locs hR hS => ?_)
      obtain ⟨Im486, eIm486, hf⟩ := lt_some hf
      obtain ⟨Xm487, eXm487, hf⟩ := lt_some hf
      obtain ⟨Am488, eAm488, hf⟩ := lt_some hf
      rw [← eIm486, ← eXm487, ← eAm488] at hR
      refine lv_aload_n hx hb dL_law_600 rfl (lv_at hl 2 rfl) ?_
      refine lv_aload_n hx hb dL_law_601 rfl (lv_at hl 0 rfl) ?_
      refine lv_iload hx hb dL_law_602 (lv_at hl 4 rfl) ?_
      refine lv_iconst (v := 1) hx hb dL_law_604 li_1 ?_
      obtain ⟨v489, ev489, hf⟩ := lt_some hf
      refine n_iadd hx hb ev489 dL_law_605 ?_
      obtain ⟨c490, hf⟩ := gdp_some hf
      obtain ⟨v491, ev491, hf⟩ := lt_some hf
      refine va_sld hx hb hX hbl hbA hS c490 dL_law_606 ?_
      rw [← ev491]
      obtain ⟨g493, hf⟩ := gdp_some hf
      obtain ⟨r492, hr492, hf⟩ := bind_s hf
      refine g0_cV (rm := (7, 153)) (As := [.int v491]) (rest := [.int r476.1]) ⟨hx, hb, hml, hown, hts⟩ hG hR hS (m14_running l G j590_K Im486 j590_J Xm487 Am488 j590_B j590_Q n10 g493 v491 (Im486 1100 n10) (Im486 1102 n10) (Im486 1122 n10) (Im486 1133 n10) (Im486 1134 n10) (Im486 1135 n10) (Im486 1136 n10) (Im486 1137 n10) (Im486 1138 n10) (Im486 1139 n10) (Im486 1140 n10) (Im486 1141 n10) (Im486 1142 n10) (Am488 (n10 + 1)) (Am488 (n10 + 2)) (Am488 (n10 + 10)) (Am488 (n10 + 11)) (Am488 (n10 + 12)) (Am488 (n10 + 13)) (Am488 (n10 + 14)) (Am488 (n10 + 15)) (Am488 (n10 + 16)) (Am488 (n10 + 17)) (Am488 (n10 + 18)) rfl rfl rfl rfl rfl rfl rfl rfl rfl rfl rfl rfl rfl rfl rfl rfl rfl rfl rfl rfl rfl rfl rfl rfl r492 hr492) ⟨callB_of 1 hts (lw_meth q2127) rfl rfl rfl (hts _ q118) (hts _ q2124) (by decide +kernel) ⟨Nat.le_of_ble_eq_true rfl, Nat.le_of_ble_eq_true rfl⟩, hts _ q2125, hts _ q2126⟩ g493.1 rfl rfl hl.1 (Nat.le_of_ble_eq_true rfl) dL_law_607 ⟨c477.1, c477.2⟩ rfl (fun H locs hR hS => ?_)
      obtain ⟨Im494, eIm494, hf⟩ := lt_some hf
      obtain ⟨Am495, eAm495, hf⟩ := lt_some hf
      rw [← eIm494, ← eAm495] at hR
      refine lv_icmp_eq (tgt := 1231) hx hb dL_law_610 (by decide) (fun c496 => ?_) (fun c496 => ?_)
      · have hf := ite_t c496 hf
        exact hj1231 j590_K Im494 j590_J Xm487 Am495 j590_B j590_Q j590_n j590_u j590_v hf _ _ _ hR hS (lv_sub hl [0, 1, 2, 3, 4] rfl)
      · have hf := ite_f c496 hf
        refine lv_iconst (v := 0) hx hb dL_law_613 li_0 ?_
        obtain ⟨c497, hf⟩ := gdp_some hf
        refine W.widen c497.1 c497.2 ?_
        obtain rfl := some_i hf
        replace hk32 : _ = rl32 := hk32
        subst hk32
        exact hx32_0 ((0 : Int32), j590_K, Im494, j590_J, Xm487, Am495, j590_B, j590_Q, j590_n) hfo32 _ _ _ _ dL_law_614 nz_0 hR hS
    have hj565 : ∀ (j565_K : gK) (j565_I : gI) (j565_J : gJ) (j565_X : gX) (j565_A : gI) (j565_B : gJ) (j565_Q : gX) (j565_n : Nat) (j565_u : Nat) (j565_v : Nat), w_law_j565 n L xs n10 w32_4 j565_K j565_I j565_J j565_X j565_A j565_B j565_Q j565_n j565_u j565_v = some o32 → ∀ (H : Heap) (locs : List Loc) (ls : Array Slot), RS G j565_K j565_I j565_J j565_X j565_A j565_B j565_Q H → va_S (gA G) s.heap H locs → lv_has ls 7 [(0, .ref b), (1, .ref n), (2, .ref n10), (3, .ref n22), (4, .int w32_4)] → W p l e ({ frames := 8192, cells := 1200128, slots := 5501098, locals := 100000 } : Room) s m args below meth c H locs j565_u j565_v Z (F0 m 565 ls []) := by
      intro j565_K j565_I j565_J j565_X j565_A j565_B j565_Q j565_n j565_u j565_v hf H locs ls hR hS hl
      unfold w_law_j565 at hf
      refine lv_aload_n hx hb dL_law_565 rfl (lv_at hl 1 rfl) ?_
      refine lv_aload_n hx hb dL_law_566 rfl (lv_at hl 0 rfl) ?_
      refine lv_iload hx hb dL_law_567 (lv_at hl 4 rfl) ?_
      refine lv_iconst (v := 1) hx hb dL_law_569 li_1 ?_
      obtain ⟨v498, ev498, hf⟩ := lt_some hf
      refine n_iadd hx hb ev498 dL_law_570 ?_
      obtain ⟨c499, hf⟩ := gdp_some hf
      obtain ⟨v500, ev500, hf⟩ := lt_some hf
      refine va_sld hx hb hX hbl hbA hS c499 dL_law_571 ?_
      rw [← ev500]
      obtain ⟨c502, hf⟩ := gdp_some hf
      obtain ⟨g503, hf⟩ := gdp_some hf
      obtain ⟨r501, hr501, hf⟩ := bind_s hf
      refine g0_cV (rm := (1, 22)) (As := [.int v500]) (rest := []) ⟨hx, hb, hml, hown, hts⟩ hG hR hS (m1_bestAt l G j565_K j565_I j565_J j565_X j565_A j565_B j565_Q n g503 v500 (j565_I 25 n) (j565_A (n + 74)) rfl rfl r501 hr501) ⟨callB_of 1 hts (lw_meth q1239) rfl rfl rfl (hts _ q103) (hts _ q1236) (by decide +kernel) ⟨Nat.le_of_ble_eq_true rfl, Nat.le_of_ble_eq_true rfl⟩, hts _ q1237, hts _ q1238⟩ g503.1 rfl rfl hl.1 (Nat.le_of_ble_eq_true rfl) dL_law_572 ⟨c502.1, c502.2⟩ rfl (fun H locs hR hS => ?_)
      refine lv_aload_n hx hb dL_law_575 rfl (lv_at hl 2 rfl) ?_
      refine lv_aload_n hx hb dL_law_576 rfl (lv_at hl 0 rfl) ?_
      refine lv_iload hx hb dL_law_577 (lv_at hl 4 rfl) ?_
      refine lv_iconst (v := 1) hx hb dL_law_579 li_1 ?_
      obtain ⟨v504, ev504, hf⟩ := lt_some hf
      refine n_iadd hx hb ev504 dL_law_580 ?_
      obtain ⟨c505, hf⟩ := gdp_some hf
      obtain ⟨v506, ev506, hf⟩ := lt_some hf
      refine va_sld hx hb hX hbl hbA hS c505 dL_law_581 ?_
      rw [← ev506]
      obtain ⟨g508, hf⟩ := gdp_some hf
      obtain ⟨r507, hr507, hf⟩ := bind_s hf
      refine g0_cV (rm := (0, 0)) (As := [.int v506]) (rest := [.int r501]) ⟨hx, hb, hml, hown, hts⟩ hG hR hS (m14_bestAt l G j565_K j565_I j565_J j565_X j565_A j565_B j565_Q n10 g508 v506 (j565_I 1100 n10) (j565_I 1151 n10) (j565_A (n10 + 24)) rfl rfl rfl r507 hr507) ⟨callB_of 1 hts (lw_meth q2123) rfl rfl rfl (hts _ q118) (hts _ q2120) (by decide +kernel) ⟨Nat.le_of_ble_eq_true rfl, Nat.le_of_ble_eq_true rfl⟩, hts _ q2121, hts _ q2122⟩ g508.1 rfl rfl hl.1 (Nat.le_of_ble_eq_true rfl) dL_law_582 ⟨c502.1, c502.2⟩ rfl (fun H locs hR hS => ?_)
      obtain ⟨Im509, eIm509, hf⟩ := lt_some hf
      rw [← eIm509] at hR
      refine lv_icmp_eq (tgt := 1231) hx hb dL_law_585 (by decide) (fun c510 => ?_) (fun c510 => ?_)
      · have hf := ite_t c510 hf
        exact hj1231 j565_K Im509 j565_J j565_X j565_A j565_B j565_Q j565_n j565_u j565_v hf _ _ _ hR hS (lv_sub hl [0, 1, 2, 3, 4] rfl)
      · have hf := ite_f c510 hf
        refine lv_iconst (v := 0) hx hb dL_law_588 li_0 ?_
        obtain ⟨c511, hf⟩ := gdp_some hf
        refine W.widen c511.1 c511.2 ?_
        obtain rfl := some_i hf
        replace hk32 : _ = rl32 := hk32
        subst hk32
        exact hx32_0 ((0 : Int32), j565_K, Im509, j565_J, j565_X, j565_A, j565_B, j565_Q, j565_n) hfo32 _ _ _ _ dL_law_589 nz_0 hR hS
    have hj552 : ∀ (j552_K : gK) (j552_I : gI) (j552_J : gJ) (j552_X : gX) (j552_A : gI) (j552_B : gJ) (j552_Q : gX) (j552_n : Nat) (j552_u : Nat) (j552_v : Nat), w_law_j552 n n10 w32_4 j552_K j552_I j552_J j552_X j552_A j552_B j552_Q j552_n j552_u j552_v = some o32 → ∀ (H : Heap) (locs : List Loc) (ls : Array Slot), RS G j552_K j552_I j552_J j552_X j552_A j552_B j552_Q H → va_S (gA G) s.heap H locs → lv_has ls 7 [(0, .ref b), (1, .ref n), (2, .ref n10), (3, .ref n22), (4, .int w32_4)] → W p l e ({ frames := 8192, cells := 1200128, slots := 5501098, locals := 100000 } : Room) s m args below meth c H locs j552_u j552_v Z (F0 m 552 ls []) := by
      intro j552_K j552_I j552_J j552_X j552_A j552_B j552_Q j552_n j552_u j552_v hf H locs ls hR hS hl
      unfold w_law_j552 at hf
      refine lv_aload_n hx hb dL_law_552 rfl (lv_at hl 1 rfl) ?_
      obtain ⟨c513, hf⟩ := gdp_some hf
      obtain ⟨a514, ha514, hf⟩ := bind_s hf
      obtain ⟨g515, hf⟩ := gdp_some hf
      obtain ⟨g516, hf⟩ := gdp_some hf
      obtain ⟨g517, hf⟩ := gdp_some hf
      obtain ⟨g518, hf⟩ := gdp_some hf
      obtain ⟨g519, hf⟩ := gdp_some hf
      obtain ⟨g520, hf⟩ := gdp_some hf
      obtain ⟨g521, hf⟩ := gdp_some hf
      obtain ⟨r512, hr512, hf⟩ := bind_s hf
      refine g0_cV (rm := (13, 305)) (As := []) (rest := []) ⟨hx, hb, hml, hown, hts⟩ hG hR hS (m1_best l G j552_K j552_I j552_J j552_X j552_A j552_B j552_Q n a514 g515 g516 g517 g518 ha514 g519 g520 (j552_I 1 n) (j552_I 2 n) (j552_I 18 n) (j552_I 25 n) (j552_I 26 n) (j552_I 303 a514) (j552_I 306 a514) (j552_I 307 a514) (j552_I 309 a514) (j552_I 313 a514) (j552_I 702 (n + 16)) (j552_I 703 (n + 16)) (j552_I 704 (n + 16)) (j552_I 705 (n + 16)) (j552_I 714 (n + 16)) (j552_I 715 (n + 16)) (j552_I 716 (n + 16)) (j552_I 717 (n + 16)) (j552_I 718 (n + 16)) (j552_X 701 (n + 16)) (j552_A (n + 1)) (j552_A (n + 17)) (j552_A (n + 18)) (j552_A (n + 19)) (j552_A (n + 20)) (j552_A (n + 21)) (j552_A (n + 22)) (j552_A (n + 23)) (j552_A (n + 70)) (j552_A (n + 73)) (j552_A (n + 74)) (j552_Q (a514 + 1)) (j552_I 1201) rfl rfl rfl rfl rfl rfl rfl rfl rfl rfl rfl rfl rfl rfl rfl rfl rfl rfl rfl rfl rfl rfl rfl rfl rfl rfl rfl rfl rfl rfl rfl rfl rfl g521 r512 hr512) ⟨callB_of 0 hts (lw_meth q1230) rfl rfl rfl (hts _ q103) (hts _ q1227) (by decide +kernel) ⟨Nat.le_of_ble_eq_true rfl, Nat.le_of_ble_eq_true rfl⟩, hts _ q1228, hts _ q1229⟩ g515.1 rfl rfl hl.1 (Nat.le_of_ble_eq_true rfl) dL_law_553 ⟨c513.1, c513.2⟩ rfl (fun H locs hR hS => ?_)
      obtain ⟨Im522, eIm522, hf⟩ := lt_some hf
      obtain ⟨Xm523, eXm523, hf⟩ := lt_some hf
      obtain ⟨Am524, eAm524, hf⟩ := lt_some hf
      rw [← eIm522, ← eXm523, ← eAm524] at hR
      refine lv_aload_n hx hb dL_law_556 rfl (lv_at hl 2 rfl) ?_
      obtain ⟨g526, hf⟩ := gdp_some hf
      obtain ⟨r525, hr525, hf⟩ := bind_s hf
      refine g0_cV (rm := (13, 315)) (As := []) (rest := [.int r512.1]) ⟨hx, hb, hml, hown, hts⟩ hG hR hS (m14_best l G j552_K Im522 j552_J Xm523 Am524 j552_B j552_Q n10 g526 (Im522 1100 n10) (Im522 1102 n10) (Im522 1122 n10) (Im522 1133 n10) (Im522 1150 n10) (Im522 1151 n10) (Im522 1152 n10) (Am524 (n10 + 1)) (Am524 (n10 + 2)) (Am524 (n10 + 10)) (Am524 (n10 + 21)) (Am524 (n10 + 22)) (Am524 (n10 + 23)) (Am524 (n10 + 24)) rfl rfl rfl rfl rfl rfl rfl rfl rfl rfl rfl rfl rfl rfl r525 hr525) ⟨callB_of 0 hts (lw_meth q2115) rfl rfl rfl (hts _ q118) (hts _ q2112) (by decide +kernel) ⟨Nat.le_of_ble_eq_true rfl, Nat.le_of_ble_eq_true rfl⟩, hts _ q2113, hts _ q2114⟩ g526.1 rfl rfl hl.1 (Nat.le_of_ble_eq_true rfl) dL_law_557 ⟨c513.1, c513.2⟩ rfl (fun H locs hR hS => ?_)
      obtain ⟨Im527, eIm527, hf⟩ := lt_some hf
      obtain ⟨Am528, eAm528, hf⟩ := lt_some hf
      rw [← eIm527, ← eAm528] at hR
      refine lv_icmp_eq (tgt := 1231) hx hb dL_law_560 (by decide) (fun c529 => ?_) (fun c529 => ?_)
      · have hf := ite_t c529 hf
        exact hj1231 j552_K Im527 j552_J Xm523 Am528 j552_B j552_Q j552_n j552_u j552_v hf _ _ _ hR hS (lv_sub hl [0, 1, 2, 3, 4] rfl)
      · have hf := ite_f c529 hf
        refine lv_iconst (v := 0) hx hb dL_law_563 li_0 ?_
        obtain ⟨c530, hf⟩ := gdp_some hf
        refine W.widen c530.1 c530.2 ?_
        obtain rfl := some_i hf
        replace hk32 : _ = rl32 := hk32
        subst hk32
        exact hx32_0 ((0 : Int32), j552_K, Im527, j552_J, Xm523, Am528, j552_B, j552_Q, j552_n) hfo32 _ _ _ _ dL_law_564 nz_0 hR hS
    have hj539 : ∀ (j539_K : gK) (j539_I : gI) (j539_J : gJ) (j539_X : gX) (j539_A : gI) (j539_B : gJ) (j539_Q : gX) (j539_n : Nat) (j539_u : Nat) (j539_v : Nat), w_law_j539 n n10 w32_4 j539_K j539_I j539_J j539_X j539_A j539_B j539_Q j539_n j539_u j539_v = some o32 → ∀ (H : Heap) (locs : List Loc) (ls : Array Slot), RS G j539_K j539_I j539_J j539_X j539_A j539_B j539_Q H → va_S (gA G) s.heap H locs → lv_has ls 7 [(0, .ref b), (1, .ref n), (2, .ref n10), (3, .ref n22), (4, .int w32_4)] → W p l e ({ frames := 8192, cells := 1200128, slots := 5501098, locals := 100000 } : Room) s m args below meth c H locs j539_u j539_v Z (F0 m 539 ls []) := by
      intro j539_K j539_I j539_J j539_X j539_A j539_B j539_Q j539_n j539_u j539_v hf H locs ls hR hS hl
      unfold w_law_j539 at hf
      refine lv_aload_n hx hb dL_law_539 rfl (lv_at hl 1 rfl) ?_
      obtain ⟨c532, hf⟩ := gdp_some hf
      obtain ⟨a533, ha533, hf⟩ := bind_s hf
      obtain ⟨g534, hf⟩ := gdp_some hf
      obtain ⟨g535, hf⟩ := gdp_some hf
      obtain ⟨g536, hf⟩ := gdp_some hf
      obtain ⟨g537, hf⟩ := gdp_some hf
      obtain ⟨g538, hf⟩ := gdp_some hf
      obtain ⟨g539, hf⟩ := gdp_some hf
      obtain ⟨g540, hf⟩ := gdp_some hf
      obtain ⟨r531, hr531, hf⟩ := bind_s hf
      refine g0_cV (rm := (3, 75)) (As := []) (rest := []) ⟨hx, hb, hml, hown, hts⟩ hG hR hS (m1_period l G j539_K j539_I j539_J j539_X j539_A j539_B j539_Q n a533 g534 g535 g536 g537 ha533 g538 g539 (j539_I 1 n) (j539_I 2 n) (j539_I 18 n) (j539_I 303 a533) (j539_I 306 a533) (j539_I 307 a533) (j539_I 309 a533) (j539_I 313 a533) (j539_I 702 (n + 16)) (j539_I 703 (n + 16)) (j539_I 704 (n + 16)) (j539_I 705 (n + 16)) (j539_I 714 (n + 16)) (j539_I 715 (n + 16)) (j539_I 716 (n + 16)) (j539_I 717 (n + 16)) (j539_I 718 (n + 16)) (j539_X 701 (n + 16)) (j539_A (n + 1)) (j539_A (n + 17)) (j539_A (n + 18)) (j539_A (n + 19)) (j539_A (n + 20)) (j539_A (n + 21)) (j539_A (n + 22)) (j539_A (n + 23)) (j539_A (n + 70)) (j539_Q (a533 + 1)) (j539_I 1201) rfl rfl rfl rfl rfl rfl rfl rfl rfl rfl rfl rfl rfl rfl rfl rfl rfl rfl rfl rfl rfl rfl rfl rfl rfl rfl rfl rfl rfl g540 r531 hr531) ⟨callB_of 0 hts (lw_meth q1222) rfl rfl rfl (hts _ q103) (hts _ q1219) (by decide +kernel) ⟨Nat.le_of_ble_eq_true rfl, Nat.le_of_ble_eq_true rfl⟩, hts _ q1220, hts _ q1221⟩ g534.1 rfl rfl hl.1 (Nat.le_of_ble_eq_true rfl) dL_law_540 ⟨c532.1, c532.2⟩ rfl (fun H locs hR hS => ?_)
      obtain ⟨Im541, eIm541, hf⟩ := lt_some hf
      obtain ⟨Xm542, eXm542, hf⟩ := lt_some hf
      obtain ⟨Am543, eAm543, hf⟩ := lt_some hf
      rw [← eIm541, ← eXm542, ← eAm543] at hR
      refine lv_aload_n hx hb dL_law_543 rfl (lv_at hl 2 rfl) ?_
      obtain ⟨g545, hf⟩ := gdp_some hf
      obtain ⟨r544, hr544, hf⟩ := bind_s hf
      refine g0_cV (rm := (4, 88)) (As := []) (rest := [.int r531.1]) ⟨hx, hb, hml, hown, hts⟩ hG hR hS (m14_period l G j539_K Im541 j539_J Xm542 Am543 j539_B j539_Q n10 g545 (Im541 1100 n10) (Im541 1102 n10) (Im541 1122 n10) (Im541 1133 n10) (Am543 (n10 + 1)) (Am543 (n10 + 2)) (Am543 (n10 + 10)) rfl rfl rfl rfl rfl rfl rfl r544 hr544) ⟨callB_of 0 hts (lw_meth q2107) rfl rfl rfl (hts _ q118) (hts _ q2104) (by decide +kernel) ⟨Nat.le_of_ble_eq_true rfl, Nat.le_of_ble_eq_true rfl⟩, hts _ q2105, hts _ q2106⟩ g545.1 rfl rfl hl.1 (Nat.le_of_ble_eq_true rfl) dL_law_544 ⟨c532.1, c532.2⟩ rfl (fun H locs hR hS => ?_)
      obtain ⟨Im546, eIm546, hf⟩ := lt_some hf
      obtain ⟨Am547, eAm547, hf⟩ := lt_some hf
      rw [← eIm546, ← eAm547] at hR
      refine lv_icmp_eq (tgt := 1231) hx hb dL_law_547 (by decide) (fun c548 => ?_) (fun c548 => ?_)
      · have hf := ite_t c548 hf
        exact hj1231 j539_K Im546 j539_J Xm542 Am547 j539_B j539_Q j539_n j539_u j539_v hf _ _ _ hR hS (lv_sub hl [0, 1, 2, 3, 4] rfl)
      · have hf := ite_f c548 hf
        refine lv_iconst (v := 0) hx hb dL_law_550 li_0 ?_
        obtain ⟨c549, hf⟩ := gdp_some hf
        refine W.widen c549.1 c549.2 ?_
        obtain rfl := some_i hf
        replace hk32 : _ = rl32 := hk32
        subst hk32
        exact hx32_0 ((0 : Int32), j539_K, Im546, j539_J, Xm542, Am547, j539_B, j539_Q, j539_n) hfo32 _ _ _ _ dL_law_551 nz_0 hR hS
    have hj514 : ∀ (j514_K : gK) (j514_I : gI) (j514_J : gJ) (j514_X : gX) (j514_A : gI) (j514_B : gJ) (j514_Q : gX) (j514_n : Nat) (j514_u : Nat) (j514_v : Nat), w_law_j514 n L xs n10 w32_4 j514_K j514_I j514_J j514_X j514_A j514_B j514_Q j514_n j514_u j514_v = some o32 → ∀ (H : Heap) (locs : List Loc) (ls : Array Slot), RS G j514_K j514_I j514_J j514_X j514_A j514_B j514_Q H → va_S (gA G) s.heap H locs → lv_has ls 7 [(0, .ref b), (1, .ref n), (2, .ref n10), (3, .ref n22), (4, .int w32_4)] → W p l e ({ frames := 8192, cells := 1200128, slots := 5501098, locals := 100000 } : Room) s m args below meth c H locs j514_u j514_v Z (F0 m 514 ls []) := by
      intro j514_K j514_I j514_J j514_X j514_A j514_B j514_Q j514_n j514_u j514_v hf H locs ls hR hS hl
      unfold w_law_j514 at hf
      refine lv_aload_n hx hb dL_law_514 rfl (lv_at hl 1 rfl) ?_
      refine lv_aload_n hx hb dL_law_515 rfl (lv_at hl 0 rfl) ?_
      refine lv_iload hx hb dL_law_516 (lv_at hl 4 rfl) ?_
      refine lv_iconst (v := 1) hx hb dL_law_518 li_1 ?_
      obtain ⟨v550, ev550, hf⟩ := lt_some hf
      refine n_iadd hx hb ev550 dL_law_519 ?_
      obtain ⟨c551, hf⟩ := gdp_some hf
      obtain ⟨v552, ev552, hf⟩ := lt_some hf
      refine va_sld hx hb hX hbl hbA hS c551 dL_law_520 ?_
      rw [← ev552]
      obtain ⟨c554, hf⟩ := gdp_some hf
      obtain ⟨g555, hf⟩ := gdp_some hf
      obtain ⟨r553, hr553, hf⟩ := bind_s hf
      refine g0_cV (rm := (1, 22)) (As := [.int v552]) (rest := []) ⟨hx, hb, hml, hown, hts⟩ hG hR hS (m1_done l G j514_K j514_I j514_J j514_X j514_A j514_B j514_Q n g555 v552 (j514_I 22 n) (j514_A (n + 72)) rfl rfl r553 hr553) ⟨callB_of 1 hts (lw_meth q1218) rfl rfl rfl (hts _ q103) (hts _ q1215) (by decide +kernel) ⟨Nat.le_of_ble_eq_true rfl, Nat.le_of_ble_eq_true rfl⟩, hts _ q1216, hts _ q1217⟩ g555.1 rfl rfl hl.1 (Nat.le_of_ble_eq_true rfl) dL_law_521 ⟨c554.1, c554.2⟩ rfl (fun H locs hR hS => ?_)
      refine lv_aload_n hx hb dL_law_524 rfl (lv_at hl 2 rfl) ?_
      refine lv_aload_n hx hb dL_law_525 rfl (lv_at hl 0 rfl) ?_
      refine lv_iload hx hb dL_law_526 (lv_at hl 4 rfl) ?_
      refine lv_iconst (v := 1) hx hb dL_law_528 li_1 ?_
      obtain ⟨v556, ev556, hf⟩ := lt_some hf
      refine n_iadd hx hb ev556 dL_law_529 ?_
      obtain ⟨c557, hf⟩ := gdp_some hf
      obtain ⟨v558, ev558, hf⟩ := lt_some hf
      refine va_sld hx hb hX hbl hbA hS c557 dL_law_530 ?_
      rw [← ev558]
      obtain ⟨g560, hf⟩ := gdp_some hf
      obtain ⟨r559, hr559, hf⟩ := bind_s hf
      refine g0_cV (rm := (0, 0)) (As := [.int v558]) (rest := [.int r553]) ⟨hx, hb, hml, hown, hts⟩ hG hR hS (m14_done l G j514_K j514_I j514_J j514_X j514_A j514_B j514_Q n10 g560 v558 (j514_I 1100 n10) (j514_I 1145 n10) (j514_A (n10 + 20)) rfl rfl rfl r559 hr559) ⟨callB_of 1 hts (lw_meth q2103) rfl rfl rfl (hts _ q118) (hts _ q2100) (by decide +kernel) ⟨Nat.le_of_ble_eq_true rfl, Nat.le_of_ble_eq_true rfl⟩, hts _ q2101, hts _ q2102⟩ g560.1 rfl rfl hl.1 (Nat.le_of_ble_eq_true rfl) dL_law_531 ⟨c554.1, c554.2⟩ rfl (fun H locs hR hS => ?_)
      obtain ⟨Im561, eIm561, hf⟩ := lt_some hf
      rw [← eIm561] at hR
      refine lv_icmp_eq (tgt := 1231) hx hb dL_law_534 (by decide) (fun c562 => ?_) (fun c562 => ?_)
      · have hf := ite_t c562 hf
        exact hj1231 j514_K Im561 j514_J j514_X j514_A j514_B j514_Q j514_n j514_u j514_v hf _ _ _ hR hS (lv_sub hl [0, 1, 2, 3, 4] rfl)
      · have hf := ite_f c562 hf
        refine lv_iconst (v := 0) hx hb dL_law_537 li_0 ?_
        obtain ⟨c563, hf⟩ := gdp_some hf
        refine W.widen c563.1 c563.2 ?_
        obtain rfl := some_i hf
        replace hk32 : _ = rl32 := hk32
        subst hk32
        exact hx32_0 ((0 : Int32), j514_K, Im561, j514_J, j514_X, j514_A, j514_B, j514_Q, j514_n) hfo32 _ _ _ _ dL_law_538 nz_0 hR hS
    have hj489 : ∀ (j489_K : gK) (j489_I : gI) (j489_J : gJ) (j489_X : gX) (j489_A : gI) (j489_B : gJ) (j489_Q : gX) (j489_n : Nat) (j489_u : Nat) (j489_v : Nat), w_law_j489 n L xs n10 w32_4 j489_K j489_I j489_J j489_X j489_A j489_B j489_Q j489_n j489_u j489_v = some o32 → ∀ (H : Heap) (locs : List Loc) (ls : Array Slot), RS G j489_K j489_I j489_J j489_X j489_A j489_B j489_Q H → va_S (gA G) s.heap H locs → lv_has ls 7 [(0, .ref b), (1, .ref n), (2, .ref n10), (3, .ref n22), (4, .int w32_4)] → W p l e ({ frames := 8192, cells := 1200128, slots := 5501098, locals := 100000 } : Room) s m args below meth c H locs j489_u j489_v Z (F0 m 489 ls []) := by
      intro j489_K j489_I j489_J j489_X j489_A j489_B j489_Q j489_n j489_u j489_v hf H locs ls hR hS hl
      unfold w_law_j489 at hf
      refine lv_aload_n hx hb dL_law_489 rfl (lv_at hl 1 rfl) ?_
      refine lv_aload_n hx hb dL_law_490 rfl (lv_at hl 0 rfl) ?_
      refine lv_iload hx hb dL_law_491 (lv_at hl 4 rfl) ?_
      refine lv_iconst (v := 1) hx hb dL_law_493 li_1 ?_
      obtain ⟨v564, ev564, hf⟩ := lt_some hf
      refine n_iadd hx hb ev564 dL_law_494 ?_
      obtain ⟨c565, hf⟩ := gdp_some hf
      obtain ⟨v566, ev566, hf⟩ := lt_some hf
      refine va_sld hx hb hX hbl hbA hS c565 dL_law_495 ?_
      rw [← ev566]
      obtain ⟨c568, hf⟩ := gdp_some hf
      obtain ⟨g569, hf⟩ := gdp_some hf
      obtain ⟨r567, hr567, hf⟩ := bind_s hf
      refine g0_cV (rm := (1, 22)) (As := [.int v566]) (rest := []) ⟨hx, hb, hml, hown, hts⟩ hG hR hS (m1_rowBy l G j489_K j489_I j489_J j489_X j489_A j489_B j489_Q n g569 v566 (j489_I 19 n) (j489_A (n + 71)) rfl rfl r567 hr567) ⟨callB_of 1 hts (lw_meth q1214) rfl rfl rfl (hts _ q103) (hts _ q1211) (by decide +kernel) ⟨Nat.le_of_ble_eq_true rfl, Nat.le_of_ble_eq_true rfl⟩, hts _ q1212, hts _ q1213⟩ g569.1 rfl rfl hl.1 (Nat.le_of_ble_eq_true rfl) dL_law_496 ⟨c568.1, c568.2⟩ rfl (fun H locs hR hS => ?_)
      refine lv_aload_n hx hb dL_law_499 rfl (lv_at hl 2 rfl) ?_
      refine lv_aload_n hx hb dL_law_500 rfl (lv_at hl 0 rfl) ?_
      refine lv_iload hx hb dL_law_501 (lv_at hl 4 rfl) ?_
      refine lv_iconst (v := 1) hx hb dL_law_503 li_1 ?_
      obtain ⟨v570, ev570, hf⟩ := lt_some hf
      refine n_iadd hx hb ev570 dL_law_504 ?_
      obtain ⟨c571, hf⟩ := gdp_some hf
      obtain ⟨v572, ev572, hf⟩ := lt_some hf
      refine va_sld hx hb hX hbl hbA hS c571 dL_law_505 ?_
      rw [← ev572]
      obtain ⟨g574, hf⟩ := gdp_some hf
      obtain ⟨r573, hr573, hf⟩ := bind_s hf
      refine g0_cV (rm := (1, 22)) (As := [.int v572]) (rest := [.int r567]) ⟨hx, hb, hml, hown, hts⟩ hG hR hS (m14_rowBy l G j489_K j489_I j489_J j489_X j489_A j489_B j489_Q n10 g574 v572 (j489_I 1100 n10) (j489_A (n10 + 19)) rfl rfl r573 hr573) ⟨callB_of 1 hts (lw_meth q2099) rfl rfl rfl (hts _ q118) (hts _ q2096) (by decide +kernel) ⟨Nat.le_of_ble_eq_true rfl, Nat.le_of_ble_eq_true rfl⟩, hts _ q2097, hts _ q2098⟩ g574.1 rfl rfl hl.1 (Nat.le_of_ble_eq_true rfl) dL_law_506 ⟨c568.1, c568.2⟩ rfl (fun H locs hR hS => ?_)
      obtain ⟨Im575, eIm575, hf⟩ := lt_some hf
      rw [← eIm575] at hR
      refine lv_icmp_eq (tgt := 1231) hx hb dL_law_509 (by decide) (fun c576 => ?_) (fun c576 => ?_)
      · have hf := ite_t c576 hf
        exact hj1231 j489_K Im575 j489_J j489_X j489_A j489_B j489_Q j489_n j489_u j489_v hf _ _ _ hR hS (lv_sub hl [0, 1, 2, 3, 4] rfl)
      · have hf := ite_f c576 hf
        refine lv_iconst (v := 0) hx hb dL_law_512 li_0 ?_
        obtain ⟨c577, hf⟩ := gdp_some hf
        refine W.widen c577.1 c577.2 ?_
        obtain rfl := some_i hf
        replace hk32 : _ = rl32 := hk32
        subst hk32
        exact hx32_0 ((0 : Int32), j489_K, Im575, j489_J, j489_X, j489_A, j489_B, j489_Q, j489_n) hfo32 _ _ _ _ dL_law_513 nz_0 hR hS
    have hj464 : ∀ (j464_K : gK) (j464_I : gI) (j464_J : gJ) (j464_X : gX) (j464_A : gI) (j464_B : gJ) (j464_Q : gX) (j464_n : Nat) (j464_u : Nat) (j464_v : Nat), w_law_j464 n L xs n10 w32_4 j464_K j464_I j464_J j464_X j464_A j464_B j464_Q j464_n j464_u j464_v = some o32 → ∀ (H : Heap) (locs : List Loc) (ls : Array Slot), RS G j464_K j464_I j464_J j464_X j464_A j464_B j464_Q H → va_S (gA G) s.heap H locs → lv_has ls 7 [(0, .ref b), (1, .ref n), (2, .ref n10), (3, .ref n22), (4, .int w32_4)] → W p l e ({ frames := 8192, cells := 1200128, slots := 5501098, locals := 100000 } : Room) s m args below meth c H locs j464_u j464_v Z (F0 m 464 ls []) := by
      intro j464_K j464_I j464_J j464_X j464_A j464_B j464_Q j464_n j464_u j464_v hf H locs ls hR hS hl
      unfold w_law_j464 at hf
      refine lv_aload_n hx hb dL_law_464 rfl (lv_at hl 1 rfl) ?_
      refine lv_aload_n hx hb dL_law_465 rfl (lv_at hl 0 rfl) ?_
      refine lv_iload hx hb dL_law_466 (lv_at hl 4 rfl) ?_
      refine lv_iconst (v := 1) hx hb dL_law_468 li_1 ?_
      obtain ⟨v578, ev578, hf⟩ := lt_some hf
      refine n_iadd hx hb ev578 dL_law_469 ?_
      obtain ⟨c579, hf⟩ := gdp_some hf
      obtain ⟨v580, ev580, hf⟩ := lt_some hf
      refine va_sld hx hb hX hbl hbA hS c579 dL_law_470 ?_
      rw [← ev580]
      obtain ⟨c582, hf⟩ := gdp_some hf
      obtain ⟨a583, ha583, hf⟩ := bind_s hf
      obtain ⟨g584, hf⟩ := gdp_some hf
      obtain ⟨g585, hf⟩ := gdp_some hf
      obtain ⟨g586, hf⟩ := gdp_some hf
      obtain ⟨g587, hf⟩ := gdp_some hf
      obtain ⟨g588, hf⟩ := gdp_some hf
      obtain ⟨g589, hf⟩ := gdp_some hf
      obtain ⟨g590, hf⟩ := gdp_some hf
      obtain ⟨g591, hf⟩ := gdp_some hf
      obtain ⟨r581, hr581, hf⟩ := bind_s hf
      refine g0_cV (rm := (5, 108)) (As := [.int v580]) (rest := []) ⟨hx, hb, hml, hown, hts⟩ hG hR hS (m1_row l G j464_K j464_I j464_J j464_X j464_A j464_B j464_Q n a583 g584 g585 g586 g587 ha583 g588 g589 g590 v580 (j464_I 1 n) (j464_I 2 n) (j464_I 18 n) (j464_I 19 n) (j464_I 22 n) (j464_I 303 a583) (j464_I 306 a583) (j464_I 307 a583) (j464_I 308 a583) (j464_I 309 a583) (j464_I 310 a583) (j464_I 311 a583) (j464_I 312 a583) (j464_I 313 a583) (j464_I 702 (n + 16)) (j464_I 703 (n + 16)) (j464_I 704 (n + 16)) (j464_I 705 (n + 16)) (j464_I 714 (n + 16)) (j464_I 715 (n + 16)) (j464_I 716 (n + 16)) (j464_I 717 (n + 16)) (j464_I 718 (n + 16)) (j464_X 701 (n + 16)) (j464_A (n + 1)) (j464_A (n + 17)) (j464_A (n + 18)) (j464_A (n + 19)) (j464_A (n + 20)) (j464_A (n + 21)) (j464_A (n + 22)) (j464_A (n + 23)) (j464_A (n + 37)) (j464_A (n + 70)) (j464_A (n + 71)) (j464_A (n + 72)) (j464_Q (a583 + 1)) (j464_I 1201) (j464_I 1203) (fun j => j464_A ((n + 25) + j)) rfl rfl rfl rfl rfl rfl rfl rfl rfl rfl rfl rfl rfl rfl rfl rfl rfl rfl rfl rfl rfl rfl rfl rfl rfl rfl rfl rfl rfl rfl rfl rfl rfl rfl rfl rfl rfl rfl rfl (fun _ _ => rfl) g591 r581 hr581) ⟨callB_of 1 hts (lw_meth q1116) rfl rfl rfl (hts _ q103) (hts _ q1113) (by decide +kernel) ⟨Nat.le_of_ble_eq_true rfl, Nat.le_of_ble_eq_true rfl⟩, hts _ q1114, hts _ q1115⟩ g584.1 rfl rfl hl.1 (Nat.le_of_ble_eq_true rfl) dL_law_471 ⟨c582.1, c582.2⟩ rfl (fun H locs hR hS => ?_)
      obtain ⟨Im592, eIm592, hf⟩ := lt_some hf
      obtain ⟨Xm593, eXm593, hf⟩ := lt_some hf
      obtain ⟨Am594, eAm594, hf⟩ := lt_some hf
      rw [← eIm592, ← eXm593, ← eAm594] at hR
      refine lv_aload_n hx hb dL_law_474 rfl (lv_at hl 2 rfl) ?_
      refine lv_aload_n hx hb dL_law_475 rfl (lv_at hl 0 rfl) ?_
      refine lv_iload hx hb dL_law_476 (lv_at hl 4 rfl) ?_
      refine lv_iconst (v := 1) hx hb dL_law_478 li_1 ?_
      obtain ⟨v595, ev595, hf⟩ := lt_some hf
      refine n_iadd hx hb ev595 dL_law_479 ?_
      obtain ⟨c596, hf⟩ := gdp_some hf
      obtain ⟨v597, ev597, hf⟩ := lt_some hf
      refine va_sld hx hb hX hbl hbA hS c596 dL_law_480 ?_
      rw [← ev597]
      obtain ⟨g599, hf⟩ := gdp_some hf
      obtain ⟨r598, hr598, hf⟩ := bind_s hf
      refine g0_cV (rm := (7, 153)) (As := [.int v597]) (rest := [.int r581.1]) ⟨hx, hb, hml, hown, hts⟩ hG hR hS (m14_row l G j464_K Im592 j464_J Xm593 Am594 j464_B j464_Q n10 g599 v597 (Im592 1100 n10) (Im592 1102 n10) (Im592 1122 n10) (Im592 1133 n10) (Im592 1134 n10) (Im592 1135 n10) (Im592 1136 n10) (Im592 1137 n10) (Im592 1138 n10) (Im592 1139 n10) (Im592 1140 n10) (Im592 1141 n10) (Im592 1142 n10) (Im592 1145 n10) (Am594 (n10 + 1)) (Am594 (n10 + 2)) (Am594 (n10 + 10)) (Am594 (n10 + 11)) (Am594 (n10 + 12)) (Am594 (n10 + 13)) (Am594 (n10 + 14)) (Am594 (n10 + 15)) (Am594 (n10 + 16)) (Am594 (n10 + 17)) (Am594 (n10 + 18)) (Am594 (n10 + 19)) (Am594 (n10 + 20)) rfl rfl rfl rfl rfl rfl rfl rfl rfl rfl rfl rfl rfl rfl rfl rfl rfl rfl rfl rfl rfl rfl rfl rfl rfl rfl rfl r598 hr598) ⟨callB_of 1 hts (lw_meth q2036) rfl rfl rfl (hts _ q118) (hts _ q2033) (by decide +kernel) ⟨Nat.le_of_ble_eq_true rfl, Nat.le_of_ble_eq_true rfl⟩, hts _ q2034, hts _ q2035⟩ g599.1 rfl rfl hl.1 (Nat.le_of_ble_eq_true rfl) dL_law_481 ⟨c582.1, c582.2⟩ rfl (fun H locs hR hS => ?_)
      obtain ⟨Im600, eIm600, hf⟩ := lt_some hf
      obtain ⟨Am601, eAm601, hf⟩ := lt_some hf
      rw [← eIm600, ← eAm601] at hR
      refine lv_icmp_eq (tgt := 1231) hx hb dL_law_484 (by decide) (fun c602 => ?_) (fun c602 => ?_)
      · have hf := ite_t c602 hf
        exact hj1231 j464_K Im600 j464_J Xm593 Am601 j464_B j464_Q j464_n j464_u j464_v hf _ _ _ hR hS (lv_sub hl [0, 1, 2, 3, 4] rfl)
      · have hf := ite_f c602 hf
        refine lv_iconst (v := 0) hx hb dL_law_487 li_0 ?_
        obtain ⟨c603, hf⟩ := gdp_some hf
        refine W.widen c603.1 c603.2 ?_
        obtain rfl := some_i hf
        replace hk32 : _ = rl32 := hk32
        subst hk32
        exact hx32_0 ((0 : Int32), j464_K, Im600, j464_J, Xm593, Am601, j464_B, j464_Q, j464_n) hfo32 _ _ _ _ dL_law_488 nz_0 hR hS
    have hj384 : ∀ (j384_K : gK) (j384_I : gI) (j384_J : gJ) (j384_X : gX) (j384_A : gI) (j384_B : gJ) (j384_Q : gX) (j384_n : Nat) (j384_u : Nat) (j384_v : Nat), w_law_j384 G.2.2 (aK G) n L xs n10 n22 w32_4 j384_K j384_I j384_J j384_X j384_A j384_B j384_Q j384_n j384_u j384_v = some o32 → ∀ (H : Heap) (locs : List Loc) (ls : Array Slot), RS G j384_K j384_I j384_J j384_X j384_A j384_B j384_Q H → va_S (gA G) s.heap H locs → lv_has ls 7 [(0, .ref b), (1, .ref n), (2, .ref n10), (3, .ref n22), (4, .int w32_4)] → W p l e ({ frames := 8192, cells := 1200128, slots := 5501098, locals := 100000 } : Room) s m args below meth c H locs j384_u j384_v Z (F0 m 384 ls []) := by
      intro j384_K j384_I j384_J j384_X j384_A j384_B j384_Q j384_n j384_u j384_v hf H locs ls hR hS hl
      unfold w_law_j384 at hf
      refine lv_aload_n hx hb dL_law_384 rfl (lv_at hl 1 rfl) ?_
      refine lv_aload_n hx hb dL_law_385 rfl (lv_at hl 0 rfl) ?_
      refine lv_iload hx hb dL_law_386 (lv_at hl 4 rfl) ?_
      refine lv_iconst (v := 1) hx hb dL_law_388 li_1 ?_
      obtain ⟨v604, ev604, hf⟩ := lt_some hf
      refine n_iadd hx hb ev604 dL_law_389 ?_
      obtain ⟨c605, hf⟩ := gdp_some hf
      obtain ⟨v606, ev606, hf⟩ := lt_some hf
      refine va_sld hx hb hX hbl hbA hS c605 dL_law_390 ?_
      rw [← ev606]
      refine lv_aload_n hx hb dL_law_391 rfl (lv_at hl 0 rfl) ?_
      refine lv_iload hx hb dL_law_392 (lv_at hl 4 rfl) ?_
      refine lv_iconst (v := 2) hx hb dL_law_394 li_2 ?_
      obtain ⟨v607, ev607, hf⟩ := lt_some hf
      refine n_iadd hx hb ev607 dL_law_395 ?_
      obtain ⟨c608, hf⟩ := gdp_some hf
      obtain ⟨v609, ev609, hf⟩ := lt_some hf
      refine va_sld hx hb hX hbl hbA hS c608 dL_law_396 ?_
      rw [← ev609]
      refine lv_aload_n hx hb dL_law_397 rfl (lv_at hl 0 rfl) ?_
      refine lv_iload hx hb dL_law_398 (lv_at hl 4 rfl) ?_
      refine lv_iconst (v := 3) hx hb dL_law_400 li_3 ?_
      obtain ⟨v610, ev610, hf⟩ := lt_some hf
      refine n_iadd hx hb ev610 dL_law_401 ?_
      obtain ⟨c611, hf⟩ := gdp_some hf
      obtain ⟨v612, ev612, hf⟩ := lt_some hf
      refine va_sld hx hb hX hbl hbA hS c611 dL_law_402 ?_
      rw [← ev612]
      refine lv_aload_n hx hb dL_law_403 rfl (lv_at hl 3 rfl) ?_
      obtain ⟨c614, hf⟩ := gdp_some hf
      obtain ⟨r613, hr613, hf⟩ := bind_s hf
      refine x_gor (vx_runSX (As := [.ref n, .int v606, .int v609, .int v612, .ref n22]) (rest := []) ⟨hx, hb, hml, hown, hts⟩ (m0_cell_w l hlS G j384_K j384_I j384_J j384_X j384_A j384_B j384_Q j384_n n v606 v609 v612 n22 r613 hr613) (vx_cwSW 5 hts (lw_SW q1596 q1597 q102 q1598) rfl rfl rfl (by decide +kernel) ⟨Nat.le_of_ble_eq_true rfl, Nat.le_of_ble_eq_true rfl⟩) (x_preS hG hR hW hS) rfl rfl hl.1 rfl (lv_room (Nat.le_of_ble_eq_true rfl)) dL_law_404 ⟨c614.1, c614.2⟩) hS (fun H locs hR hS => ?_)
      refine lv_istore (lv' := [(5, .int r613.1), (0, .ref b), (1, .ref n), (2, .ref n10), (3, .ref n22), (4, .int w32_4)]) hx hb dL_law_407 hl (by decide) rfl (fun ls hl => ?_)
      refine lv_aload_n hx hb dL_law_409 rfl (lv_at hl 3 rfl) ?_
      refine lv_aload_n hx hb dL_law_410 rfl (lv_at hl 1 rfl) ?_
      refine lv_iload hx hb dL_law_411 (lv_at hl 5 rfl) ?_
      refine lv_iconst (v := 1) hx hb dL_law_413 li_1 ?_
      obtain ⟨v615, ev615, hf⟩ := lt_some hf
      refine n_iadd hx hb ev615 dL_law_414 ?_
      obtain ⟨c616, hf⟩ := gdp_some hf
      obtain ⟨v617, ev617, hf⟩ := lt_some hf
      refine va_sld hx hb hX hbl hbA hS c616 dL_law_415 ?_
      rw [← ev617]
      refine lv_aload_n hx hb dL_law_416 rfl (lv_at hl 1 rfl) ?_
      refine lv_iload hx hb dL_law_417 (lv_at hl 5 rfl) ?_
      refine lv_iconst (v := 2) hx hb dL_law_419 li_2 ?_
      obtain ⟨v618, ev618, hf⟩ := lt_some hf
      refine n_iadd hx hb ev618 dL_law_420 ?_
      obtain ⟨c619, hf⟩ := gdp_some hf
      obtain ⟨v620, ev620, hf⟩ := lt_some hf
      refine va_sld hx hb hX hbl hbA hS c619 dL_law_421 ?_
      rw [← ev620]
      refine lv_aload_n hx hb dL_law_422 rfl (lv_at hl 1 rfl) ?_
      refine lv_iload hx hb dL_law_423 (lv_at hl 5 rfl) ?_
      refine lv_iconst (v := 3) hx hb dL_law_425 li_3 ?_
      obtain ⟨v621, ev621, hf⟩ := lt_some hf
      refine n_iadd hx hb ev621 dL_law_426 ?_
      obtain ⟨c622, hf⟩ := gdp_some hf
      obtain ⟨v623, ev623, hf⟩ := lt_some hf
      refine va_sld hx hb hX hbl hbA hS c622 dL_law_427 ?_
      rw [← ev623]
      obtain ⟨c625, hf⟩ := gdp_some hf
      obtain ⟨g626, hf⟩ := gdp_some hf
      obtain ⟨r624, hr624, hf⟩ := bind_s hf
      refine g0_cV (rm := (2, 41)) (As := [.int v617, .int v620, .int v623]) (rest := []) ⟨hx, hb, hml, hown, hts⟩ hG hR hS (m14_cell l G r613.2.1 r613.2.2.1 r613.2.2.2.1 r613.2.2.2.2.1 r613.2.2.2.2.2.1 r613.2.2.2.2.2.2.1 r613.2.2.2.2.2.2.2.1 n10 g626 v617 v620 v623 (r613.2.2.1 1100 n10) (r613.2.2.1 1122 n10) (r613.2.2.2.2.2.1 (n10 + 2)) rfl rfl rfl r624 hr624) ⟨callB_of 3 hts (lw_meth q2028) rfl rfl rfl (hts _ q118) (hts _ q2025) (by decide +kernel) ⟨Nat.le_of_ble_eq_true rfl, Nat.le_of_ble_eq_true rfl⟩, hts _ q2026, hts _ q2027⟩ g626.1 rfl rfl hl.1 (Nat.le_of_ble_eq_true rfl) dL_law_428 ⟨c625.1, c625.2⟩ rfl (fun H locs hR hS => ?_)
      obtain ⟨Im627, eIm627, hf⟩ := lt_some hf
      obtain ⟨Am628, eAm628, hf⟩ := lt_some hf
      rw [← eIm627, ← eAm628] at hR
      refine lv_istore (lv' := [(6, .int r624.1), (5, .int r613.1), (0, .ref b), (1, .ref n), (2, .ref n10), (3, .ref n22), (4, .int w32_4)]) hx hb dL_law_431 hl (by decide) rfl (fun ls hl => ?_)
      refine lv_aload_n hx hb dL_law_433 rfl (lv_at hl 4 rfl) ?_
      obtain ⟨r629, hr629, hf⟩ := bind_s hf
      refine g0_cV (rm := (0, 0)) (As := []) (rest := []) ⟨hx, hb, hml, hown, hts⟩ hG hR hS (m14_thrown l G r613.2.1 Im627 r613.2.2.2.1 r613.2.2.2.2.1 Am628 r613.2.2.2.2.2.2.1 r613.2.2.2.2.2.2.2.1 n10 g626 (Im627 1100 n10) rfl r629 hr629) ⟨callB_of 0 hts (lw_meth q1894) rfl rfl rfl (hts _ q118) (hts _ q1891) (by decide +kernel) ⟨Nat.le_of_ble_eq_true rfl, Nat.le_of_ble_eq_true rfl⟩, hts _ q1892, hts _ q1893⟩ g626.1 rfl rfl hl.1 (Nat.le_of_ble_eq_true rfl) dL_law_434 ⟨c625.1, c625.2⟩ rfl (fun H locs hR hS => ?_)
      refine lv_iload hx hb dL_law_437 (lv_at hl 1 rfl) ?_
      refine lv_icmp_eq (tgt := 444) hx hb dL_law_439 (by decide) (fun c630 => ?_) (fun c630 => ?_)
      · have hf := ite_t c630 hf
        refine lv_iload hx hb dL_law_444 (lv_at hl 1 rfl) ?_
        have hj461 : ∀ (_ : Unit), w_law_j461 w32_4 j384_u j384_v r613 Im627 Am628 = some o32 → ∀ (H : Heap) (locs : List Loc) (ls : Array Slot), RS G r613.2.1 Im627 r613.2.2.2.1 r613.2.2.2.2.1 Am628 r613.2.2.2.2.2.2.1 r613.2.2.2.2.2.2.2.1 H → va_S (gA G) s.heap H locs → lv_has ls 7 [(0, .ref b), (1, .ref n), (2, .ref n10), (3, .ref n22), (4, .int w32_4)] → W p l e ({ frames := 8192, cells := 1200128, slots := 5501098, locals := 100000 } : Room) s m args below meth c H locs (j384_u + 1) (j384_v + 6) Z (F0 m 461 ls []) := by
          intro _ hf H locs ls hR hS hl
          unfold w_law_j461 at hf
          refine lv_goto (tgt := 1231) hx hb dL_law_461 (by decide) ?_
          exact hj1231 r613.2.1 Im627 r613.2.2.2.1 r613.2.2.2.2.1 Am628 r613.2.2.2.2.2.2.1 r613.2.2.2.2.2.2.2.1 r613.2.2.2.2.2.2.2.2 (j384_u + 1) (j384_v + 6) hf _ _ _ hR hS (lv_sub hl [0, 1, 2, 3, 4] rfl)
        refine lv_if_ne (tgt := 461) hx hb dL_law_446 (by decide) (fun c631 => ?_) (fun c631 => ?_)
        · have hf := ite_f c631 hf
          exact hj461 () hf _ _ _ hR hS (lv_sub hl [2, 3, 4, 5, 6] rfl)
        · have hf := ite_t c631 hf
          refine lv_aload_n hx hb dL_law_449 rfl (lv_at hl 5 rfl) ?_
          refine lv_iconst (v := 0) hx hb dL_law_450 li_0 ?_
          obtain ⟨n632, hn632, hf⟩ := bind_s hf
          have kn632 := alen_k hn632
          obtain ⟨c633, hf⟩ := gdp_some hf
          obtain ⟨v634, ev634, hf⟩ := lt_some hf
          refine g_lald hx hb hG hR kn632 c633 dL_law_451 ?_
          rw [← ev634]
          refine lv_iload hx hb dL_law_452 (lv_at hl 0 rfl) ?_
          obtain ⟨v635, ev635, hf⟩ := lt_some hf
          refine n_i2l hx hb ev635 dL_law_454 ?_
          obtain ⟨v636, ev636, hf⟩ := lt_some hf
          refine n_lcmp hx hb ev636 dL_law_455 ?_
          refine lv_if_eq (tgt := 461) hx hb dL_law_456 (by decide) (fun c637 => ?_) (fun c637 => ?_)
          · have hf := ite_t c637 hf
            exact hj461 () hf _ _ _ hR hS (lv_sub hl [2, 3, 4, 5, 6] rfl)
          · have hf := ite_f c637 hf
            refine lv_iconst (v := 0) hx hb dL_law_459 li_0 ?_
            obtain ⟨c638, hf⟩ := gdp_some hf
            refine W.widen c638.1 c638.2 ?_
            obtain rfl := some_i hf
            replace hk32 : _ = rl32 := hk32
            subst hk32
            exact hx32_0 ((0 : Int32), r613.2.1, Im627, r613.2.2.2.1, r613.2.2.2.2.1, Am628, r613.2.2.2.2.2.2.1, r613.2.2.2.2.2.2.2.1, r613.2.2.2.2.2.2.2.2) hfo32 _ _ _ _ dL_law_460 nz_0 hR hS
      · have hf := ite_f c630 hf
        refine lv_iconst (v := 0) hx hb dL_law_442 li_0 ?_
        obtain ⟨c639, hf⟩ := gdp_some hf
        refine W.widen c639.1 c639.2 ?_
        obtain rfl := some_i hf
        replace hk32 : _ = rl32 := hk32
        subst hk32
        exact hx32_0 ((0 : Int32), r613.2.1, Im627, r613.2.2.2.1, r613.2.2.2.2.1, Am628, r613.2.2.2.2.2.2.1, r613.2.2.2.2.2.2.2.1, r613.2.2.2.2.2.2.2.2) hfo32 _ _ _ _ dL_law_443 nz_0 hR hS
    have hj316 : ∀ (j316_K : gK) (j316_I : gI) (j316_J : gJ) (j316_X : gX) (j316_A : gI) (j316_B : gJ) (j316_Q : gX) (j316_n : Nat) (j316_u : Nat) (j316_v : Nat), w_law_j316 G.2.2 (aK G) n L xs n10 n22 w32_4 j316_K j316_I j316_J j316_X j316_A j316_B j316_Q j316_n j316_u j316_v = some o32 → ∀ (H : Heap) (locs : List Loc) (ls : Array Slot), RS G j316_K j316_I j316_J j316_X j316_A j316_B j316_Q H → va_S (gA G) s.heap H locs → lv_has ls 7 [(0, .ref b), (1, .ref n), (2, .ref n10), (3, .ref n22), (4, .int w32_4)] → W p l e ({ frames := 8192, cells := 1200128, slots := 5501098, locals := 100000 } : Room) s m args below meth c H locs j316_u j316_v Z (F0 m 316 ls []) := by
      intro j316_K j316_I j316_J j316_X j316_A j316_B j316_Q j316_n j316_u j316_v hf H locs ls hR hS hl
      unfold w_law_j316 at hf
      refine lv_aload_n hx hb dL_law_316 rfl (lv_at hl 1 rfl) ?_
      refine lv_aload_n hx hb dL_law_317 rfl (lv_at hl 0 rfl) ?_
      refine lv_iload hx hb dL_law_318 (lv_at hl 4 rfl) ?_
      refine lv_iconst (v := 1) hx hb dL_law_320 li_1 ?_
      obtain ⟨v640, ev640, hf⟩ := lt_some hf
      refine n_iadd hx hb ev640 dL_law_321 ?_
      obtain ⟨c641, hf⟩ := gdp_some hf
      obtain ⟨v642, ev642, hf⟩ := lt_some hf
      refine va_sld hx hb hX hbl hbA hS c641 dL_law_322 ?_
      rw [← ev642]
      refine lv_aload_n hx hb dL_law_323 rfl (lv_at hl 0 rfl) ?_
      refine lv_iload hx hb dL_law_324 (lv_at hl 4 rfl) ?_
      refine lv_iconst (v := 2) hx hb dL_law_326 li_2 ?_
      obtain ⟨v643, ev643, hf⟩ := lt_some hf
      refine n_iadd hx hb ev643 dL_law_327 ?_
      obtain ⟨c644, hf⟩ := gdp_some hf
      obtain ⟨v645, ev645, hf⟩ := lt_some hf
      refine va_sld hx hb hX hbl hbA hS c644 dL_law_328 ?_
      rw [← ev645]
      refine lv_aload_n hx hb dL_law_329 rfl (lv_at hl 3 rfl) ?_
      obtain ⟨c647, hf⟩ := gdp_some hf
      obtain ⟨r646, hr646, hf⟩ := bind_s hf
      refine x_gor (vx_runSX (As := [.ref n, .int v642, .int v645, .ref n22]) (rest := []) ⟨hx, hb, hml, hown, hts⟩ (m0_man_w l hlS G j316_K j316_I j316_J j316_X j316_A j316_B j316_Q j316_n n v642 v645 n22 r646 hr646) (vx_cwSW 4 hts (lw_SW q1562 q1563 q102 q1564) rfl rfl rfl (by decide +kernel) ⟨Nat.le_of_ble_eq_true rfl, Nat.le_of_ble_eq_true rfl⟩) (x_preS hG hR hW hS) rfl rfl hl.1 rfl (lv_room (Nat.le_of_ble_eq_true rfl)) dL_law_330 ⟨c647.1, c647.2⟩) hS (fun H locs hR hS => ?_)
      refine lv_istore (lv' := [(5, .int r646.1), (0, .ref b), (1, .ref n), (2, .ref n10), (3, .ref n22), (4, .int w32_4)]) hx hb dL_law_333 hl (by decide) rfl (fun ls hl => ?_)
      refine lv_aload_n hx hb dL_law_335 rfl (lv_at hl 3 rfl) ?_
      refine lv_aload_n hx hb dL_law_336 rfl (lv_at hl 1 rfl) ?_
      refine lv_iload hx hb dL_law_337 (lv_at hl 5 rfl) ?_
      refine lv_iconst (v := 1) hx hb dL_law_339 li_1 ?_
      obtain ⟨v648, ev648, hf⟩ := lt_some hf
      refine n_iadd hx hb ev648 dL_law_340 ?_
      obtain ⟨c649, hf⟩ := gdp_some hf
      obtain ⟨v650, ev650, hf⟩ := lt_some hf
      refine va_sld hx hb hX hbl hbA hS c649 dL_law_341 ?_
      rw [← ev650]
      refine lv_aload_n hx hb dL_law_342 rfl (lv_at hl 1 rfl) ?_
      refine lv_iload hx hb dL_law_343 (lv_at hl 5 rfl) ?_
      refine lv_iconst (v := 2) hx hb dL_law_345 li_2 ?_
      obtain ⟨v651, ev651, hf⟩ := lt_some hf
      refine n_iadd hx hb ev651 dL_law_346 ?_
      obtain ⟨c652, hf⟩ := gdp_some hf
      obtain ⟨v653, ev653, hf⟩ := lt_some hf
      refine va_sld hx hb hX hbl hbA hS c652 dL_law_347 ?_
      rw [← ev653]
      obtain ⟨c655, hf⟩ := gdp_some hf
      obtain ⟨g656, hf⟩ := gdp_some hf
      obtain ⟨r654, hr654, hf⟩ := bind_s hf
      refine g0_cV (rm := (2, 41)) (As := [.int v650, .int v653]) (rest := []) ⟨hx, hb, hml, hown, hts⟩ hG hR hS (m14_man l G r646.2.1 r646.2.2.1 r646.2.2.2.1 r646.2.2.2.2.1 r646.2.2.2.2.2.1 r646.2.2.2.2.2.2.1 r646.2.2.2.2.2.2.2.1 n10 g656 v650 v653 (r646.2.2.1 1100 n10) (r646.2.2.1 1122 n10) (r646.2.2.2.2.2.1 (n10 + 2)) rfl rfl rfl r654 hr654) ⟨callB_of 2 hts (lw_meth q2012) rfl rfl rfl (hts _ q118) (hts _ q2009) (by decide +kernel) ⟨Nat.le_of_ble_eq_true rfl, Nat.le_of_ble_eq_true rfl⟩, hts _ q2010, hts _ q2011⟩ g656.1 rfl rfl hl.1 (Nat.le_of_ble_eq_true rfl) dL_law_348 ⟨c655.1, c655.2⟩ rfl (fun H locs hR hS => ?_)
      obtain ⟨Im657, eIm657, hf⟩ := lt_some hf
      obtain ⟨Am658, eAm658, hf⟩ := lt_some hf
      rw [← eIm657, ← eAm658] at hR
      refine lv_istore (lv' := [(6, .int r654.1), (5, .int r646.1), (0, .ref b), (1, .ref n), (2, .ref n10), (3, .ref n22), (4, .int w32_4)]) hx hb dL_law_351 hl (by decide) rfl (fun ls hl => ?_)
      refine lv_aload_n hx hb dL_law_353 rfl (lv_at hl 4 rfl) ?_
      obtain ⟨r659, hr659, hf⟩ := bind_s hf
      refine g0_cV (rm := (0, 0)) (As := []) (rest := []) ⟨hx, hb, hml, hown, hts⟩ hG hR hS (m14_thrown l G r646.2.1 Im657 r646.2.2.2.1 r646.2.2.2.2.1 Am658 r646.2.2.2.2.2.2.1 r646.2.2.2.2.2.2.2.1 n10 g656 (Im657 1100 n10) rfl r659 hr659) ⟨callB_of 0 hts (lw_meth q1894) rfl rfl rfl (hts _ q118) (hts _ q1891) (by decide +kernel) ⟨Nat.le_of_ble_eq_true rfl, Nat.le_of_ble_eq_true rfl⟩, hts _ q1892, hts _ q1893⟩ g656.1 rfl rfl hl.1 (Nat.le_of_ble_eq_true rfl) dL_law_354 ⟨c655.1, c655.2⟩ rfl (fun H locs hR hS => ?_)
      refine lv_iload hx hb dL_law_357 (lv_at hl 1 rfl) ?_
      refine lv_icmp_eq (tgt := 364) hx hb dL_law_359 (by decide) (fun c660 => ?_) (fun c660 => ?_)
      · have hf := ite_t c660 hf
        refine lv_iload hx hb dL_law_364 (lv_at hl 1 rfl) ?_
        have hj381 : ∀ (_ : Unit), w_law_j381 w32_4 j316_u j316_v r646 Im657 Am658 = some o32 → ∀ (H : Heap) (locs : List Loc) (ls : Array Slot), RS G r646.2.1 Im657 r646.2.2.2.1 r646.2.2.2.2.1 Am658 r646.2.2.2.2.2.2.1 r646.2.2.2.2.2.2.2.1 H → va_S (gA G) s.heap H locs → lv_has ls 7 [(0, .ref b), (1, .ref n), (2, .ref n10), (3, .ref n22), (4, .int w32_4)] → W p l e ({ frames := 8192, cells := 1200128, slots := 5501098, locals := 100000 } : Room) s m args below meth c H locs (j316_u + 1) (j316_v + 6) Z (F0 m 381 ls []) := by
          intro _ hf H locs ls hR hS hl
          unfold w_law_j381 at hf
          refine lv_goto (tgt := 1231) hx hb dL_law_381 (by decide) ?_
          exact hj1231 r646.2.1 Im657 r646.2.2.2.1 r646.2.2.2.2.1 Am658 r646.2.2.2.2.2.2.1 r646.2.2.2.2.2.2.2.1 r646.2.2.2.2.2.2.2.2 (j316_u + 1) (j316_v + 6) hf _ _ _ hR hS (lv_sub hl [0, 1, 2, 3, 4] rfl)
        refine lv_if_ne (tgt := 381) hx hb dL_law_366 (by decide) (fun c661 => ?_) (fun c661 => ?_)
        · have hf := ite_f c661 hf
          exact hj381 () hf _ _ _ hR hS (lv_sub hl [2, 3, 4, 5, 6] rfl)
        · have hf := ite_t c661 hf
          refine lv_aload_n hx hb dL_law_369 rfl (lv_at hl 5 rfl) ?_
          refine lv_iconst (v := 0) hx hb dL_law_370 li_0 ?_
          obtain ⟨n662, hn662, hf⟩ := bind_s hf
          have kn662 := alen_k hn662
          obtain ⟨c663, hf⟩ := gdp_some hf
          obtain ⟨v664, ev664, hf⟩ := lt_some hf
          refine g_lald hx hb hG hR kn662 c663 dL_law_371 ?_
          rw [← ev664]
          refine lv_iload hx hb dL_law_372 (lv_at hl 0 rfl) ?_
          obtain ⟨v665, ev665, hf⟩ := lt_some hf
          refine n_i2l hx hb ev665 dL_law_374 ?_
          obtain ⟨v666, ev666, hf⟩ := lt_some hf
          refine n_lcmp hx hb ev666 dL_law_375 ?_
          refine lv_if_eq (tgt := 381) hx hb dL_law_376 (by decide) (fun c667 => ?_) (fun c667 => ?_)
          · have hf := ite_t c667 hf
            exact hj381 () hf _ _ _ hR hS (lv_sub hl [2, 3, 4, 5, 6] rfl)
          · have hf := ite_f c667 hf
            refine lv_iconst (v := 0) hx hb dL_law_379 li_0 ?_
            obtain ⟨c668, hf⟩ := gdp_some hf
            refine W.widen c668.1 c668.2 ?_
            obtain rfl := some_i hf
            replace hk32 : _ = rl32 := hk32
            subst hk32
            exact hx32_0 ((0 : Int32), r646.2.1, Im657, r646.2.2.2.1, r646.2.2.2.2.1, Am658, r646.2.2.2.2.2.2.1, r646.2.2.2.2.2.2.2.1, r646.2.2.2.2.2.2.2.2) hfo32 _ _ _ _ dL_law_380 nz_0 hR hS
      · have hf := ite_f c660 hf
        refine lv_iconst (v := 0) hx hb dL_law_362 li_0 ?_
        obtain ⟨c669, hf⟩ := gdp_some hf
        refine W.widen c669.1 c669.2 ?_
        obtain rfl := some_i hf
        replace hk32 : _ = rl32 := hk32
        subst hk32
        exact hx32_0 ((0 : Int32), r646.2.1, Im657, r646.2.2.2.1, r646.2.2.2.2.1, Am658, r646.2.2.2.2.2.2.1, r646.2.2.2.2.2.2.2.1, r646.2.2.2.2.2.2.2.2) hfo32 _ _ _ _ dL_law_363 nz_0 hR hS
    have hj303 : ∀ (j303_K : gK) (j303_I : gI) (j303_J : gJ) (j303_X : gX) (j303_A : gI) (j303_B : gJ) (j303_Q : gX) (j303_n : Nat) (j303_u : Nat) (j303_v : Nat), w_law_j303 n n10 w32_4 j303_K j303_I j303_J j303_X j303_A j303_B j303_Q j303_n j303_u j303_v = some o32 → ∀ (H : Heap) (locs : List Loc) (ls : Array Slot), RS G j303_K j303_I j303_J j303_X j303_A j303_B j303_Q H → va_S (gA G) s.heap H locs → lv_has ls 7 [(0, .ref b), (1, .ref n), (2, .ref n10), (3, .ref n22), (4, .int w32_4)] → W p l e ({ frames := 8192, cells := 1200128, slots := 5501098, locals := 100000 } : Room) s m args below meth c H locs j303_u j303_v Z (F0 m 303 ls []) := by
      intro j303_K j303_I j303_J j303_X j303_A j303_B j303_Q j303_n j303_u j303_v hf H locs ls hR hS hl
      unfold w_law_j303 at hf
      refine lv_aload_n hx hb dL_law_303 rfl (lv_at hl 1 rfl) ?_
      obtain ⟨c671, hf⟩ := gdp_some hf
      obtain ⟨g672, hf⟩ := gdp_some hf
      obtain ⟨r670, hr670, hf⟩ := bind_s hf
      refine g0_cV (rm := (0, 0)) (As := []) (rest := []) ⟨hx, hb, hml, hown, hts⟩ hG hR hS (m1_fault l G j303_K j303_I j303_J j303_X j303_A j303_B j303_Q n g672 (j303_I 12 n) rfl r670 hr670) ⟨callB_of 0 hts (lw_meth q1029) rfl rfl rfl (hts _ q103) (hts _ q1026) (by decide +kernel) ⟨Nat.le_of_ble_eq_true rfl, Nat.le_of_ble_eq_true rfl⟩, hts _ q1027, hts _ q1028⟩ g672.1 rfl rfl hl.1 (Nat.le_of_ble_eq_true rfl) dL_law_304 ⟨c671.1, c671.2⟩ rfl (fun H locs hR hS => ?_)
      refine lv_aload_n hx hb dL_law_307 rfl (lv_at hl 2 rfl) ?_
      obtain ⟨g674, hf⟩ := gdp_some hf
      obtain ⟨r673, hr673, hf⟩ := bind_s hf
      refine g0_cV (rm := (0, 0)) (As := []) (rest := [.int r670]) ⟨hx, hb, hml, hown, hts⟩ hG hR hS (m14_fault l G j303_K j303_I j303_J j303_X j303_A j303_B j303_Q n10 g674 (j303_I 1100 n10) (j303_I 1110 n10) rfl rfl r673 hr673) ⟨callB_of 0 hts (lw_meth q2008) rfl rfl rfl (hts _ q118) (hts _ q2005) (by decide +kernel) ⟨Nat.le_of_ble_eq_true rfl, Nat.le_of_ble_eq_true rfl⟩, hts _ q2006, hts _ q2007⟩ g674.1 rfl rfl hl.1 (Nat.le_of_ble_eq_true rfl) dL_law_308 ⟨c671.1, c671.2⟩ rfl (fun H locs hR hS => ?_)
      obtain ⟨Im675, eIm675, hf⟩ := lt_some hf
      rw [← eIm675] at hR
      refine lv_icmp_eq (tgt := 1231) hx hb dL_law_311 (by decide) (fun c676 => ?_) (fun c676 => ?_)
      · have hf := ite_t c676 hf
        exact hj1231 j303_K Im675 j303_J j303_X j303_A j303_B j303_Q j303_n j303_u j303_v hf _ _ _ hR hS (lv_sub hl [0, 1, 2, 3, 4] rfl)
      · have hf := ite_f c676 hf
        refine lv_iconst (v := 0) hx hb dL_law_314 li_0 ?_
        obtain ⟨c677, hf⟩ := gdp_some hf
        refine W.widen c677.1 c677.2 ?_
        obtain rfl := some_i hf
        replace hk32 : _ = rl32 := hk32
        subst hk32
        exact hx32_0 ((0 : Int32), j303_K, Im675, j303_J, j303_X, j303_A, j303_B, j303_Q, j303_n) hfo32 _ _ _ _ dL_law_315 nz_0 hR hS
    have hj290 : ∀ (j290_I : gI) (j290_J : gJ) (j290_X : gX) (j290_A : gI) (j290_B : gJ) (j290_Q : gX), w_law_j290 G.2.2 (aK G) n n10 w32_4 w32_K w32_n w32_u w32_v j290_I j290_J j290_X j290_A j290_B j290_Q = some o32 → ∀ (H : Heap) (locs : List Loc) (ls : Array Slot), RS G w32_K j290_I j290_J j290_X j290_A j290_B j290_Q H → va_S (gA G) s.heap H locs → lv_has ls 7 [(0, .ref b), (1, .ref n), (2, .ref n10), (3, .ref n22), (4, .int w32_4)] → W p l e ({ frames := 8192, cells := 1200128, slots := 5501098, locals := 100000 } : Room) s m args below meth c H locs w32_u w32_v Z (F0 m 290 ls []) := by
      intro j290_I j290_J j290_X j290_A j290_B j290_Q hf H locs ls hR hS hl
      unfold w_law_j290 at hf
      refine lv_aload_n hx hb dL_law_290 rfl (lv_at hl 1 rfl) ?_
      obtain ⟨k678, hf⟩ := gdp_some hf
      obtain ⟨c680, hf⟩ := gdp_some hf
      obtain ⟨r679, hr679, hf⟩ := bind_s hf
      refine x_gor (vx_runVX (As := []) (rest := []) (b := n) ⟨hx, hb, hml, hown, hts⟩ (m1_yard_w l G w32_K j290_I j290_J j290_X j290_A j290_B j290_Q w32_n n r679 hr679) (vx_cwVW 0 hts (lw_VW q825 q826 q827 q103 q828) rfl rfl rfl (by decide +kernel) ⟨Nat.le_of_ble_eq_true rfl, Nat.le_of_ble_eq_true rfl⟩) (x_preV hG hR hW hS k678 rfl) rfl rfl hl.1 rfl (lv_room (Nat.le_of_ble_eq_true rfl)) dL_law_291 ⟨c680.1, c680.2⟩) hS (fun H locs hR hS => ?_)
      refine lv_aload_n hx hb dL_law_294 rfl (lv_at hl 2 rfl) ?_
      obtain ⟨c682, hf⟩ := gdp_some hf
      obtain ⟨g683, hf⟩ := gdp_some hf
      obtain ⟨r681, hr681, hf⟩ := bind_s hf
      refine g0_cV (rm := (6, 134)) (As := []) (rest := [.int r679.1]) ⟨hx, hb, hml, hown, hts⟩ hG hR hS (m14_yard l G r679.2.1 r679.2.2.1 r679.2.2.2.1 r679.2.2.2.2.1 r679.2.2.2.2.2.1 r679.2.2.2.2.2.2.1 r679.2.2.2.2.2.2.2.1 n10 g683 (r679.2.2.1 1100 n10) (r679.2.2.1 1102 n10) (r679.2.2.1 1103 n10) (r679.2.2.1 1104 n10) (r679.2.2.1 1105 n10) (r679.2.2.1 1106 n10) (r679.2.2.1 1107 n10) (r679.2.2.1 1108 n10) (r679.2.2.1 1109 n10) (r679.2.2.1 1110 n10) (r679.2.2.1 1111 n10) (r679.2.2.1 1113 n10) (r679.2.2.1 1122 n10) (r679.2.2.1 1123 n10) (r679.2.2.2.1 1112 n10) (r679.2.2.2.2.2.1 (n10 + 1)) (r679.2.2.2.2.2.1 (n10 + 2)) (r679.2.2.2.2.2.1 (n10 + 3)) (r679.2.2.2.2.2.2.1 (n10 + 6)) (r679.2.2.2.2.2.2.1 (n10 + 7)) rfl rfl rfl rfl rfl rfl rfl rfl rfl rfl rfl rfl rfl rfl rfl rfl rfl rfl rfl rfl r681 hr681) ⟨callB_of 0 hts (lw_meth q1910) rfl rfl rfl (hts _ q118) (hts _ q1907) (by decide +kernel) ⟨Nat.le_of_ble_eq_true rfl, Nat.le_of_ble_eq_true rfl⟩, hts _ q1908, hts _ q1909⟩ g683.1 rfl rfl hl.1 (Nat.le_of_ble_eq_true rfl) dL_law_295 ⟨c682.1, c682.2⟩ rfl (fun H locs hR hS => ?_)
      obtain ⟨Im684, eIm684, hf⟩ := lt_some hf
      obtain ⟨Jm685, eJm685, hf⟩ := lt_some hf
      obtain ⟨Am686, eAm686, hf⟩ := lt_some hf
      obtain ⟨Bm687, eBm687, hf⟩ := lt_some hf
      rw [← eIm684, ← eJm685, ← eAm686, ← eBm687] at hR
      refine lv_icmp_eq (tgt := 1231) hx hb dL_law_298 (by decide) (fun c688 => ?_) (fun c688 => ?_)
      · have hf := ite_t c688 hf
        exact hj1231 r679.2.1 Im684 Jm685 r679.2.2.2.2.1 Am686 Bm687 r679.2.2.2.2.2.2.2.1 r679.2.2.2.2.2.2.2.2 (w32_u + 18) (w32_v + 225) hf _ _ _ hR hS (lv_sub hl [0, 1, 2, 3, 4] rfl)
      · have hf := ite_f c688 hf
        refine lv_iconst (v := 0) hx hb dL_law_301 li_0 ?_
        obtain ⟨c689, hf⟩ := gdp_some hf
        refine W.widen c689.1 c689.2 ?_
        obtain rfl := some_i hf
        replace hk32 : _ = rl32 := hk32
        subst hk32
        exact hx32_0 ((0 : Int32), r679.2.1, Im684, Jm685, r679.2.2.2.2.1, Am686, Bm687, r679.2.2.2.2.2.2.2.1, r679.2.2.2.2.2.2.2.2) hfo32 _ _ _ _ dL_law_302 nz_0 hR hS
    have hj265 : ∀ (j265_I : gI) (j265_J : gJ) (j265_X : gX) (j265_A : gI) (j265_B : gJ) (j265_Q : gX), w_law_j265 n L xs n10 w32_4 w32_K w32_n w32_u w32_v j265_I j265_J j265_X j265_A j265_B j265_Q = some o32 → ∀ (H : Heap) (locs : List Loc) (ls : Array Slot), RS G w32_K j265_I j265_J j265_X j265_A j265_B j265_Q H → va_S (gA G) s.heap H locs → lv_has ls 7 [(0, .ref b), (1, .ref n), (2, .ref n10), (3, .ref n22), (4, .int w32_4)] → W p l e ({ frames := 8192, cells := 1200128, slots := 5501098, locals := 100000 } : Room) s m args below meth c H locs w32_u w32_v Z (F0 m 265 ls []) := by
      intro j265_I j265_J j265_X j265_A j265_B j265_Q hf H locs ls hR hS hl
      unfold w_law_j265 at hf
      refine lv_aload_n hx hb dL_law_265 rfl (lv_at hl 1 rfl) ?_
      refine lv_aload_n hx hb dL_law_266 rfl (lv_at hl 0 rfl) ?_
      refine lv_iload hx hb dL_law_267 (lv_at hl 4 rfl) ?_
      refine lv_iconst (v := 1) hx hb dL_law_269 li_1 ?_
      obtain ⟨v690, ev690, hf⟩ := lt_some hf
      refine n_iadd hx hb ev690 dL_law_270 ?_
      obtain ⟨c691, hf⟩ := gdp_some hf
      obtain ⟨v692, ev692, hf⟩ := lt_some hf
      refine va_sld hx hb hX hbl hbA hS c691 dL_law_271 ?_
      rw [← ev692]
      obtain ⟨c694, hf⟩ := gdp_some hf
      obtain ⟨g695, hf⟩ := gdp_some hf
      obtain ⟨r693, hr693, hf⟩ := bind_s hf
      refine g0_cV (rm := (0, 0)) (As := [.int v692]) (rest := []) ⟨hx, hb, hml, hown, hts⟩ hG hR hS (m1_end l G w32_K j265_I j265_J j265_X j265_A j265_B j265_Q n g695 v692 (j265_I 1 n) rfl r693 hr693) ⟨callB_of 1 hts (lw_meth q824) rfl rfl rfl (hts _ q103) (hts _ q821) (by decide +kernel) ⟨Nat.le_of_ble_eq_true rfl, Nat.le_of_ble_eq_true rfl⟩, hts _ q822, hts _ q823⟩ g695.1 rfl rfl hl.1 (Nat.le_of_ble_eq_true rfl) dL_law_272 ⟨c694.1, c694.2⟩ rfl (fun H locs hR hS => ?_)
      obtain ⟨Im696, eIm696, hf⟩ := lt_some hf
      rw [← eIm696] at hR
      refine lv_aload_n hx hb dL_law_275 rfl (lv_at hl 2 rfl) ?_
      refine lv_aload_n hx hb dL_law_276 rfl (lv_at hl 0 rfl) ?_
      refine lv_iload hx hb dL_law_277 (lv_at hl 4 rfl) ?_
      refine lv_iconst (v := 1) hx hb dL_law_279 li_1 ?_
      obtain ⟨v697, ev697, hf⟩ := lt_some hf
      refine n_iadd hx hb ev697 dL_law_280 ?_
      obtain ⟨c698, hf⟩ := gdp_some hf
      obtain ⟨v699, ev699, hf⟩ := lt_some hf
      refine va_sld hx hb hX hbl hbA hS c698 dL_law_281 ?_
      rw [← ev699]
      obtain ⟨g701, hf⟩ := gdp_some hf
      obtain ⟨r700, hr700, hf⟩ := bind_s hf
      refine g0_cV (rm := (0, 0)) (As := [.int v699]) (rest := [.int r693.1]) ⟨hx, hb, hml, hown, hts⟩ hG hR hS (m14_end l G w32_K Im696 j265_J j265_X j265_A j265_B j265_Q n10 g701 v699 (Im696 1100 n10) (Im696 1102 n10) rfl rfl r700 hr700) ⟨callB_of 1 hts (lw_meth q1906) rfl rfl rfl (hts _ q118) (hts _ q1903) (by decide +kernel) ⟨Nat.le_of_ble_eq_true rfl, Nat.le_of_ble_eq_true rfl⟩, hts _ q1904, hts _ q1905⟩ g701.1 rfl rfl hl.1 (Nat.le_of_ble_eq_true rfl) dL_law_282 ⟨c694.1, c694.2⟩ rfl (fun H locs hR hS => ?_)
      obtain ⟨Im702, eIm702, hf⟩ := lt_some hf
      rw [← eIm702] at hR
      refine lv_icmp_eq (tgt := 1231) hx hb dL_law_285 (by decide) (fun c703 => ?_) (fun c703 => ?_)
      · have hf := ite_t c703 hf
        exact hj1231 w32_K Im702 j265_J j265_X j265_A j265_B j265_Q w32_n w32_u w32_v hf _ _ _ hR hS (lv_sub hl [0, 1, 2, 3, 4] rfl)
      · have hf := ite_f c703 hf
        refine lv_iconst (v := 0) hx hb dL_law_288 li_0 ?_
        obtain ⟨c704, hf⟩ := gdp_some hf
        refine W.widen c704.1 c704.2 ?_
        obtain rfl := some_i hf
        replace hk32 : _ = rl32 := hk32
        subst hk32
        exact hx32_0 ((0 : Int32), w32_K, Im702, j265_J, j265_X, j265_A, j265_B, j265_Q, w32_n) hfo32 _ _ _ _ dL_law_289 nz_0 hR hS
    have hj192 : ∀ (_ : Unit), w_law_j192 n L xs n10 w32_4 w32_K w32_I w32_J w32_X w32_A w32_B w32_Q w32_n w32_u w32_v = some o32 → ∀ (H : Heap) (locs : List Loc) (ls : Array Slot), RS G w32_K w32_I w32_J w32_X w32_A w32_B w32_Q H → va_S (gA G) s.heap H locs → lv_has ls 7 [(0, .ref b), (1, .ref n), (2, .ref n10), (3, .ref n22), (4, .int w32_4)] → W p l e ({ frames := 8192, cells := 1200128, slots := 5501098, locals := 100000 } : Room) s m args below meth c H locs w32_u w32_v Z (F0 m 192 ls []) := by
      intro _ hf H locs ls hR hS hl
      unfold w_law_j192 at hf
      refine lv_aload_n hx hb dL_law_192 rfl (lv_at hl 1 rfl) ?_
      refine lv_aload_n hx hb dL_law_193 rfl (lv_at hl 0 rfl) ?_
      refine lv_iload hx hb dL_law_194 (lv_at hl 4 rfl) ?_
      refine lv_iconst (v := 1) hx hb dL_law_196 li_1 ?_
      obtain ⟨v705, ev705, hf⟩ := lt_some hf
      refine n_iadd hx hb ev705 dL_law_197 ?_
      obtain ⟨c706, hf⟩ := gdp_some hf
      obtain ⟨v707, ev707, hf⟩ := lt_some hf
      refine va_sld hx hb hX hbl hbA hS c706 dL_law_198 ?_
      rw [← ev707]
      refine lv_aload_n hx hb dL_law_199 rfl (lv_at hl 0 rfl) ?_
      refine lv_iload hx hb dL_law_200 (lv_at hl 4 rfl) ?_
      refine lv_iconst (v := 2) hx hb dL_law_202 li_2 ?_
      obtain ⟨v708, ev708, hf⟩ := lt_some hf
      refine n_iadd hx hb ev708 dL_law_203 ?_
      obtain ⟨c709, hf⟩ := gdp_some hf
      obtain ⟨v710, ev710, hf⟩ := lt_some hf
      refine va_sld hx hb hX hbl hbA hS c709 dL_law_204 ?_
      rw [← ev710]
      refine lv_aload_n hx hb dL_law_205 rfl (lv_at hl 0 rfl) ?_
      refine lv_iload hx hb dL_law_206 (lv_at hl 4 rfl) ?_
      refine lv_iconst (v := 3) hx hb dL_law_208 li_3 ?_
      obtain ⟨v711, ev711, hf⟩ := lt_some hf
      refine n_iadd hx hb ev711 dL_law_209 ?_
      obtain ⟨c712, hf⟩ := gdp_some hf
      obtain ⟨v713, ev713, hf⟩ := lt_some hf
      refine va_sld hx hb hX hbl hbA hS c712 dL_law_210 ?_
      rw [← ev713]
      refine lv_aload_n hx hb dL_law_211 rfl (lv_at hl 0 rfl) ?_
      refine lv_iload hx hb dL_law_212 (lv_at hl 4 rfl) ?_
      refine lv_iconst (v := 4) hx hb dL_law_214 li_4 ?_
      obtain ⟨v714, ev714, hf⟩ := lt_some hf
      refine n_iadd hx hb ev714 dL_law_215 ?_
      obtain ⟨c715, hf⟩ := gdp_some hf
      obtain ⟨v716, ev716, hf⟩ := lt_some hf
      refine va_sld hx hb hX hbl hbA hS c715 dL_law_216 ?_
      rw [← ev716]
      refine lv_aload_n hx hb dL_law_217 rfl (lv_at hl 0 rfl) ?_
      refine lv_iload hx hb dL_law_218 (lv_at hl 4 rfl) ?_
      refine lv_iconst (v := 5) hx hb dL_law_220 li_5 ?_
      obtain ⟨v717, ev717, hf⟩ := lt_some hf
      refine n_iadd hx hb ev717 dL_law_221 ?_
      obtain ⟨c718, hf⟩ := gdp_some hf
      obtain ⟨v719, ev719, hf⟩ := lt_some hf
      refine va_sld hx hb hX hbl hbA hS c718 dL_law_222 ?_
      rw [← ev719]
      obtain ⟨c721, hf⟩ := gdp_some hf
      obtain ⟨g722, hf⟩ := gdp_some hf
      obtain ⟨r720, hr720, hf⟩ := bind_s hf
      refine g0_cV (rm := (1, 22)) (As := [.int v707, .int v710, .int v713, .int v716, .int v719]) (rest := []) ⟨hx, hb, hml, hown, hts⟩ hG hR hS (m1_feed l G w32_K w32_I w32_J w32_X w32_A w32_B w32_Q n g722 v707 v710 v713 v716 v719 (w32_I 1 n) (w32_A (n + 1)) rfl rfl r720 hr720) ⟨callB_of 5 hts (lw_meth q816) rfl rfl rfl (hts _ q103) (hts _ q813) (by decide +kernel) ⟨Nat.le_of_ble_eq_true rfl, Nat.le_of_ble_eq_true rfl⟩, hts _ q814, hts _ q815⟩ g722.1 rfl rfl hl.1 (Nat.le_of_ble_eq_true rfl) dL_law_223 ⟨c721.1, c721.2⟩ rfl (fun H locs hR hS => ?_)
      obtain ⟨Im723, eIm723, hf⟩ := lt_some hf
      obtain ⟨Am724, eAm724, hf⟩ := lt_some hf
      rw [← eIm723, ← eAm724] at hR
      refine lv_aload_n hx hb dL_law_226 rfl (lv_at hl 2 rfl) ?_
      refine lv_aload_n hx hb dL_law_227 rfl (lv_at hl 0 rfl) ?_
      refine lv_iload hx hb dL_law_228 (lv_at hl 4 rfl) ?_
      refine lv_iconst (v := 1) hx hb dL_law_230 li_1 ?_
      obtain ⟨v725, ev725, hf⟩ := lt_some hf
      refine n_iadd hx hb ev725 dL_law_231 ?_
      obtain ⟨c726, hf⟩ := gdp_some hf
      obtain ⟨v727, ev727, hf⟩ := lt_some hf
      refine va_sld hx hb hX hbl hbA hS c726 dL_law_232 ?_
      rw [← ev727]
      refine lv_aload_n hx hb dL_law_233 rfl (lv_at hl 0 rfl) ?_
      refine lv_iload hx hb dL_law_234 (lv_at hl 4 rfl) ?_
      refine lv_iconst (v := 2) hx hb dL_law_236 li_2 ?_
      obtain ⟨v728, ev728, hf⟩ := lt_some hf
      refine n_iadd hx hb ev728 dL_law_237 ?_
      obtain ⟨c729, hf⟩ := gdp_some hf
      obtain ⟨v730, ev730, hf⟩ := lt_some hf
      refine va_sld hx hb hX hbl hbA hS c729 dL_law_238 ?_
      rw [← ev730]
      refine lv_aload_n hx hb dL_law_239 rfl (lv_at hl 0 rfl) ?_
      refine lv_iload hx hb dL_law_240 (lv_at hl 4 rfl) ?_
      refine lv_iconst (v := 3) hx hb dL_law_242 li_3 ?_
      obtain ⟨v731, ev731, hf⟩ := lt_some hf
      refine n_iadd hx hb ev731 dL_law_243 ?_
      obtain ⟨c732, hf⟩ := gdp_some hf
      obtain ⟨v733, ev733, hf⟩ := lt_some hf
      refine va_sld hx hb hX hbl hbA hS c732 dL_law_244 ?_
      rw [← ev733]
      refine lv_aload_n hx hb dL_law_245 rfl (lv_at hl 0 rfl) ?_
      refine lv_iload hx hb dL_law_246 (lv_at hl 4 rfl) ?_
      refine lv_iconst (v := 4) hx hb dL_law_248 li_4 ?_
      obtain ⟨v734, ev734, hf⟩ := lt_some hf
      refine n_iadd hx hb ev734 dL_law_249 ?_
      obtain ⟨c735, hf⟩ := gdp_some hf
      obtain ⟨v736, ev736, hf⟩ := lt_some hf
      refine va_sld hx hb hX hbl hbA hS c735 dL_law_250 ?_
      rw [← ev736]
      refine lv_aload_n hx hb dL_law_251 rfl (lv_at hl 0 rfl) ?_
      refine lv_iload hx hb dL_law_252 (lv_at hl 4 rfl) ?_
      refine lv_iconst (v := 5) hx hb dL_law_254 li_5 ?_
      obtain ⟨v737, ev737, hf⟩ := lt_some hf
      refine n_iadd hx hb ev737 dL_law_255 ?_
      obtain ⟨c738, hf⟩ := gdp_some hf
      obtain ⟨v739, ev739, hf⟩ := lt_some hf
      refine va_sld hx hb hX hbl hbA hS c738 dL_law_256 ?_
      rw [← ev739]
      obtain ⟨g741, hf⟩ := gdp_some hf
      obtain ⟨r740, hr740, hf⟩ := bind_s hf
      refine g0_cV (rm := (1, 22)) (As := [.int v727, .int v730, .int v733, .int v736, .int v739]) (rest := [.int r720.1]) ⟨hx, hb, hml, hown, hts⟩ hG hR hS (m14_feed l G w32_K Im723 w32_J w32_X Am724 w32_B w32_Q n10 g741 v727 v730 v733 v736 v739 (Im723 1100 n10) (Im723 1102 n10) (Am724 (n10 + 1)) rfl rfl rfl r740 hr740) ⟨callB_of 5 hts (lw_meth q1898) rfl rfl rfl (hts _ q118) (hts _ q1895) (by decide +kernel) ⟨Nat.le_of_ble_eq_true rfl, Nat.le_of_ble_eq_true rfl⟩, hts _ q1896, hts _ q1897⟩ g741.1 rfl rfl hl.1 (Nat.le_of_ble_eq_true rfl) dL_law_257 ⟨c721.1, c721.2⟩ rfl (fun H locs hR hS => ?_)
      obtain ⟨Im742, eIm742, hf⟩ := lt_some hf
      obtain ⟨Am743, eAm743, hf⟩ := lt_some hf
      rw [← eIm742, ← eAm743] at hR
      refine lv_icmp_eq (tgt := 1231) hx hb dL_law_260 (by decide) (fun c744 => ?_) (fun c744 => ?_)
      · have hf := ite_t c744 hf
        exact hj1231 w32_K Im742 w32_J w32_X Am743 w32_B w32_Q w32_n w32_u w32_v hf _ _ _ hR hS (lv_sub hl [0, 1, 2, 3, 4] rfl)
      · have hf := ite_f c744 hf
        refine lv_iconst (v := 0) hx hb dL_law_263 li_0 ?_
        obtain ⟨c745, hf⟩ := gdp_some hf
        refine W.widen c745.1 c745.2 ?_
        obtain rfl := some_i hf
        replace hk32 : _ = rl32 := hk32
        subst hk32
        exact hx32_0 ((0 : Int32), w32_K, Im742, w32_J, w32_X, Am743, w32_B, w32_Q, w32_n) hfo32 _ _ _ _ dL_law_264 nz_0 hR hS
    by_cases c746 : v38 = 0
    · have hf := ite_t c746 hf
      refine lv_tableIn (tgt := 192) hx hb dL_law_40 (by rw [c746]; decide) (by rw [c746]; decide) (off := 152) (by rw [c746]; rfl) (by decide) ?_
      exact hj192 () hf _ _ _ hR hS (lv_sub hl [0, 1, 2, 3, 4] rfl)
    have hf := ite_f c746 hf
    by_cases c747 : v38 = 1
    · have hf := ite_t c747 hf
      refine lv_tableIn (tgt := 265) hx hb dL_law_40 (by rw [c747]; decide) (by rw [c747]; decide) (off := 225) (by rw [c747]; rfl) (by decide) ?_
      exact hj265 w32_I w32_J w32_X w32_A w32_B w32_Q hf _ _ _ hR hS (lv_sub hl [0, 1, 2, 3, 4] rfl)
    have hf := ite_f c747 hf
    by_cases c748 : v38 = 2
    · have hf := ite_t c748 hf
      refine lv_tableIn (tgt := 290) hx hb dL_law_40 (by rw [c748]; decide) (by rw [c748]; decide) (off := 250) (by rw [c748]; rfl) (by decide) ?_
      exact hj290 w32_I w32_J w32_X w32_A w32_B w32_Q hf _ _ _ hR hS (lv_sub hl [0, 1, 2, 3, 4] rfl)
    have hf := ite_f c748 hf
    by_cases c749 : v38 = 3
    · have hf := ite_t c749 hf
      refine lv_tableIn (tgt := 303) hx hb dL_law_40 (by rw [c749]; decide) (by rw [c749]; decide) (off := 263) (by rw [c749]; rfl) (by decide) ?_
      exact hj303 w32_K w32_I w32_J w32_X w32_A w32_B w32_Q w32_n w32_u w32_v hf _ _ _ hR hS (lv_sub hl [0, 1, 2, 3, 4] rfl)
    have hf := ite_f c749 hf
    by_cases c750 : v38 = 4
    · have hf := ite_t c750 hf
      refine lv_tableIn (tgt := 316) hx hb dL_law_40 (by rw [c750]; decide) (by rw [c750]; decide) (off := 276) (by rw [c750]; rfl) (by decide) ?_
      exact hj316 w32_K w32_I w32_J w32_X w32_A w32_B w32_Q w32_n w32_u w32_v hf _ _ _ hR hS (lv_sub hl [0, 1, 2, 3, 4] rfl)
    have hf := ite_f c750 hf
    by_cases c751 : v38 = 5
    · have hf := ite_t c751 hf
      refine lv_tableIn (tgt := 384) hx hb dL_law_40 (by rw [c751]; decide) (by rw [c751]; decide) (off := 344) (by rw [c751]; rfl) (by decide) ?_
      exact hj384 w32_K w32_I w32_J w32_X w32_A w32_B w32_Q w32_n w32_u w32_v hf _ _ _ hR hS (lv_sub hl [0, 1, 2, 3, 4] rfl)
    have hf := ite_f c751 hf
    by_cases c752 : v38 = 6
    · have hf := ite_t c752 hf
      refine lv_tableIn (tgt := 464) hx hb dL_law_40 (by rw [c752]; decide) (by rw [c752]; decide) (off := 424) (by rw [c752]; rfl) (by decide) ?_
      exact hj464 w32_K w32_I w32_J w32_X w32_A w32_B w32_Q w32_n w32_u w32_v hf _ _ _ hR hS (lv_sub hl [0, 1, 2, 3, 4] rfl)
    have hf := ite_f c752 hf
    by_cases c753 : v38 = 7
    · have hf := ite_t c753 hf
      refine lv_tableIn (tgt := 489) hx hb dL_law_40 (by rw [c753]; decide) (by rw [c753]; decide) (off := 449) (by rw [c753]; rfl) (by decide) ?_
      exact hj489 w32_K w32_I w32_J w32_X w32_A w32_B w32_Q w32_n w32_u w32_v hf _ _ _ hR hS (lv_sub hl [0, 1, 2, 3, 4] rfl)
    have hf := ite_f c753 hf
    by_cases c754 : v38 = 8
    · have hf := ite_t c754 hf
      refine lv_tableIn (tgt := 514) hx hb dL_law_40 (by rw [c754]; decide) (by rw [c754]; decide) (off := 474) (by rw [c754]; rfl) (by decide) ?_
      exact hj514 w32_K w32_I w32_J w32_X w32_A w32_B w32_Q w32_n w32_u w32_v hf _ _ _ hR hS (lv_sub hl [0, 1, 2, 3, 4] rfl)
    have hf := ite_f c754 hf
    by_cases c755 : v38 = 9
    · have hf := ite_t c755 hf
      refine lv_tableIn (tgt := 539) hx hb dL_law_40 (by rw [c755]; decide) (by rw [c755]; decide) (off := 499) (by rw [c755]; rfl) (by decide) ?_
      exact hj539 w32_K w32_I w32_J w32_X w32_A w32_B w32_Q w32_n w32_u w32_v hf _ _ _ hR hS (lv_sub hl [0, 1, 2, 3, 4] rfl)
    have hf := ite_f c755 hf
    by_cases c756 : v38 = 10
    · have hf := ite_t c756 hf
      refine lv_tableIn (tgt := 552) hx hb dL_law_40 (by rw [c756]; decide) (by rw [c756]; decide) (off := 512) (by rw [c756]; rfl) (by decide) ?_
      exact hj552 w32_K w32_I w32_J w32_X w32_A w32_B w32_Q w32_n w32_u w32_v hf _ _ _ hR hS (lv_sub hl [0, 1, 2, 3, 4] rfl)
    have hf := ite_f c756 hf
    by_cases c757 : v38 = 11
    · have hf := ite_t c757 hf
      refine lv_tableIn (tgt := 565) hx hb dL_law_40 (by rw [c757]; decide) (by rw [c757]; decide) (off := 525) (by rw [c757]; rfl) (by decide) ?_
      exact hj565 w32_K w32_I w32_J w32_X w32_A w32_B w32_Q w32_n w32_u w32_v hf _ _ _ hR hS (lv_sub hl [0, 1, 2, 3, 4] rfl)
    have hf := ite_f c757 hf
    by_cases c758 : v38 = 12
    · have hf := ite_t c758 hf
      refine lv_tableIn (tgt := 590) hx hb dL_law_40 (by rw [c758]; decide) (by rw [c758]; decide) (off := 550) (by rw [c758]; rfl) (by decide) ?_
      exact hj590 w32_K w32_I w32_J w32_X w32_A w32_B w32_Q w32_n w32_u w32_v hf _ _ _ hR hS (lv_sub hl [0, 1, 2, 3, 4] rfl)
    have hf := ite_f c758 hf
    by_cases c759 : v38 = 13
    · have hf := ite_t c759 hf
      refine lv_tableIn (tgt := 615) hx hb dL_law_40 (by rw [c759]; decide) (by rw [c759]; decide) (off := 575) (by rw [c759]; rfl) (by decide) ?_
      exact hj615 w32_K w32_I w32_J w32_X w32_A w32_B w32_Q w32_n w32_u w32_v hf _ _ _ hR hS (lv_sub hl [0, 1, 2, 3, 4] rfl)
    have hf := ite_f c759 hf
    by_cases c760 : v38 = 14
    · have hf := ite_t c760 hf
      refine lv_tableIn (tgt := 640) hx hb dL_law_40 (by rw [c760]; decide) (by rw [c760]; decide) (off := 600) (by rw [c760]; rfl) (by decide) ?_
      exact hj640 w32_K w32_I w32_J w32_X w32_A w32_B w32_Q w32_n w32_u w32_v hf _ _ _ hR hS (lv_sub hl [0, 1, 2, 3, 4] rfl)
    have hf := ite_f c760 hf
    by_cases c761 : v38 = 15
    · have hf := ite_t c761 hf
      refine lv_tableIn (tgt := 708) hx hb dL_law_40 (by rw [c761]; decide) (by rw [c761]; decide) (off := 668) (by rw [c761]; rfl) (by decide) ?_
      exact hj708 w32_K w32_I w32_J w32_X w32_A w32_B w32_Q w32_n w32_u w32_v hf _ _ _ hR hS (lv_sub hl [0, 1, 2, 3, 4] rfl)
    have hf := ite_f c761 hf
    by_cases c762 : v38 = 16
    · have hf := ite_t c762 hf
      refine lv_tableIn (tgt := 733) hx hb dL_law_40 (by rw [c762]; decide) (by rw [c762]; decide) (off := 693) (by rw [c762]; rfl) (by decide) ?_
      exact hj733 w32_K w32_I w32_J w32_X w32_A w32_B w32_Q w32_n w32_u w32_v hf _ _ _ hR hS (lv_sub hl [0, 1, 2, 3, 4] rfl)
    have hf := ite_f c762 hf
    by_cases c763 : v38 = 17
    · have hf := ite_t c763 hf
      refine lv_tableIn (tgt := 758) hx hb dL_law_40 (by rw [c763]; decide) (by rw [c763]; decide) (off := 718) (by rw [c763]; rfl) (by decide) ?_
      exact hj758 w32_K w32_I w32_J w32_X w32_A w32_B w32_Q w32_n w32_u w32_v hf _ _ _ hR hS (lv_sub hl [0, 1, 2, 3, 4] rfl)
    have hf := ite_f c763 hf
    by_cases c764 : v38 = 18
    · have hf := ite_t c764 hf
      refine lv_tableIn (tgt := 771) hx hb dL_law_40 (by rw [c764]; decide) (by rw [c764]; decide) (off := 731) (by rw [c764]; rfl) (by decide) ?_
      exact hj771 w32_K w32_I w32_J w32_X w32_A w32_B w32_Q w32_n w32_u w32_v hf _ _ _ hR hS (lv_sub hl [0, 1, 2, 3, 4] rfl)
    have hf := ite_f c764 hf
    by_cases c765 : v38 = 19
    · have hf := ite_t c765 hf
      refine lv_tableIn (tgt := 796) hx hb dL_law_40 (by rw [c765]; decide) (by rw [c765]; decide) (off := 756) (by rw [c765]; rfl) (by decide) ?_
      exact hj796 w32_K w32_I w32_J w32_X w32_A w32_B w32_Q w32_n w32_u w32_v hf _ _ _ hR hS (lv_sub hl [0, 1, 2, 3, 4] rfl)
    have hf := ite_f c765 hf
    by_cases c766 : v38 = 20
    · have hf := ite_t c766 hf
      refine lv_tableIn (tgt := 821) hx hb dL_law_40 (by rw [c766]; decide) (by rw [c766]; decide) (off := 781) (by rw [c766]; rfl) (by decide) ?_
      exact hj821 w32_K w32_I w32_J w32_X w32_A w32_B w32_Q w32_n w32_u w32_v hf _ _ _ hR hS (lv_sub hl [0, 1, 2, 3, 4] rfl)
    have hf := ite_f c766 hf
    by_cases c767 : v38 = 21
    · have hf := ite_t c767 hf
      refine lv_tableIn (tgt := 882) hx hb dL_law_40 (by rw [c767]; decide) (by rw [c767]; decide) (off := 842) (by rw [c767]; rfl) (by decide) ?_
      exact hj882 w32_K w32_I w32_J w32_X w32_A w32_B w32_Q w32_n w32_u w32_v hf _ _ _ hR hS (lv_sub hl [0, 1, 2, 3, 4] rfl)
    have hf := ite_f c767 hf
    by_cases c768 : v38 = 22
    · have hf := ite_t c768 hf
      refine lv_tableIn (tgt := 931) hx hb dL_law_40 (by rw [c768]; decide) (by rw [c768]; decide) (off := 891) (by rw [c768]; rfl) (by decide) ?_
      exact hj931 w32_K w32_I w32_J w32_X w32_A w32_B w32_Q w32_n w32_u w32_v hf _ _ _ hR hS (lv_sub hl [0, 1, 2, 3, 4] rfl)
    have hf := ite_f c768 hf
    by_cases c769 : v38 = 23
    · have hf := ite_t c769 hf
      refine lv_tableIn (tgt := 944) hx hb dL_law_40 (by rw [c769]; decide) (by rw [c769]; decide) (off := 904) (by rw [c769]; rfl) (by decide) ?_
      exact hj944 w32_K w32_I w32_J w32_X w32_A w32_B w32_Q w32_n w32_u w32_v hf _ _ _ hR hS (lv_sub hl [0, 1, 2, 3, 4] rfl)
    have hf := ite_f c769 hf
    by_cases c770 : v38 = 24
    · have hf := ite_t c770 hf
      refine lv_tableIn (tgt := 981) hx hb dL_law_40 (by rw [c770]; decide) (by rw [c770]; decide) (off := 941) (by rw [c770]; rfl) (by decide) ?_
      exact hj981 w32_K w32_I w32_J w32_X w32_A w32_B w32_Q w32_n w32_u w32_v hf _ _ _ hR hS (lv_sub hl [0, 1, 2, 3, 4] rfl)
    have hf := ite_f c770 hf
    by_cases c771 : v38 = 25
    · have hf := ite_t c771 hf
      refine lv_tableIn (tgt := 1006) hx hb dL_law_40 (by rw [c771]; decide) (by rw [c771]; decide) (off := 966) (by rw [c771]; rfl) (by decide) ?_
      exact hj1006 w32_K w32_I w32_J w32_X w32_A w32_B w32_Q w32_n w32_u w32_v hf _ _ _ hR hS (lv_sub hl [0, 1, 2, 3, 4] rfl)
    have hf := ite_f c771 hf
    by_cases c772 : v38 = 26
    · have hf := ite_t c772 hf
      refine lv_tableIn (tgt := 1031) hx hb dL_law_40 (by rw [c772]; decide) (by rw [c772]; decide) (off := 991) (by rw [c772]; rfl) (by decide) ?_
      exact hj1031 w32_K w32_I w32_J w32_X w32_A w32_B w32_Q w32_n w32_u w32_v hf _ _ _ hR hS (lv_sub hl [0, 1, 2, 3, 4] rfl)
    have hf := ite_f c772 hf
    by_cases c773 : v38 = 27
    · have hf := ite_t c773 hf
      refine lv_tableIn (tgt := 1068) hx hb dL_law_40 (by rw [c773]; decide) (by rw [c773]; decide) (off := 1028) (by rw [c773]; rfl) (by decide) ?_
      exact hj1068 w32_K w32_I w32_J w32_X w32_A w32_B w32_Q w32_n w32_u w32_v hf _ _ _ hR hS (lv_sub hl [0, 1, 2, 3, 4] rfl)
    have hf := ite_f c773 hf
    by_cases c774 : v38 = 28
    · have hf := ite_t c774 hf
      refine lv_tableIn (tgt := 1081) hx hb dL_law_40 (by rw [c774]; decide) (by rw [c774]; decide) (off := 1041) (by rw [c774]; rfl) (by decide) ?_
      exact hj1081 w32_K w32_I w32_J w32_X w32_A w32_B w32_Q w32_n w32_u w32_v hf _ _ _ hR hS (lv_sub hl [0, 1, 2, 3, 4] rfl)
    have hf := ite_f c774 hf
    by_cases c775 : v38 = 29
    · have hf := ite_t c775 hf
      refine lv_tableIn (tgt := 1118) hx hb dL_law_40 (by rw [c775]; decide) (by rw [c775]; decide) (off := 1078) (by rw [c775]; rfl) (by decide) ?_
      exact hj1118 w32_K w32_I w32_J w32_X w32_A w32_B w32_Q w32_n w32_u w32_v hf _ _ _ hR hS (lv_sub hl [0, 1, 2, 3, 4] rfl)
    have hf := ite_f c775 hf
    by_cases c776 : v38 = 30
    · have hf := ite_t c776 hf
      refine lv_tableIn (tgt := 1131) hx hb dL_law_40 (by rw [c776]; decide) (by rw [c776]; decide) (off := 1091) (by rw [c776]; rfl) (by decide) ?_
      exact hj1131 w32_K w32_I w32_J w32_X w32_A w32_B w32_Q w32_n w32_u w32_v hf _ _ _ hR hS (lv_sub hl [0, 1, 2, 3, 4] rfl)
    have hf := ite_f c776 hf
    by_cases c777 : v38 = 31
    · have hf := ite_t c777 hf
      refine lv_tableIn (tgt := 1156) hx hb dL_law_40 (by rw [c777]; decide) (by rw [c777]; decide) (off := 1116) (by rw [c777]; rfl) (by decide) ?_
      exact hj1156 w32_K w32_I w32_J w32_X w32_A w32_B w32_Q w32_n w32_u w32_v hf _ _ _ hR hS (lv_sub hl [0, 1, 2, 3, 4] rfl)
    have hf := ite_f c777 hf
    by_cases c778 : v38 = 32
    · have hf := ite_t c778 hf
      refine lv_tableIn (tgt := 1181) hx hb dL_law_40 (by rw [c778]; decide) (by rw [c778]; decide) (off := 1141) (by rw [c778]; rfl) (by decide) ?_
      exact hj1181 w32_K w32_I w32_J w32_X w32_A w32_B w32_Q w32_n w32_u w32_v hf _ _ _ hR hS (lv_sub hl [0, 1, 2, 3, 4] rfl)
    have hf := ite_f c778 hf
    by_cases c779 : v38 = 33
    · have hf := ite_t c779 hf
      refine lv_tableIn (tgt := 1206) hx hb dL_law_40 (by rw [c779]; decide) (by rw [c779]; decide) (off := 1166) (by rw [c779]; rfl) (by decide) ?_
      exact hj1206 w32_K w32_I w32_J w32_X w32_A w32_B w32_Q w32_n w32_u w32_v hf _ _ _ hR hS (lv_sub hl [0, 1, 2, 3, 4] rfl)
    have hf := ite_f c779 hf
    have hto := tb_out_0_33 v38 c746 c747 c748 c749 c750 c751 c752 c753 c754 c755 c756 c757 c758 c759 c760 c761 c762 c763 c764 c765 c766 c767 c768 c769 c770 c771 c772 c773 c774 c775 c776 c777 c778 c779
    refine lv_tableOut (tgt := 1231) hx hb dL_law_40 hto (by decide) ?_
    exact hj1231 w32_K w32_I w32_J w32_X w32_A w32_B w32_Q w32_n w32_u w32_v hf _ _ _ hR hS (lv_sub hl [0, 1, 2, 3, 4] rfl)
