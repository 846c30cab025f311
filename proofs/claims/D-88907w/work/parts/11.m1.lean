/-! the reference's methods, first part: statics, faults, bounds -/
abbrev inB (x : Int32) (a b : Int) : Prop := a ≤ x.toInt ∧ x.toInt ≤ b
abbrev inN (x n : Int32) : Prop := 0 ≤ x.toInt ∧ x.toInt < n.toInt
def cnt (st : mS) (k : Nat) : Nat := (st 0 k).toNatClampNeg
theorem hdX1_about : yX1_about.cls = RX1 ∧ yX1_about.cls ≠ "java/lang/invoke/MethodHandle" ∧ yX1_about.cls ≠ "java/lang/invoke/VarHandle" ∧ (parseMethodDescriptor yX1_about.desc).map (fun d => d.parameters.length) = some 2 := by decide +kernel
theorem hdX1_allow : yX1_allow.cls = RX1 ∧ yX1_allow.cls ≠ "java/lang/invoke/MethodHandle" ∧ yX1_allow.cls ≠ "java/lang/invoke/VarHandle" ∧ (parseMethodDescriptor yX1_allow.desc).map (fun d => d.parameters.length) = some 3 := by decide +kernel
theorem hdX1_as : yX1_as.cls = RX1 ∧ yX1_as.cls ≠ "java/lang/invoke/MethodHandle" ∧ yX1_as.cls ≠ "java/lang/invoke/VarHandle" ∧ (parseMethodDescriptor yX1_as.desc).map (fun d => d.parameters.length) = some 2 := by decide +kernel
theorem hdX1_book : yX1_book.cls = RX1 ∧ yX1_book.cls ≠ "java/lang/invoke/MethodHandle" ∧ yX1_book.cls ≠ "java/lang/invoke/VarHandle" ∧ (parseMethodDescriptor yX1_book.desc).map (fun d => d.parameters.length) = some 4 := by decide +kernel
theorem hdX1_car : yX1_car.cls = RX1 ∧ yX1_car.cls ≠ "java/lang/invoke/MethodHandle" ∧ yX1_car.cls ≠ "java/lang/invoke/VarHandle" ∧ (parseMethodDescriptor yX1_car.desc).map (fun d => d.parameters.length) = some 2 := by decide +kernel
theorem hdX1_carried : yX1_carried.cls = RX1 ∧ yX1_carried.cls ≠ "java/lang/invoke/MethodHandle" ∧ yX1_carried.cls ≠ "java/lang/invoke/VarHandle" ∧ (parseMethodDescriptor yX1_carried.desc).map (fun d => d.parameters.length) = some 2 := by decide +kernel
theorem hdX1_cell : yX1_cell.cls = RX1 ∧ yX1_cell.cls ≠ "java/lang/invoke/MethodHandle" ∧ yX1_cell.cls ≠ "java/lang/invoke/VarHandle" ∧ (parseMethodDescriptor yX1_cell.desc).map (fun d => d.parameters.length) = some 3 := by decide +kernel
theorem hdX1_clock : yX1_clock.cls = RX1 ∧ yX1_clock.cls ≠ "java/lang/invoke/MethodHandle" ∧ yX1_clock.cls ≠ "java/lang/invoke/VarHandle" ∧ (parseMethodDescriptor yX1_clock.desc).map (fun d => d.parameters.length) = some 3 := by decide +kernel
theorem hdX1_control : yX1_control.cls = RX1 ∧ yX1_control.cls ≠ "java/lang/invoke/MethodHandle" ∧ yX1_control.cls ≠ "java/lang/invoke/VarHandle" ∧ (parseMethodDescriptor yX1_control.desc).map (fun d => d.parameters.length) = some 1 := by decide +kernel
theorem hdX1_copy : yX1_copy.cls = RX1 ∧ yX1_copy.cls ≠ "java/lang/invoke/MethodHandle" ∧ yX1_copy.cls ≠ "java/lang/invoke/VarHandle" ∧ (parseMethodDescriptor yX1_copy.desc).map (fun d => d.parameters.length) = some 5 := by decide +kernel
theorem hdX1_due : yX1_due.cls = RX1 ∧ yX1_due.cls ≠ "java/lang/invoke/MethodHandle" ∧ yX1_due.cls ≠ "java/lang/invoke/VarHandle" ∧ (parseMethodDescriptor yX1_due.desc).map (fun d => d.parameters.length) = some 1 := by decide +kernel
theorem hdX1_dueAt : yX1_dueAt.cls = RX1 ∧ yX1_dueAt.cls ≠ "java/lang/invoke/MethodHandle" ∧ yX1_dueAt.cls ≠ "java/lang/invoke/VarHandle" ∧ (parseMethodDescriptor yX1_dueAt.desc).map (fun d => d.parameters.length) = some 1 := by decide +kernel
theorem hdX1_error : yX1_error.cls = RX1 ∧ yX1_error.cls ≠ "java/lang/invoke/MethodHandle" ∧ yX1_error.cls ≠ "java/lang/invoke/VarHandle" ∧ (parseMethodDescriptor yX1_error.desc).map (fun d => d.parameters.length) = some 2 := by decide +kernel
theorem hdX1_errorAt : yX1_errorAt.cls = RX1 ∧ yX1_errorAt.cls ≠ "java/lang/invoke/MethodHandle" ∧ yX1_errorAt.cls ≠ "java/lang/invoke/VarHandle" ∧ (parseMethodDescriptor yX1_errorAt.desc).map (fun d => d.parameters.length) = some 2 := by decide +kernel
theorem hdX1_failed : yX1_failed.cls = RX1 ∧ yX1_failed.cls ≠ "java/lang/invoke/MethodHandle" ∧ yX1_failed.cls ≠ "java/lang/invoke/VarHandle" ∧ (parseMethodDescriptor yX1_failed.desc).map (fun d => d.parameters.length) = some 1 := by decide +kernel
theorem hdX1_failedLong : yX1_failedLong.cls = RX1 ∧ yX1_failedLong.cls ≠ "java/lang/invoke/MethodHandle" ∧ yX1_failedLong.cls ≠ "java/lang/invoke/VarHandle" ∧ (parseMethodDescriptor yX1_failedLong.desc).map (fun d => d.parameters.length) = some 1 := by decide +kernel
theorem hdX1_fault : yX1_fault.cls = RX1 ∧ yX1_fault.cls ≠ "java/lang/invoke/MethodHandle" ∧ yX1_fault.cls ≠ "java/lang/invoke/VarHandle" ∧ (parseMethodDescriptor yX1_fault.desc).map (fun d => d.parameters.length) = some 0 := by decide +kernel
theorem hdX1_faultOf : yX1_faultOf.cls = RX1 ∧ yX1_faultOf.cls ≠ "java/lang/invoke/MethodHandle" ∧ yX1_faultOf.cls ≠ "java/lang/invoke/VarHandle" ∧ (parseMethodDescriptor yX1_faultOf.desc).map (fun d => d.parameters.length) = some 4 := by decide +kernel
theorem hdX1_greet : yX1_greet.cls = RX1 ∧ yX1_greet.cls ≠ "java/lang/invoke/MethodHandle" ∧ yX1_greet.cls ≠ "java/lang/invoke/VarHandle" ∧ (parseMethodDescriptor yX1_greet.desc).map (fun d => d.parameters.length) = some 1 := by decide +kernel
theorem hdX1_hasDue : yX1_hasDue.cls = RX1 ∧ yX1_hasDue.cls ≠ "java/lang/invoke/MethodHandle" ∧ yX1_hasDue.cls ≠ "java/lang/invoke/VarHandle" ∧ (parseMethodDescriptor yX1_hasDue.desc).map (fun d => d.parameters.length) = some 0 := by decide +kernel
theorem hdX1_in : yX1_in.cls = RX1 ∧ yX1_in.cls ≠ "java/lang/invoke/MethodHandle" ∧ yX1_in.cls ≠ "java/lang/invoke/VarHandle" ∧ (parseMethodDescriptor yX1_in.desc).map (fun d => d.parameters.length) = some 3 := by decide +kernel
theorem hdX1_init : yX1_init.cls = RX1 ∧ yX1_init.cls ≠ "java/lang/invoke/MethodHandle" ∧ yX1_init.cls ≠ "java/lang/invoke/VarHandle" ∧ (parseMethodDescriptor yX1_init.desc).map (fun d => d.parameters.length) = some 0 := by decide +kernel
theorem hdX1_isBetter : yX1_isBetter.cls = RX1 ∧ yX1_isBetter.cls ≠ "java/lang/invoke/MethodHandle" ∧ yX1_isBetter.cls ≠ "java/lang/invoke/VarHandle" ∧ (parseMethodDescriptor yX1_isBetter.desc).map (fun d => d.parameters.length) = some 2 := by decide +kernel
theorem hdX1_isBeyond : yX1_isBeyond.cls = RX1 ∧ yX1_isBeyond.cls ≠ "java/lang/invoke/MethodHandle" ∧ yX1_isBeyond.cls ≠ "java/lang/invoke/VarHandle" ∧ (parseMethodDescriptor yX1_isBeyond.desc).map (fun d => d.parameters.length) = some 3 := by decide +kernel
theorem hdX1_isBook : yX1_isBook.cls = RX1 ∧ yX1_isBook.cls ≠ "java/lang/invoke/MethodHandle" ∧ yX1_isBook.cls ≠ "java/lang/invoke/VarHandle" ∧ (parseMethodDescriptor yX1_isBook.desc).map (fun d => d.parameters.length) = some 3 := by decide +kernel
theorem hdX1_isIn : yX1_isIn.cls = RX1 ∧ yX1_isIn.cls ≠ "java/lang/invoke/MethodHandle" ∧ yX1_isIn.cls ≠ "java/lang/invoke/VarHandle" ∧ (parseMethodDescriptor yX1_isIn.desc).map (fun d => d.parameters.length) = some 1 := by decide +kernel
theorem hdX1_isOutOfOrder : yX1_isOutOfOrder.cls = RX1 ∧ yX1_isOutOfOrder.cls ≠ "java/lang/invoke/MethodHandle" ∧ yX1_isOutOfOrder.cls ≠ "java/lang/invoke/VarHandle" ∧ (parseMethodDescriptor yX1_isOutOfOrder.desc).map (fun d => d.parameters.length) = some 2 := by decide +kernel
theorem hdX1_isSpot : yX1_isSpot.cls = RX1 ∧ yX1_isSpot.cls ≠ "java/lang/invoke/MethodHandle" ∧ yX1_isSpot.cls ≠ "java/lang/invoke/VarHandle" ∧ (parseMethodDescriptor yX1_isSpot.desc).map (fun d => d.parameters.length) = some 1 := by decide +kernel
theorem hdX1_isTime : yX1_isTime.cls = RX1 ∧ yX1_isTime.cls ≠ "java/lang/invoke/MethodHandle" ∧ yX1_isTime.cls ≠ "java/lang/invoke/VarHandle" ∧ (parseMethodDescriptor yX1_isTime.desc).map (fun d => d.parameters.length) = some 1 := by decide +kernel
theorem hdX1_judge : yX1_judge.cls = RX1 ∧ yX1_judge.cls ≠ "java/lang/invoke/MethodHandle" ∧ yX1_judge.cls ≠ "java/lang/invoke/VarHandle" ∧ (parseMethodDescriptor yX1_judge.desc).map (fun d => d.parameters.length) = some 0 := by decide +kernel
theorem hdX1_laid : yX1_laid.cls = RX1 ∧ yX1_laid.cls ≠ "java/lang/invoke/MethodHandle" ∧ yX1_laid.cls ≠ "java/lang/invoke/VarHandle" ∧ (parseMethodDescriptor yX1_laid.desc).map (fun d => d.parameters.length) = some 1 := by decide +kernel
theorem hdX1_lay : yX1_lay.cls = RX1 ∧ yX1_lay.cls ≠ "java/lang/invoke/MethodHandle" ∧ yX1_lay.cls ≠ "java/lang/invoke/VarHandle" ∧ (parseMethodDescriptor yX1_lay.desc).map (fun d => d.parameters.length) = some 0 := by decide +kernel
theorem hdX1_leads : yX1_leads.cls = RX1 ∧ yX1_leads.cls ≠ "java/lang/invoke/MethodHandle" ∧ yX1_leads.cls ≠ "java/lang/invoke/VarHandle" ∧ (parseMethodDescriptor yX1_leads.desc).map (fun d => d.parameters.length) = some 2 := by decide +kernel
theorem hdX1_lose : yX1_lose.cls = RX1 ∧ yX1_lose.cls ≠ "java/lang/invoke/MethodHandle" ∧ yX1_lose.cls ≠ "java/lang/invoke/VarHandle" ∧ (parseMethodDescriptor yX1_lose.desc).map (fun d => d.parameters.length) = some 1 := by decide +kernel
theorem hdX1_lost : yX1_lost.cls = RX1 ∧ yX1_lost.cls ≠ "java/lang/invoke/MethodHandle" ∧ yX1_lost.cls ≠ "java/lang/invoke/VarHandle" ∧ (parseMethodDescriptor yX1_lost.desc).map (fun d => d.parameters.length) = some 0 := by decide +kernel
theorem hdX1_noCar : yX1_noCar.cls = RX1 ∧ yX1_noCar.cls ≠ "java/lang/invoke/MethodHandle" ∧ yX1_noCar.cls ≠ "java/lang/invoke/VarHandle" ∧ (parseMethodDescriptor yX1_noCar.desc).map (fun d => d.parameters.length) = some 1 := by decide +kernel
theorem hdX1_noCell : yX1_noCell.cls = RX1 ∧ yX1_noCell.cls ≠ "java/lang/invoke/MethodHandle" ∧ yX1_noCell.cls ≠ "java/lang/invoke/VarHandle" ∧ (parseMethodDescriptor yX1_noCell.desc).map (fun d => d.parameters.length) = some 2 := by decide +kernel
theorem hdX1_noControl : yX1_noControl.cls = RX1 ∧ yX1_noControl.cls ≠ "java/lang/invoke/MethodHandle" ∧ yX1_noControl.cls ≠ "java/lang/invoke/VarHandle" ∧ (parseMethodDescriptor yX1_noControl.desc).map (fun d => d.parameters.length) = some 1 := by decide +kernel
theorem hdX1_noRoad : yX1_noRoad.cls = RX1 ∧ yX1_noRoad.cls ≠ "java/lang/invoke/MethodHandle" ∧ yX1_noRoad.cls ≠ "java/lang/invoke/VarHandle" ∧ (parseMethodDescriptor yX1_noRoad.desc).map (fun d => d.parameters.length) = some 1 := by decide +kernel
theorem hdX1_noSheet : yX1_noSheet.cls = RX1 ∧ yX1_noSheet.cls ≠ "java/lang/invoke/MethodHandle" ∧ yX1_noSheet.cls ≠ "java/lang/invoke/VarHandle" ∧ (parseMethodDescriptor yX1_noSheet.desc).map (fun d => d.parameters.length) = some 1 := by decide +kernel
theorem hdX1_points : yX1_points.cls = RX1 ∧ yX1_points.cls ≠ "java/lang/invoke/MethodHandle" ∧ yX1_points.cls ≠ "java/lang/invoke/VarHandle" ∧ (parseMethodDescriptor yX1_points.desc).map (fun d => d.parameters.length) = some 2 := by decide +kernel
theorem hdX1_pointsAt : yX1_pointsAt.cls = RX1 ∧ yX1_pointsAt.cls ≠ "java/lang/invoke/MethodHandle" ∧ yX1_pointsAt.cls ≠ "java/lang/invoke/VarHandle" ∧ (parseMethodDescriptor yX1_pointsAt.desc).map (fun d => d.parameters.length) = some 2 := by decide +kernel
theorem hdX1_proof : yX1_proof.cls = RX1 ∧ yX1_proof.cls ≠ "java/lang/invoke/MethodHandle" ∧ yX1_proof.cls ≠ "java/lang/invoke/VarHandle" ∧ (parseMethodDescriptor yX1_proof.desc).map (fun d => d.parameters.length) = some 4 := by decide +kernel
theorem hdX1_proved : yX1_proved.cls = RX1 ∧ yX1_proved.cls ≠ "java/lang/invoke/MethodHandle" ∧ yX1_proved.cls ≠ "java/lang/invoke/VarHandle" ∧ (parseMethodDescriptor yX1_proved.desc).map (fun d => d.parameters.length) = some 3 := by decide +kernel
theorem hdX1_put : yX1_put.cls = RX1 ∧ yX1_put.cls ≠ "java/lang/invoke/MethodHandle" ∧ yX1_put.cls ≠ "java/lang/invoke/VarHandle" ∧ (parseMethodDescriptor yX1_put.desc).map (fun d => d.parameters.length) = some 3 := by decide +kernel
theorem hdX1_refused : yX1_refused.cls = RX1 ∧ yX1_refused.cls ≠ "java/lang/invoke/MethodHandle" ∧ yX1_refused.cls ≠ "java/lang/invoke/VarHandle" ∧ (parseMethodDescriptor yX1_refused.desc).map (fun d => d.parameters.length) = some 1 := by decide +kernel
theorem hdX1_result : yX1_result.cls = RX1 ∧ yX1_result.cls ≠ "java/lang/invoke/MethodHandle" ∧ yX1_result.cls ≠ "java/lang/invoke/VarHandle" ∧ (parseMethodDescriptor yX1_result.desc).map (fun d => d.parameters.length) = some 2 := by decide +kernel
theorem hdX1_right : yX1_right.cls = RX1 ∧ yX1_right.cls ≠ "java/lang/invoke/MethodHandle" ∧ yX1_right.cls ≠ "java/lang/invoke/VarHandle" ∧ (parseMethodDescriptor yX1_right.desc).map (fun d => d.parameters.length) = some 2 := by decide +kernel
theorem hdX1_rightAt : yX1_rightAt.cls = RX1 ∧ yX1_rightAt.cls ≠ "java/lang/invoke/MethodHandle" ∧ yX1_rightAt.cls ≠ "java/lang/invoke/VarHandle" ∧ (parseMethodDescriptor yX1_rightAt.desc).map (fun d => d.parameters.length) = some 2 := by decide +kernel
theorem hdX1_road : yX1_road.cls = RX1 ∧ yX1_road.cls ≠ "java/lang/invoke/MethodHandle" ∧ yX1_road.cls ≠ "java/lang/invoke/VarHandle" ∧ (parseMethodDescriptor yX1_road.desc).map (fun d => d.parameters.length) = some 4 := by decide +kernel
theorem hdX1_roadAt : yX1_roadAt.cls = RX1 ∧ yX1_roadAt.cls ≠ "java/lang/invoke/MethodHandle" ∧ yX1_roadAt.cls ≠ "java/lang/invoke/VarHandle" ∧ (parseMethodDescriptor yX1_roadAt.desc).map (fun d => d.parameters.length) = some 1 := by decide +kernel
theorem hdX1_search : yX1_search.cls = RX1 ∧ yX1_search.cls ≠ "java/lang/invoke/MethodHandle" ∧ yX1_search.cls ≠ "java/lang/invoke/VarHandle" ∧ (parseMethodDescriptor yX1_search.desc).map (fun d => d.parameters.length) = some 0 := by decide +kernel
theorem hdX1_sheet : yX1_sheet.cls = RX1 ∧ yX1_sheet.cls ≠ "java/lang/invoke/MethodHandle" ∧ yX1_sheet.cls ≠ "java/lang/invoke/VarHandle" ∧ (parseMethodDescriptor yX1_sheet.desc).map (fun d => d.parameters.length) = some 3 := by decide +kernel
theorem hdX1_shut : yX1_shut.cls = RX1 ∧ yX1_shut.cls ≠ "java/lang/invoke/MethodHandle" ∧ yX1_shut.cls ≠ "java/lang/invoke/VarHandle" ∧ (parseMethodDescriptor yX1_shut.desc).map (fun d => d.parameters.length) = some 2 := by decide +kernel
theorem hdX1_speed : yX1_speed.cls = RX1 ∧ yX1_speed.cls ≠ "java/lang/invoke/MethodHandle" ∧ yX1_speed.cls ≠ "java/lang/invoke/VarHandle" ∧ (parseMethodDescriptor yX1_speed.desc).map (fun d => d.parameters.length) = some 2 := by decide +kernel
theorem hdX1_strike : yX1_strike.cls = RX1 ∧ yX1_strike.cls ≠ "java/lang/invoke/MethodHandle" ∧ yX1_strike.cls ≠ "java/lang/invoke/VarHandle" ∧ (parseMethodDescriptor yX1_strike.desc).map (fun d => d.parameters.length) = some 2 := by decide +kernel
theorem hdX1_tell : yX1_tell.cls = RX1 ∧ yX1_tell.cls ≠ "java/lang/invoke/MethodHandle" ∧ yX1_tell.cls ≠ "java/lang/invoke/VarHandle" ∧ (parseMethodDescriptor yX1_tell.desc).map (fun d => d.parameters.length) = some 1 := by decide +kernel
theorem hdX1_told : yX1_told.cls = RX1 ∧ yX1_told.cls ≠ "java/lang/invoke/MethodHandle" ∧ yX1_told.cls ≠ "java/lang/invoke/VarHandle" ∧ (parseMethodDescriptor yX1_told.desc).map (fun d => d.parameters.length) = some 1 := by decide +kernel
theorem hdX1_totalOf : yX1_totalOf.cls = RX1 ∧ yX1_totalOf.cls ≠ "java/lang/invoke/MethodHandle" ∧ yX1_totalOf.cls ≠ "java/lang/invoke/VarHandle" ∧ (parseMethodDescriptor yX1_totalOf.desc).map (fun d => d.parameters.length) = some 1 := by decide +kernel
theorem hdX1_trace : yX1_trace.cls = RX1 ∧ yX1_trace.cls ≠ "java/lang/invoke/MethodHandle" ∧ yX1_trace.cls ≠ "java/lang/invoke/VarHandle" ∧ (parseMethodDescriptor yX1_trace.desc).map (fun d => d.parameters.length) = some 0 := by decide +kernel
theorem hdX1_traced : yX1_traced.cls = RX1 ∧ yX1_traced.cls ≠ "java/lang/invoke/MethodHandle" ∧ yX1_traced.cls ≠ "java/lang/invoke/VarHandle" ∧ (parseMethodDescriptor yX1_traced.desc).map (fun d => d.parameters.length) = some 1 := by decide +kernel
theorem hdX1_wasAhead : yX1_wasAhead.cls = RX1 ∧ yX1_wasAhead.cls ≠ "java/lang/invoke/MethodHandle" ∧ yX1_wasAhead.cls ≠ "java/lang/invoke/VarHandle" ∧ (parseMethodDescriptor yX1_wasAhead.desc).map (fun d => d.parameters.length) = some 3 := by decide +kernel
theorem hdX1_watch : yX1_watch.cls = RX1 ∧ yX1_watch.cls ≠ "java/lang/invoke/MethodHandle" ∧ yX1_watch.cls ≠ "java/lang/invoke/VarHandle" ∧ (parseMethodDescriptor yX1_watch.desc).map (fun d => d.parameters.length) = some 5 := by decide +kernel
theorem hdX1_ways : yX1_ways.cls = RX1 ∧ yX1_ways.cls ≠ "java/lang/invoke/MethodHandle" ∧ yX1_ways.cls ≠ "java/lang/invoke/VarHandle" ∧ (parseMethodDescriptor yX1_ways.desc).map (fun d => d.parameters.length) = some 0 := by decide +kernel
theorem hdX1_wet : yX1_wet.cls = RX1 ∧ yX1_wet.cls ≠ "java/lang/invoke/MethodHandle" ∧ yX1_wet.cls ≠ "java/lang/invoke/VarHandle" ∧ (parseMethodDescriptor yX1_wet.desc).map (fun d => d.parameters.length) = some 2 := by decide +kernel
set_option maxRecDepth 100000 in
theorem mt_in (l : Launch) (x : Int64) (y : Int64) (z : Int64)  : Met l yX1_in (ws_ yX1_in cX1_in 6 (some .boolean)) (mR 0) (fun v _ => v = ([.long x, .long y, .long z] : List Value).toArray) (k2_QcV (.int (bI (y.toInt ≤ x.toInt ∧ x.toInt ≤ z.toInt)))) 0 0 (fun _ => False) := by
  refine m_headS (As := [.long x, .long y, .long z]) (bytes := cX1_in) (maxL := 6) (ret := (some .boolean)) (by decide) rfl (Nat.le_of_ble_eq_true rfl) ?_
  intro p e s m below meth c hx hb hts hown hml hr hlk ls hl
  have hl : lv_has ls 6 [(0, .long x), (2, .long y), (4, .long z)] := hl
  refine lv_lload_n (pc := 0) hx hb dX1_in_0 rfl (lv_at hl 0 rfl) ?_
  refine lv_lload_n (pc := 1) hx hb dX1_in_1 rfl (lv_at hl 1 rfl) ?_
  refine ll_lt (pc := 2) (tgt := 17) hx hb dX1_in_2 dX1_in_3 (by decide) (fun c_1 => ?_) (fun c_1 => ?_)
  · refine lv_iconst (pc := 17) (v := 0) hx hb dX1_in_17 (by decide) ?_
    exact m_zretS hx hb hr hlk dX1_in_18 rfl ((bI_f (by omega)).symm)
  · refine lv_lload_n (pc := 6) hx hb dX1_in_6 rfl (lv_at hl 0 rfl) ?_
    refine lv_lload (pc := 7) hx hb dX1_in_7 (lv_at hl 2 rfl) ?_
    refine ll_gt (pc := 9) (tgt := 17) hx hb dX1_in_9 dX1_in_10 (by decide) (fun c_2 => ?_) (fun c_2 => ?_)
    · refine lv_iconst (pc := 17) (v := 0) hx hb dX1_in_17 (by decide) ?_
      exact m_zretS hx hb hr hlk dX1_in_18 rfl ((bI_f (by omega)).symm)
    · refine lv_iconst (pc := 13) (v := 1) hx hb dX1_in_13 (by decide) ?_
      refine lv_goto (pc := 14) (tgt := 18) hx hb dX1_in_14 (by decide) ?_
      exact m_zretS hx hb hr hlk dX1_in_18 rfl ((bI_t (by omega)).symm)
theorem mt_inB (l : Launch) (x : Int32) (lo hi : Int64) (L U : Int) (h1 : lo.toInt = L) (h2 : hi.toInt = U) : Met l yX1_in (ws_ yX1_in cX1_in 6 (some .boolean)) (mR 0) (fun v _ => v = ([.long x.toInt64, .long lo, .long hi] : List Value).toArray) (k2_QcV (.int (bI (inB x L U)))) 0 0 (fun _ => False) := by
  have h := mt_in l x.toInt64 lo hi
  rw [h1, h2, Int32.toInt_toInt64] at h
  exact h
theorem mt_inN (l : Launch) (x n : Int32) : Met l yX1_in (ws_ yX1_in cX1_in 6 (some .boolean)) (mR 0) (fun v _ => v = ([.long x.toInt64, .long 0, .long (n.toInt64 - 1)] : List Value).toArray) (k2_QcV (.int (bI (inN x n)))) 0 0 (fun _ => False) := by
  have h := mt_in l x.toInt64 0 (n.toInt64 - 1)
  have e : (n.toInt64 - 1).toInt = n.toInt - 1 := by
    have h1 := i32_lo n
    have h2 := i32_hi n
    rw [i64_sub (by rw [Int32.toInt_toInt64]; show _ ≤ n.toInt - 1; omega) (by rw [Int32.toInt_toInt64]; show n.toInt - 1 < _; omega), Int32.toInt_toInt64]
    rfl
  have e2 : ((0 : Int64).toInt ≤ x.toInt64.toInt ∧ x.toInt64.toInt ≤ (n.toInt64 - 1).toInt) ↔ inN x n := by
    rw [e, Int32.toInt_toInt64, show (0 : Int64).toInt = 0 from rfl]
    show _ ↔ (0 ≤ x.toInt ∧ x.toInt < n.toInt)
    omega
  rw [bI_c e2] at h
  exact h
set_option maxRecDepth 100000 in
theorem mt_isSpot (l : Launch) (x : Int32)  : Met l yX1_isSpot (ws_ yX1_isSpot cX1_isSpot 1 (some .boolean)) (mR 1) (fun v _ => v = ([.int x] : List Value).toArray) (k2_QcV (.int (bI (inB x 0 9)))) 0 0 (fun _ => False) := by
  refine m_headS (As := [.int x]) (bytes := cX1_isSpot) (maxL := 1) (ret := (some .boolean)) (by decide) rfl (Nat.le_of_ble_eq_true rfl) ?_
  intro p e s m below meth c hx hb hts hown hml hr hlk ls hl
  have hl : lv_has ls 1 [(0, .int x)] := hl
  refine lv_iload_n (pc := 0) hx hb dX1_isSpot_0 rfl (lv_at hl 0 rfl) ?_
  refine lv_i2l (pc := 1) (v := x.toInt64) hx hb dX1_isSpot_1 rfl ?_
  refine lv_lconst (pc := 2) (v := 0) hx hb dX1_isSpot_2 (by decide) ?_
  refine lv_ldc2 (pc := 3) hx hb hown (hts _ q1230) dX1_isSpot_3 ?_
  refine m_cSS (pc := 6) (As := [.long x.toInt64, .long 0, .long 9]) (rest := []) hx hb hts hown hml hl.1 (mt_inB l x 0 9 0 9 rfl rfl) q1231 q1232 q1233 hdX1_in ⟨Nat.le_of_ble_eq_true rfl, Nat.le_of_ble_eq_true rfl⟩ rfl rfl rfl (Nat.le_of_ble_eq_true rfl) dX1_isSpot_6 ?_
  exact m_zretS hx hb hr hlk dX1_isSpot_9 (bI_nar _) rfl
set_option maxRecDepth 100000 in
theorem mt_isTime (l : Launch) (x : Int32)  : Met l yX1_isTime (ws_ yX1_isTime cX1_isTime 1 (some .boolean)) (mR 1) (fun v _ => v = ([.int x] : List Value).toArray) (k2_QcV (.int (bI (inB x 0 1000000)))) 0 0 (fun _ => False) := by
  refine m_headS (As := [.int x]) (bytes := cX1_isTime) (maxL := 1) (ret := (some .boolean)) (by decide) rfl (Nat.le_of_ble_eq_true rfl) ?_
  intro p e s m below meth c hx hb hts hown hml hr hlk ls hl
  have hl : lv_has ls 1 [(0, .int x)] := hl
  refine lv_iload_n (pc := 0) hx hb dX1_isTime_0 rfl (lv_at hl 0 rfl) ?_
  refine lv_i2l (pc := 1) (v := x.toInt64) hx hb dX1_isTime_1 rfl ?_
  refine lv_lconst (pc := 2) (v := 0) hx hb dX1_isTime_2 (by decide) ?_
  refine lv_ldc2 (pc := 3) hx hb hown (hts _ q1392) dX1_isTime_3 ?_
  refine m_cSS (pc := 6) (As := [.long x.toInt64, .long 0, .long 1000000]) (rest := []) hx hb hts hown hml hl.1 (mt_inB l x 0 1000000 0 1000000 rfl rfl) q1231 q1232 q1233 hdX1_in ⟨Nat.le_of_ble_eq_true rfl, Nat.le_of_ble_eq_true rfl⟩ rfl rfl rfl (Nat.le_of_ble_eq_true rfl) dX1_isTime_6 ?_
  exact m_zretS hx hb hr hlk dX1_isTime_9 (bI_nar _) rfl
set_option maxRecDepth 100000 in
theorem mt_noSheet (l : Launch) (x : Int32)  : Met l yX1_noSheet (ws_ yX1_noSheet cX1_noSheet 1 (some .boolean)) (mR 1) (fun v _ => v = ([.int x] : List Value).toArray) (k2_QcV (.int (bI (¬ inB x 0 3)))) 0 0 (fun _ => False) := by
  refine m_headS (As := [.int x]) (bytes := cX1_noSheet) (maxL := 1) (ret := (some .boolean)) (by decide) rfl (Nat.le_of_ble_eq_true rfl) ?_
  intro p e s m below meth c hx hb hts hown hml hr hlk ls hl
  have hl : lv_has ls 1 [(0, .int x)] := hl
  refine lv_iload_n (pc := 0) hx hb dX1_noSheet_0 rfl (lv_at hl 0 rfl) ?_
  refine lv_i2l (pc := 1) (v := x.toInt64) hx hb dX1_noSheet_1 rfl ?_
  refine lv_lconst (pc := 2) (v := 0) hx hb dX1_noSheet_2 (by decide) ?_
  refine lv_ldc2 (pc := 3) hx hb hown (hts _ q1267) dX1_noSheet_3 ?_
  refine m_cSS (pc := 6) (As := [.long x.toInt64, .long 0, .long 3]) (rest := []) hx hb hts hown hml hl.1 (mt_inB l x 0 3 0 3 rfl rfl) q1231 q1232 q1233 hdX1_in ⟨Nat.le_of_ble_eq_true rfl, Nat.le_of_ble_eq_true rfl⟩ rfl rfl rfl (Nat.le_of_ble_eq_true rfl) dX1_noSheet_6 ?_
  refine lb_ne (pc := 9) (tgt := 16) hx hb dX1_noSheet_9 (by decide) (fun c_1 => ?_) (fun c_1 => ?_)
  · refine lv_iconst (pc := 16) (v := 0) hx hb dX1_noSheet_16 (by decide) ?_
    exact m_zretS hx hb hr hlk dX1_noSheet_17 rfl ((bI_f (fun q => q c_1)).symm)
  · refine lv_iconst (pc := 12) (v := 1) hx hb dX1_noSheet_12 (by decide) ?_
    refine lv_goto (pc := 13) (tgt := 17) hx hb dX1_noSheet_13 (by decide) ?_
    exact m_zretS hx hb hr hlk dX1_noSheet_17 rfl ((bI_t c_1).symm)
set_option maxRecDepth 100000 in
theorem mt_lost (l : Launch)   : Met l yX1_lost (ws_ yX1_lost cX1_lost 0 (some .long)) (mR 0) (fun v _ => v = ([] : List Value).toArray) (k2_QcV (.long (-9223372036854775808))) 0 0 (fun _ => False) := by
  refine m_headS (As := []) (bytes := cX1_lost) (maxL := 0) (ret := (some .long)) (by decide) rfl (Nat.le_of_ble_eq_true rfl) ?_
  intro p e s m below meth c hx hb hts hown hml hr hlk ls hl
  have hl : lv_has ls 0 [] := hl
  refine lv_ldc2 (pc := 0) hx hb hown (hts _ q1287) dX1_lost_0 ?_
  exact m_lretS hx hb hr hlk dX1_lost_3 rfl
set_option maxHeartbeats 4000000 in
set_option maxRecDepth 100000 in
theorem mt_refused (l : Launch) (G : mG) (st : mS) (r : Int32)   : Met l yX1_refused (ws_ yX1_refused cX1_refused 2 (some .int)) (mR 0) (mP G [.int r] st) (mQ G (some (.int r)) (mu st 0 0 0)) 0 0 (mA G) := by
  refine m_head (As := [.int r]) (bytes := cX1_refused) (maxL := 2) (ret := (some .int)) (by decide) rfl (Nat.le_of_ble_eq_true rfl) ?_
  intro p e s m below meth c E hml hr hlk hw ls hl
  have hx := E.1
  have hb := E.2.1
  have hts := E.2.2.1
  have hown := E.2.2.2.1
  have hl : lv_has ls 2 [(0, .ref G.1), (1, .int r)] := hl
  refine lv_aload_n (pc := 0) hx hb dX1_refused_0 rfl (lv_at hl 0 rfl) ?_
  refine lv_iconst (pc := 1) (v := 0) hx hb dX1_refused_1 (by decide) ?_
  refine m_put (pc := 2) (v := 0) E hw 0 (by decide) rfl rfl rfl q1092 dX1_refused_2 (fun H locs hw => ?_)
  refine lv_iload_n (pc := 5) hx hb dX1_refused_5 rfl (lv_at hl 1 rfl) ?_
  exact m_iret E hr hlk hw dX1_refused_6 rfl rfl
set_option maxHeartbeats 4000000 in
set_option maxRecDepth 100000 in
theorem mt_failed (l : Launch) (G : mG) (st : mS) (f : Int32) (v : Int32) (hv : (-10) - f = v) : Met l yX1_failed (ws_ yX1_failed cX1_failed 2 (some .int)) (mR 0) (mP G [.int f] st) (mQ G (some (.int v)) (mu st 0 0 f)) 0 0 (mA G) := by
  refine m_head (As := [.int f]) (bytes := cX1_failed) (maxL := 2) (ret := (some .int)) (by decide) rfl (Nat.le_of_ble_eq_true rfl) ?_
  intro p e s m below meth c E hml hr hlk hw ls hl
  have hx := E.1
  have hb := E.2.1
  have hts := E.2.2.1
  have hown := E.2.2.2.1
  have hl : lv_has ls 2 [(0, .ref G.1), (1, .int f)] := hl
  refine lv_aload_n (pc := 0) hx hb dX1_failed_0 rfl (lv_at hl 0 rfl) ?_
  refine lv_iload_n (pc := 1) hx hb dX1_failed_1 rfl (lv_at hl 1 rfl) ?_
  refine m_put (pc := 2) (v := f) E hw 0 (by decide) rfl rfl rfl q1092 dX1_failed_2 (fun H locs hw => ?_)
  refine lv_bipush (pc := 5) (v := (-10)) hx hb dX1_failed_5 (by decide) ?_
  refine lv_iload_n (pc := 7) hx hb dX1_failed_7 rfl (lv_at hl 1 rfl) ?_
  refine lv_isub (pc := 8) hx hb dX1_failed_8 ?_
  exact m_iret E hr hlk hw dX1_failed_9 hv rfl
set_option maxHeartbeats 4000000 in
set_option maxRecDepth 100000 in
theorem mt_failedLong (l : Launch) (G : mG) (st : mS) (f : Int32)   : Met l yX1_failedLong (ws_ yX1_failedLong cX1_failedLong 2 (some .long)) (mR 1) (mP G [.int f] st) (mQ G (some (.long (-9223372036854775808))) (mu st 0 0 f)) 0 0 (mA G) := by
  refine m_head (As := [.int f]) (bytes := cX1_failedLong) (maxL := 2) (ret := (some .long)) (by decide) rfl (Nat.le_of_ble_eq_true rfl) ?_
  intro p e s m below meth c E hml hr hlk hw ls hl
  have hx := E.1
  have hb := E.2.1
  have hts := E.2.2.1
  have hown := E.2.2.2.1
  have hl : lv_has ls 2 [(0, .ref G.1), (1, .int f)] := hl
  refine lv_aload_n (pc := 0) hx hb dX1_failedLong_0 rfl (lv_at hl 0 rfl) ?_
  refine lv_iload_n (pc := 1) hx hb dX1_failedLong_1 rfl (lv_at hl 1 rfl) ?_
  refine m_put (pc := 2) (v := f) E hw 0 (by decide) rfl rfl rfl q1092 dX1_failedLong_2 (fun H locs hw => ?_)
  refine m_cS (pc := 5) (As := []) (rest := []) E hml hl.1 (mt_lost l) q1284 q1285 q1286 hdX1_lost ⟨Nat.le_of_ble_eq_true rfl, Nat.le_of_ble_eq_true rfl⟩ rfl rfl rfl (Nat.le_of_ble_eq_true rfl) dX1_failedLong_5 ?_
  exact m_lret E hr hlk hw dX1_failedLong_8 rfl rfl
set_option maxHeartbeats 4000000 in
set_option maxRecDepth 100000 in
theorem mt_noRoad (l : Launch) (G : mG) (st : mS) (x : Int32)   : Met l yX1_noRoad (ws_ yX1_noRoad cX1_noRoad 2 (some .boolean)) (mR 1) (mP G [.int x] st) (mQ G (some (.int (bI (¬ inN x (st 0 1))))) (st)) 0 0 (mA G) := by
  refine m_head (As := [.int x]) (bytes := cX1_noRoad) (maxL := 2) (ret := (some .boolean)) (by decide) rfl (Nat.le_of_ble_eq_true rfl) ?_
  intro p e s m below meth c E hml hr hlk hw ls hl
  have hx := E.1
  have hb := E.2.1
  have hts := E.2.2.1
  have hown := E.2.2.2.1
  have hl : lv_has ls 2 [(0, .ref G.1), (1, .int x)] := hl
  refine lv_iload_n (pc := 0) hx hb dX1_noRoad_0 rfl (lv_at hl 1 rfl) ?_
  refine lv_i2l (pc := 1) (v := x.toInt64) hx hb dX1_noRoad_1 rfl ?_
  refine lv_lconst (pc := 2) (v := 0) hx hb dX1_noRoad_2 (by decide) ?_
  refine lv_aload_n (pc := 3) hx hb dX1_noRoad_3 rfl (lv_at hl 0 rfl) ?_
  refine m_getv (pc := 4) (v := (st 0 1)) E hw 1 (by decide) rfl rfl q1093 dX1_noRoad_4 ?_
  refine lv_i2l (pc := 7) (v := (st 0 1).toInt64) hx hb dX1_noRoad_7 rfl ?_
  refine lv_lconst (pc := 8) (v := 1) hx hb dX1_noRoad_8 (by decide) ?_
  refine lv_lsub (pc := 9) hx hb dX1_noRoad_9 ?_
  refine m_cS (pc := 10) (As := [.long x.toInt64, .long 0, .long ((st 0 1).toInt64 - 1)]) (rest := []) E hml hl.1 (mt_inN l x (st 0 1)) q1231 q1232 q1233 hdX1_in ⟨Nat.le_of_ble_eq_true rfl, Nat.le_of_ble_eq_true rfl⟩ rfl rfl rfl (Nat.le_of_ble_eq_true rfl) dX1_noRoad_10 ?_
  refine lb_ne (pc := 13) (tgt := 20) hx hb dX1_noRoad_13 (by decide) (fun c_1 => ?_) (fun c_1 => ?_)
  · refine lv_iconst (pc := 20) (v := 0) hx hb dX1_noRoad_20 (by decide) ?_
    exact m_zret E hr hlk hw dX1_noRoad_21 rfl (bI_f (fun q => q c_1)).symm rfl
  · refine lv_iconst (pc := 16) (v := 1) hx hb dX1_noRoad_16 (by decide) ?_
    refine lv_goto (pc := 17) (tgt := 21) hx hb dX1_noRoad_17 (by decide) ?_
    exact m_zret E hr hlk hw dX1_noRoad_21 rfl (bI_t c_1).symm rfl
set_option maxHeartbeats 4000000 in
set_option maxRecDepth 100000 in
theorem mt_noControl (l : Launch) (G : mG) (st : mS) (x : Int32)   : Met l yX1_noControl (ws_ yX1_noControl cX1_noControl 2 (some .boolean)) (mR 1) (mP G [.int x] st) (mQ G (some (.int (bI (¬ inN x (st 0 30))))) (st)) 0 0 (mA G) := by
  refine m_head (As := [.int x]) (bytes := cX1_noControl) (maxL := 2) (ret := (some .boolean)) (by decide) rfl (Nat.le_of_ble_eq_true rfl) ?_
  intro p e s m below meth c E hml hr hlk hw ls hl
  have hx := E.1
  have hb := E.2.1
  have hts := E.2.2.1
  have hown := E.2.2.2.1
  have hl : lv_has ls 2 [(0, .ref G.1), (1, .int x)] := hl
  refine lv_iload_n (pc := 0) hx hb dX1_noControl_0 rfl (lv_at hl 1 rfl) ?_
  refine lv_i2l (pc := 1) (v := x.toInt64) hx hb dX1_noControl_1 rfl ?_
  refine lv_lconst (pc := 2) (v := 0) hx hb dX1_noControl_2 (by decide) ?_
  refine lv_aload_n (pc := 3) hx hb dX1_noControl_3 rfl (lv_at hl 0 rfl) ?_
  refine m_getv (pc := 4) (v := (st 0 30)) E hw 30 (by decide) rfl rfl q1122 dX1_noControl_4 ?_
  refine lv_i2l (pc := 7) (v := (st 0 30).toInt64) hx hb dX1_noControl_7 rfl ?_
  refine lv_lconst (pc := 8) (v := 1) hx hb dX1_noControl_8 (by decide) ?_
  refine lv_lsub (pc := 9) hx hb dX1_noControl_9 ?_
  refine m_cS (pc := 10) (As := [.long x.toInt64, .long 0, .long ((st 0 30).toInt64 - 1)]) (rest := []) E hml hl.1 (mt_inN l x (st 0 30)) q1231 q1232 q1233 hdX1_in ⟨Nat.le_of_ble_eq_true rfl, Nat.le_of_ble_eq_true rfl⟩ rfl rfl rfl (Nat.le_of_ble_eq_true rfl) dX1_noControl_10 ?_
  refine lb_ne (pc := 13) (tgt := 20) hx hb dX1_noControl_13 (by decide) (fun c_1 => ?_) (fun c_1 => ?_)
  · refine lv_iconst (pc := 20) (v := 0) hx hb dX1_noControl_20 (by decide) ?_
    exact m_zret E hr hlk hw dX1_noControl_21 rfl (bI_f (fun q => q c_1)).symm rfl
  · refine lv_iconst (pc := 16) (v := 1) hx hb dX1_noControl_16 (by decide) ?_
    refine lv_goto (pc := 17) (tgt := 21) hx hb dX1_noControl_17 (by decide) ?_
    exact m_zret E hr hlk hw dX1_noControl_21 rfl (bI_t c_1).symm rfl
set_option maxHeartbeats 4000000 in
set_option maxRecDepth 100000 in
theorem mt_noCar (l : Launch) (G : mG) (st : mS) (x : Int32)   : Met l yX1_noCar (ws_ yX1_noCar cX1_noCar 2 (some .boolean)) (mR 1) (mP G [.int x] st) (mQ G (some (.int (bI (¬ inN x (st 0 35))))) (st)) 0 0 (mA G) := by
  refine m_head (As := [.int x]) (bytes := cX1_noCar) (maxL := 2) (ret := (some .boolean)) (by decide) rfl (Nat.le_of_ble_eq_true rfl) ?_
  intro p e s m below meth c E hml hr hlk hw ls hl
  have hx := E.1
  have hb := E.2.1
  have hts := E.2.2.1
  have hown := E.2.2.2.1
  have hl : lv_has ls 2 [(0, .ref G.1), (1, .int x)] := hl
  refine lv_iload_n (pc := 0) hx hb dX1_noCar_0 rfl (lv_at hl 1 rfl) ?_
  refine lv_i2l (pc := 1) (v := x.toInt64) hx hb dX1_noCar_1 rfl ?_
  refine lv_lconst (pc := 2) (v := 0) hx hb dX1_noCar_2 (by decide) ?_
  refine lv_aload_n (pc := 3) hx hb dX1_noCar_3 rfl (lv_at hl 0 rfl) ?_
  refine m_getv (pc := 4) (v := (st 0 35)) E hw 35 (by decide) rfl rfl q1127 dX1_noCar_4 ?_
  refine lv_i2l (pc := 7) (v := (st 0 35).toInt64) hx hb dX1_noCar_7 rfl ?_
  refine lv_lconst (pc := 8) (v := 1) hx hb dX1_noCar_8 (by decide) ?_
  refine lv_lsub (pc := 9) hx hb dX1_noCar_9 ?_
  refine m_cS (pc := 10) (As := [.long x.toInt64, .long 0, .long ((st 0 35).toInt64 - 1)]) (rest := []) E hml hl.1 (mt_inN l x (st 0 35)) q1231 q1232 q1233 hdX1_in ⟨Nat.le_of_ble_eq_true rfl, Nat.le_of_ble_eq_true rfl⟩ rfl rfl rfl (Nat.le_of_ble_eq_true rfl) dX1_noCar_10 ?_
  refine lb_ne (pc := 13) (tgt := 20) hx hb dX1_noCar_13 (by decide) (fun c_1 => ?_) (fun c_1 => ?_)
  · refine lv_iconst (pc := 20) (v := 0) hx hb dX1_noCar_20 (by decide) ?_
    exact m_zret E hr hlk hw dX1_noCar_21 rfl (bI_f (fun q => q c_1)).symm rfl
  · refine lv_iconst (pc := 16) (v := 1) hx hb dX1_noCar_16 (by decide) ?_
    refine lv_goto (pc := 17) (tgt := 21) hx hb dX1_noCar_17 (by decide) ?_
    exact m_zret E hr hlk hw dX1_noCar_21 rfl (bI_t c_1).symm rfl
