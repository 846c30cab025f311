/-! helpers for the component's walker: heads' words, what goes on behind a call, copies of arrays -/
theorem hdJ0_init : yJ0_init.cls = RJ0 ∧ yJ0_init.cls ≠ "java/lang/invoke/MethodHandle" ∧ yJ0_init.cls ≠ "java/lang/invoke/VarHandle" ∧ (parseMethodDescriptor yJ0_init.desc).map (fun d => d.parameters.length) = some 0 := by decide +kernel
theorem hdJ1_init : yJ1_init.cls = RJ1 ∧ yJ1_init.cls ≠ "java/lang/invoke/MethodHandle" ∧ yJ1_init.cls ≠ "java/lang/invoke/VarHandle" ∧ (parseMethodDescriptor yJ1_init.desc).map (fun d => d.parameters.length) = some 0 := by decide +kernel
theorem hdJ10_init : yJ10_init.cls = RJ10 ∧ yJ10_init.cls ≠ "java/lang/invoke/MethodHandle" ∧ yJ10_init.cls ≠ "java/lang/invoke/VarHandle" ∧ (parseMethodDescriptor yJ10_init.desc).map (fun d => d.parameters.length) = some 1 := by decide +kernel
theorem hdJ10_init_2 : yJ10_init_2.cls = RJ10 ∧ yJ10_init_2.cls ≠ "java/lang/invoke/MethodHandle" ∧ yJ10_init_2.cls ≠ "java/lang/invoke/VarHandle" ∧ (parseMethodDescriptor yJ10_init_2.desc).map (fun d => d.parameters.length) = some 0 := by decide +kernel
theorem hdJ11_init : yJ11_init.cls = RJ11 ∧ yJ11_init.cls ≠ "java/lang/invoke/MethodHandle" ∧ yJ11_init.cls ≠ "java/lang/invoke/VarHandle" ∧ (parseMethodDescriptor yJ11_init.desc).map (fun d => d.parameters.length) = some 1 := by decide +kernel
theorem hdJ13_init : yJ13_init.cls = RJ13 ∧ yJ13_init.cls ≠ "java/lang/invoke/MethodHandle" ∧ yJ13_init.cls ≠ "java/lang/invoke/VarHandle" ∧ (parseMethodDescriptor yJ13_init.desc).map (fun d => d.parameters.length) = some 0 := by decide +kernel
theorem hdJ14_init : yJ14_init.cls = RJ14 ∧ yJ14_init.cls ≠ "java/lang/invoke/MethodHandle" ∧ yJ14_init.cls ≠ "java/lang/invoke/VarHandle" ∧ (parseMethodDescriptor yJ14_init.desc).map (fun d => d.parameters.length) = some 1 := by decide +kernel
theorem hdJ15_init : yJ15_init.cls = RJ15 ∧ yJ15_init.cls ≠ "java/lang/invoke/MethodHandle" ∧ yJ15_init.cls ≠ "java/lang/invoke/VarHandle" ∧ (parseMethodDescriptor yJ15_init.desc).map (fun d => d.parameters.length) = some 1 := by decide +kernel
theorem hdJ15_init_2 : yJ15_init_2.cls = RJ15 ∧ yJ15_init_2.cls ≠ "java/lang/invoke/MethodHandle" ∧ yJ15_init_2.cls ≠ "java/lang/invoke/VarHandle" ∧ (parseMethodDescriptor yJ15_init_2.desc).map (fun d => d.parameters.length) = some 0 := by decide +kernel
theorem hdJ16_init : yJ16_init.cls = RJ16 ∧ yJ16_init.cls ≠ "java/lang/invoke/MethodHandle" ∧ yJ16_init.cls ≠ "java/lang/invoke/VarHandle" ∧ (parseMethodDescriptor yJ16_init.desc).map (fun d => d.parameters.length) = some 1 := by decide +kernel
theorem hdJ16_init_2 : yJ16_init_2.cls = RJ16 ∧ yJ16_init_2.cls ≠ "java/lang/invoke/MethodHandle" ∧ yJ16_init_2.cls ≠ "java/lang/invoke/VarHandle" ∧ (parseMethodDescriptor yJ16_init_2.desc).map (fun d => d.parameters.length) = some 0 := by decide +kernel
theorem hdJ17_init : yJ17_init.cls = RJ17 ∧ yJ17_init.cls ≠ "java/lang/invoke/MethodHandle" ∧ yJ17_init.cls ≠ "java/lang/invoke/VarHandle" ∧ (parseMethodDescriptor yJ17_init.desc).map (fun d => d.parameters.length) = some 1 := by decide +kernel
theorem hdJ18_init : yJ18_init.cls = RJ18 ∧ yJ18_init.cls ≠ "java/lang/invoke/MethodHandle" ∧ yJ18_init.cls ≠ "java/lang/invoke/VarHandle" ∧ (parseMethodDescriptor yJ18_init.desc).map (fun d => d.parameters.length) = some 0 := by decide +kernel
theorem hdJ2_init : yJ2_init.cls = RJ2 ∧ yJ2_init.cls ≠ "java/lang/invoke/MethodHandle" ∧ yJ2_init.cls ≠ "java/lang/invoke/VarHandle" ∧ (parseMethodDescriptor yJ2_init.desc).map (fun d => d.parameters.length) = some 0 := by decide +kernel
theorem hdJ2_size : yJ2_size.cls = RJ2 ∧ yJ2_size.cls ≠ "java/lang/invoke/MethodHandle" ∧ yJ2_size.cls ≠ "java/lang/invoke/VarHandle" ∧ (parseMethodDescriptor yJ2_size.desc).map (fun d => d.parameters.length) = some 0 := by decide +kernel
theorem hdJ2_add : yJ2_add.cls = RJ2 ∧ yJ2_add.cls ≠ "java/lang/invoke/MethodHandle" ∧ yJ2_add.cls ≠ "java/lang/invoke/VarHandle" ∧ (parseMethodDescriptor yJ2_add.desc).map (fun d => d.parameters.length) = some 1 := by decide +kernel
theorem hdJ2_add_2 : yJ2_add_2.cls = RJ2 ∧ yJ2_add_2.cls ≠ "java/lang/invoke/MethodHandle" ∧ yJ2_add_2.cls ≠ "java/lang/invoke/VarHandle" ∧ (parseMethodDescriptor yJ2_add_2.desc).map (fun d => d.parameters.length) = some 3 := by decide +kernel
theorem hdJ2_grow : yJ2_grow.cls = RJ2 ∧ yJ2_grow.cls ≠ "java/lang/invoke/MethodHandle" ∧ yJ2_grow.cls ≠ "java/lang/invoke/VarHandle" ∧ (parseMethodDescriptor yJ2_grow.desc).map (fun d => d.parameters.length) = some 0 := by decide +kernel
theorem hdJ2_grow_2 : yJ2_grow_2.cls = RJ2 ∧ yJ2_grow_2.cls ≠ "java/lang/invoke/MethodHandle" ∧ yJ2_grow_2.cls ≠ "java/lang/invoke/VarHandle" ∧ (parseMethodDescriptor yJ2_grow_2.desc).map (fun d => d.parameters.length) = some 1 := by decide +kernel
theorem hdJ2_get : yJ2_get.cls = RJ2 ∧ yJ2_get.cls ≠ "java/lang/invoke/MethodHandle" ∧ yJ2_get.cls ≠ "java/lang/invoke/VarHandle" ∧ (parseMethodDescriptor yJ2_get.desc).map (fun d => d.parameters.length) = some 1 := by decide +kernel
theorem hdJ2_elementData : yJ2_elementData.cls = RJ2 ∧ yJ2_elementData.cls ≠ "java/lang/invoke/MethodHandle" ∧ yJ2_elementData.cls ≠ "java/lang/invoke/VarHandle" ∧ (parseMethodDescriptor yJ2_elementData.desc).map (fun d => d.parameters.length) = some 1 := by decide +kernel
theorem hdJ2_clear : yJ2_clear.cls = RJ2 ∧ yJ2_clear.cls ≠ "java/lang/invoke/MethodHandle" ∧ yJ2_clear.cls ≠ "java/lang/invoke/VarHandle" ∧ (parseMethodDescriptor yJ2_clear.desc).map (fun d => d.parameters.length) = some 0 := by decide +kernel
theorem hdJ3_newLength : yJ3_newLength.cls = RJ3 ∧ yJ3_newLength.cls ≠ "java/lang/invoke/MethodHandle" ∧ yJ3_newLength.cls ≠ "java/lang/invoke/VarHandle" ∧ (parseMethodDescriptor yJ3_newLength.desc).map (fun d => d.parameters.length) = some 3 := by decide +kernel
theorem hdJ3_hugeLength : yJ3_hugeLength.cls = RJ3 ∧ yJ3_hugeLength.cls ≠ "java/lang/invoke/MethodHandle" ∧ yJ3_hugeLength.cls ≠ "java/lang/invoke/VarHandle" ∧ (parseMethodDescriptor yJ3_hugeLength.desc).map (fun d => d.parameters.length) = some 2 := by decide +kernel
theorem hdJ4_max : yJ4_max.cls = RJ4 ∧ yJ4_max.cls ≠ "java/lang/invoke/MethodHandle" ∧ yJ4_max.cls ≠ "java/lang/invoke/VarHandle" ∧ (parseMethodDescriptor yJ4_max.desc).map (fun d => d.parameters.length) = some 2 := by decide +kernel
theorem hdJ4_min : yJ4_min.cls = RJ4 ∧ yJ4_min.cls ≠ "java/lang/invoke/MethodHandle" ∧ yJ4_min.cls ≠ "java/lang/invoke/VarHandle" ∧ (parseMethodDescriptor yJ4_min.desc).map (fun d => d.parameters.length) = some 2 := by decide +kernel
theorem hdJ4_min_2 : yJ4_min_2.cls = RJ4 ∧ yJ4_min_2.cls ≠ "java/lang/invoke/MethodHandle" ∧ yJ4_min_2.cls ≠ "java/lang/invoke/VarHandle" ∧ (parseMethodDescriptor yJ4_min_2.desc).map (fun d => d.parameters.length) = some 2 := by decide +kernel
theorem hdJ4_max_2 : yJ4_max_2.cls = RJ4 ∧ yJ4_max_2.cls ≠ "java/lang/invoke/MethodHandle" ∧ yJ4_max_2.cls ≠ "java/lang/invoke/VarHandle" ∧ (parseMethodDescriptor yJ4_max_2.desc).map (fun d => d.parameters.length) = some 2 := by decide +kernel
theorem hdJ5_copyOf : yJ5_copyOf.cls = RJ5 ∧ yJ5_copyOf.cls ≠ "java/lang/invoke/MethodHandle" ∧ yJ5_copyOf.cls ≠ "java/lang/invoke/VarHandle" ∧ (parseMethodDescriptor yJ5_copyOf.desc).map (fun d => d.parameters.length) = some 2 := by decide +kernel
theorem hdJ5_copyOf_2 : yJ5_copyOf_2.cls = RJ5 ∧ yJ5_copyOf_2.cls ≠ "java/lang/invoke/MethodHandle" ∧ yJ5_copyOf_2.cls ≠ "java/lang/invoke/VarHandle" ∧ (parseMethodDescriptor yJ5_copyOf_2.desc).map (fun d => d.parameters.length) = some 3 := by decide +kernel
theorem hdJ6_checkIndex : yJ6_checkIndex.cls = RJ6 ∧ yJ6_checkIndex.cls ≠ "java/lang/invoke/MethodHandle" ∧ yJ6_checkIndex.cls ≠ "java/lang/invoke/VarHandle" ∧ (parseMethodDescriptor yJ6_checkIndex.desc).map (fun d => d.parameters.length) = some 2 := by decide +kernel
theorem hdJ7_checkIndex : yJ7_checkIndex.cls = RJ7 ∧ yJ7_checkIndex.cls ≠ "java/lang/invoke/MethodHandle" ∧ yJ7_checkIndex.cls ≠ "java/lang/invoke/VarHandle" ∧ (parseMethodDescriptor yJ7_checkIndex.desc).map (fun d => d.parameters.length) = some 3 := by decide +kernel
theorem hdJ8_init : yJ8_init.cls = RJ8 ∧ yJ8_init.cls ≠ "java/lang/invoke/MethodHandle" ∧ yJ8_init.cls ≠ "java/lang/invoke/VarHandle" ∧ (parseMethodDescriptor yJ8_init.desc).map (fun d => d.parameters.length) = some 1 := by decide +kernel
theorem hdJ8_init_2 : yJ8_init_2.cls = RJ8 ∧ yJ8_init_2.cls ≠ "java/lang/invoke/MethodHandle" ∧ yJ8_init_2.cls ≠ "java/lang/invoke/VarHandle" ∧ (parseMethodDescriptor yJ8_init_2.desc).map (fun d => d.parameters.length) = some 0 := by decide +kernel
theorem hdJ8_init_3 : yJ8_init_3.cls = RJ8 ∧ yJ8_init_3.cls ≠ "java/lang/invoke/MethodHandle" ∧ yJ8_init_3.cls ≠ "java/lang/invoke/VarHandle" ∧ (parseMethodDescriptor yJ8_init_3.desc).map (fun d => d.parameters.length) = some 4 := by decide +kernel
theorem hdJ9_init : yJ9_init.cls = RJ9 ∧ yJ9_init.cls ≠ "java/lang/invoke/MethodHandle" ∧ yJ9_init.cls ≠ "java/lang/invoke/VarHandle" ∧ (parseMethodDescriptor yJ9_init.desc).map (fun d => d.parameters.length) = some 1 := by decide +kernel
theorem hdJ9_init_2 : yJ9_init_2.cls = RJ9 ∧ yJ9_init_2.cls ≠ "java/lang/invoke/MethodHandle" ∧ yJ9_init_2.cls ≠ "java/lang/invoke/VarHandle" ∧ (parseMethodDescriptor yJ9_init_2.desc).map (fun d => d.parameters.length) = some 4 := by decide +kernel
theorem hdJ9_init_3 : yJ9_init_3.cls = RJ9 ∧ yJ9_init_3.cls ≠ "java/lang/invoke/MethodHandle" ∧ yJ9_init_3.cls ≠ "java/lang/invoke/VarHandle" ∧ (parseMethodDescriptor yJ9_init_3.desc).map (fun d => d.parameters.length) = some 0 := by decide +kernel
theorem hdX0_init : yX0_init.cls = RX0 ∧ yX0_init.cls ≠ "java/lang/invoke/MethodHandle" ∧ yX0_init.cls ≠ "java/lang/invoke/VarHandle" ∧ (parseMethodDescriptor yX0_init.desc).map (fun d => d.parameters.length) = some 0 := by decide +kernel
theorem hdX0_road : yX0_road.cls = RX0 ∧ yX0_road.cls ≠ "java/lang/invoke/MethodHandle" ∧ yX0_road.cls ≠ "java/lang/invoke/VarHandle" ∧ (parseMethodDescriptor yX0_road.desc).map (fun d => d.parameters.length) = some 4 := by decide +kernel
theorem hdX0_isSpot : yX0_isSpot.cls = RX0 ∧ yX0_isSpot.cls ≠ "java/lang/invoke/MethodHandle" ∧ yX0_isSpot.cls ≠ "java/lang/invoke/VarHandle" ∧ (parseMethodDescriptor yX0_isSpot.desc).map (fun d => d.parameters.length) = some 1 := by decide +kernel
theorem hdX0_isIn : yX0_isIn.cls = RX0 ∧ yX0_isIn.cls ≠ "java/lang/invoke/MethodHandle" ∧ yX0_isIn.cls ≠ "java/lang/invoke/VarHandle" ∧ (parseMethodDescriptor yX0_isIn.desc).map (fun d => d.parameters.length) = some 3 := by decide +kernel
theorem hdX0_shut : yX0_shut.cls = RX0 ∧ yX0_shut.cls ≠ "java/lang/invoke/MethodHandle" ∧ yX0_shut.cls ≠ "java/lang/invoke/VarHandle" ∧ (parseMethodDescriptor yX0_shut.desc).map (fun d => d.parameters.length) = some 2 := by decide +kernel
theorem hdX0_isRoad : yX0_isRoad.cls = RX0 ∧ yX0_isRoad.cls ≠ "java/lang/invoke/MethodHandle" ∧ yX0_isRoad.cls ≠ "java/lang/invoke/VarHandle" ∧ (parseMethodDescriptor yX0_isRoad.desc).map (fun d => d.parameters.length) = some 1 := by decide +kernel
theorem hdX0_wet : yX0_wet.cls = RX0 ∧ yX0_wet.cls ≠ "java/lang/invoke/MethodHandle" ∧ yX0_wet.cls ≠ "java/lang/invoke/VarHandle" ∧ (parseMethodDescriptor yX0_wet.desc).map (fun d => d.parameters.length) = some 2 := by decide +kernel
theorem hdX0_faulty : yX0_faulty.cls = RX0 ∧ yX0_faulty.cls ≠ "java/lang/invoke/MethodHandle" ∧ yX0_faulty.cls ≠ "java/lang/invoke/VarHandle" ∧ (parseMethodDescriptor yX0_faulty.desc).map (fun d => d.parameters.length) = some 1 := by decide +kernel
theorem hdX0_about : yX0_about.cls = RX0 ∧ yX0_about.cls ≠ "java/lang/invoke/MethodHandle" ∧ yX0_about.cls ≠ "java/lang/invoke/VarHandle" ∧ (parseMethodDescriptor yX0_about.desc).map (fun d => d.parameters.length) = some 2 := by decide +kernel
theorem hdX0_ways : yX0_ways.cls = RX0 ∧ yX0_ways.cls ≠ "java/lang/invoke/MethodHandle" ∧ yX0_ways.cls ≠ "java/lang/invoke/VarHandle" ∧ (parseMethodDescriptor yX0_ways.desc).map (fun d => d.parameters.length) = some 0 := by decide +kernel
theorem hdX0_search : yX0_search.cls = RX0 ∧ yX0_search.cls ≠ "java/lang/invoke/MethodHandle" ∧ yX0_search.cls ≠ "java/lang/invoke/VarHandle" ∧ (parseMethodDescriptor yX0_search.desc).map (fun d => d.parameters.length) = some 0 := by decide +kernel
theorem hdX0_goOn : yX0_goOn.cls = RX0 ∧ yX0_goOn.cls ≠ "java/lang/invoke/MethodHandle" ∧ yX0_goOn.cls ≠ "java/lang/invoke/VarHandle" ∧ (parseMethodDescriptor yX0_goOn.desc).map (fun d => d.parameters.length) = some 5 := by decide +kernel
theorem hdX0_metAt : yX0_metAt.cls = RX0 ∧ yX0_metAt.cls ≠ "java/lang/invoke/MethodHandle" ∧ yX0_metAt.cls ≠ "java/lang/invoke/VarHandle" ∧ (parseMethodDescriptor yX0_metAt.desc).map (fun d => d.parameters.length) = some 2 := by decide +kernel
theorem hdX0_lay : yX0_lay.cls = RX0 ∧ yX0_lay.cls ≠ "java/lang/invoke/MethodHandle" ∧ yX0_lay.cls ≠ "java/lang/invoke/VarHandle" ∧ (parseMethodDescriptor yX0_lay.desc).map (fun d => d.parameters.length) = some 0 := by decide +kernel
theorem hdX0_laid : yX0_laid.cls = RX0 ∧ yX0_laid.cls ≠ "java/lang/invoke/MethodHandle" ∧ yX0_laid.cls ≠ "java/lang/invoke/VarHandle" ∧ (parseMethodDescriptor yX0_laid.desc).map (fun d => d.parameters.length) = some 1 := by decide +kernel
theorem hdX0_speed : yX0_speed.cls = RX0 ∧ yX0_speed.cls ≠ "java/lang/invoke/MethodHandle" ∧ yX0_speed.cls ≠ "java/lang/invoke/VarHandle" ∧ (parseMethodDescriptor yX0_speed.desc).map (fun d => d.parameters.length) = some 2 := by decide +kernel
theorem hdX0_due : yX0_due.cls = RX0 ∧ yX0_due.cls ≠ "java/lang/invoke/MethodHandle" ∧ yX0_due.cls ≠ "java/lang/invoke/VarHandle" ∧ (parseMethodDescriptor yX0_due.desc).map (fun d => d.parameters.length) = some 1 := by decide +kernel
theorem hdX0_isTimed : yX0_isTimed.cls = RX0 ∧ yX0_isTimed.cls ≠ "java/lang/invoke/MethodHandle" ∧ yX0_isTimed.cls ≠ "java/lang/invoke/VarHandle" ∧ (parseMethodDescriptor yX0_isTimed.desc).map (fun d => d.parameters.length) = some 0 := by decide +kernel
theorem hdX0_speedAt : yX0_speedAt.cls = RX0 ∧ yX0_speedAt.cls ≠ "java/lang/invoke/MethodHandle" ∧ yX0_speedAt.cls ≠ "java/lang/invoke/VarHandle" ∧ (parseMethodDescriptor yX0_speedAt.desc).map (fun d => d.parameters.length) = some 1 := by decide +kernel
theorem hdX0_dueAt : yX0_dueAt.cls = RX0 ∧ yX0_dueAt.cls ≠ "java/lang/invoke/MethodHandle" ∧ yX0_dueAt.cls ≠ "java/lang/invoke/VarHandle" ∧ (parseMethodDescriptor yX0_dueAt.desc).map (fun d => d.parameters.length) = some 1 := by decide +kernel
theorem hdX0_nextPlace : yX0_nextPlace.cls = RX0 ∧ yX0_nextPlace.cls ≠ "java/lang/invoke/MethodHandle" ∧ yX0_nextPlace.cls ≠ "java/lang/invoke/VarHandle" ∧ (parseMethodDescriptor yX0_nextPlace.desc).map (fun d => d.parameters.length) = some 2 := by decide +kernel
theorem hdX0_roadAt : yX0_roadAt.cls = RX0 ∧ yX0_roadAt.cls ≠ "java/lang/invoke/MethodHandle" ∧ yX0_roadAt.cls ≠ "java/lang/invoke/VarHandle" ∧ (parseMethodDescriptor yX0_roadAt.desc).map (fun d => d.parameters.length) = some 1 := by decide +kernel
theorem hdX0_control : yX0_control.cls = RX0 ∧ yX0_control.cls ≠ "java/lang/invoke/MethodHandle" ∧ yX0_control.cls ≠ "java/lang/invoke/VarHandle" ∧ (parseMethodDescriptor yX0_control.desc).map (fun d => d.parameters.length) = some 1 := by decide +kernel
theorem hdX0_watch : yX0_watch.cls = RX0 ∧ yX0_watch.cls ≠ "java/lang/invoke/MethodHandle" ∧ yX0_watch.cls ≠ "java/lang/invoke/VarHandle" ∧ (parseMethodDescriptor yX0_watch.desc).map (fun d => d.parameters.length) = some 5 := by decide +kernel
theorem hdX0_isControl : yX0_isControl.cls = RX0 ∧ yX0_isControl.cls ≠ "java/lang/invoke/MethodHandle" ∧ yX0_isControl.cls ≠ "java/lang/invoke/VarHandle" ∧ (parseMethodDescriptor yX0_isControl.desc).map (fun d => d.parameters.length) = some 1 := by decide +kernel
theorem hdX0_isTime : yX0_isTime.cls = RX0 ∧ yX0_isTime.cls ≠ "java/lang/invoke/MethodHandle" ∧ yX0_isTime.cls ≠ "java/lang/invoke/VarHandle" ∧ (parseMethodDescriptor yX0_isTime.desc).map (fun d => d.parameters.length) = some 1 := by decide +kernel
theorem hdX0_right : yX0_right.cls = RX0 ∧ yX0_right.cls ≠ "java/lang/invoke/MethodHandle" ∧ yX0_right.cls ≠ "java/lang/invoke/VarHandle" ∧ (parseMethodDescriptor yX0_right.desc).map (fun d => d.parameters.length) = some 2 := by decide +kernel
theorem hdX0_strike : yX0_strike.cls = RX0 ∧ yX0_strike.cls ≠ "java/lang/invoke/MethodHandle" ∧ yX0_strike.cls ≠ "java/lang/invoke/VarHandle" ∧ (parseMethodDescriptor yX0_strike.desc).map (fun d => d.parameters.length) = some 2 := by decide +kernel
theorem hdX0_car : yX0_car.cls = RX0 ∧ yX0_car.cls ≠ "java/lang/invoke/MethodHandle" ∧ yX0_car.cls ≠ "java/lang/invoke/VarHandle" ∧ (parseMethodDescriptor yX0_car.desc).map (fun d => d.parameters.length) = some 2 := by decide +kernel
theorem hdX0_clock : yX0_clock.cls = RX0 ∧ yX0_clock.cls ≠ "java/lang/invoke/MethodHandle" ∧ yX0_clock.cls ≠ "java/lang/invoke/VarHandle" ∧ (parseMethodDescriptor yX0_clock.desc).map (fun d => d.parameters.length) = some 3 := by decide +kernel
theorem hdX0_isCar : yX0_isCar.cls = RX0 ∧ yX0_isCar.cls ≠ "java/lang/invoke/MethodHandle" ∧ yX0_isCar.cls ≠ "java/lang/invoke/VarHandle" ∧ (parseMethodDescriptor yX0_isCar.desc).map (fun d => d.parameters.length) = some 1 := by decide +kernel
theorem hdX0_allow : yX0_allow.cls = RX0 ∧ yX0_allow.cls ≠ "java/lang/invoke/MethodHandle" ∧ yX0_allow.cls ≠ "java/lang/invoke/VarHandle" ∧ (parseMethodDescriptor yX0_allow.desc).map (fun d => d.parameters.length) = some 3 := by decide +kernel
theorem hdX0_error : yX0_error.cls = RX0 ∧ yX0_error.cls ≠ "java/lang/invoke/MethodHandle" ∧ yX0_error.cls ≠ "java/lang/invoke/VarHandle" ∧ (parseMethodDescriptor yX0_error.desc).map (fun d => d.parameters.length) = some 2 := by decide +kernel
theorem hdX0_points : yX0_points.cls = RX0 ∧ yX0_points.cls ≠ "java/lang/invoke/MethodHandle" ∧ yX0_points.cls ≠ "java/lang/invoke/VarHandle" ∧ (parseMethodDescriptor yX0_points.desc).map (fun d => d.parameters.length) = some 2 := by decide +kernel
theorem hdX0_result : yX0_result.cls = RX0 ∧ yX0_result.cls ≠ "java/lang/invoke/MethodHandle" ∧ yX0_result.cls ≠ "java/lang/invoke/VarHandle" ∧ (parseMethodDescriptor yX0_result.desc).map (fun d => d.parameters.length) = some 2 := by decide +kernel
theorem hdX0_isBetter : yX0_isBetter.cls = RX0 ∧ yX0_isBetter.cls ≠ "java/lang/invoke/MethodHandle" ∧ yX0_isBetter.cls ≠ "java/lang/invoke/VarHandle" ∧ (parseMethodDescriptor yX0_isBetter.desc).map (fun d => d.parameters.length) = some 2 := by decide +kernel
theorem hdX0_nextControl : yX0_nextControl.cls = RX0 ∧ yX0_nextControl.cls ≠ "java/lang/invoke/MethodHandle" ∧ yX0_nextControl.cls ≠ "java/lang/invoke/VarHandle" ∧ (parseMethodDescriptor yX0_nextControl.desc).map (fun d => d.parameters.length) = some 1 := by decide +kernel
theorem hdX0_sheet : yX0_sheet.cls = RX0 ∧ yX0_sheet.cls ≠ "java/lang/invoke/MethodHandle" ∧ yX0_sheet.cls ≠ "java/lang/invoke/VarHandle" ∧ (parseMethodDescriptor yX0_sheet.desc).map (fun d => d.parameters.length) = some 3 := by decide +kernel
theorem hdX0_isSheet : yX0_isSheet.cls = RX0 ∧ yX0_isSheet.cls ≠ "java/lang/invoke/MethodHandle" ∧ yX0_isSheet.cls ≠ "java/lang/invoke/VarHandle" ∧ (parseMethodDescriptor yX0_isSheet.desc).map (fun d => d.parameters.length) = some 1 := by decide +kernel
theorem hdX0_isLane : yX0_isLane.cls = RX0 ∧ yX0_isLane.cls ≠ "java/lang/invoke/MethodHandle" ∧ yX0_isLane.cls ≠ "java/lang/invoke/VarHandle" ∧ (parseMethodDescriptor yX0_isLane.desc).map (fun d => d.parameters.length) = some 1 := by decide +kernel
theorem hdX0_lose : yX0_lose.cls = RX0 ∧ yX0_lose.cls ≠ "java/lang/invoke/MethodHandle" ∧ yX0_lose.cls ≠ "java/lang/invoke/VarHandle" ∧ (parseMethodDescriptor yX0_lose.desc).map (fun d => d.parameters.length) = some 1 := by decide +kernel
theorem hdX0_put : yX0_put.cls = RX0 ∧ yX0_put.cls ≠ "java/lang/invoke/MethodHandle" ∧ yX0_put.cls ≠ "java/lang/invoke/VarHandle" ∧ (parseMethodDescriptor yX0_put.desc).map (fun d => d.parameters.length) = some 3 := by decide +kernel
theorem hdX0_cell : yX0_cell.cls = RX0 ∧ yX0_cell.cls ≠ "java/lang/invoke/MethodHandle" ∧ yX0_cell.cls ≠ "java/lang/invoke/VarHandle" ∧ (parseMethodDescriptor yX0_cell.desc).map (fun d => d.parameters.length) = some 3 := by decide +kernel
theorem hdX0_asLane : yX0_asLane.cls = RX0 ∧ yX0_asLane.cls ≠ "java/lang/invoke/MethodHandle" ∧ yX0_asLane.cls ≠ "java/lang/invoke/VarHandle" ∧ (parseMethodDescriptor yX0_asLane.desc).map (fun d => d.parameters.length) = some 2 := by decide +kernel
theorem hdX0_cellOf : yX0_cellOf.cls = RX0 ∧ yX0_cellOf.cls ≠ "java/lang/invoke/MethodHandle" ∧ yX0_cellOf.cls ≠ "java/lang/invoke/VarHandle" ∧ (parseMethodDescriptor yX0_cellOf.desc).map (fun d => d.parameters.length) = some 2 := by decide +kernel
theorem hdX0_lost : yX0_lost.cls = RX0 ∧ yX0_lost.cls ≠ "java/lang/invoke/MethodHandle" ∧ yX0_lost.cls ≠ "java/lang/invoke/VarHandle" ∧ (parseMethodDescriptor yX0_lost.desc).map (fun d => d.parameters.length) = some 1 := by decide +kernel
theorem hdX0_copy : yX0_copy.cls = RX0 ∧ yX0_copy.cls ≠ "java/lang/invoke/MethodHandle" ∧ yX0_copy.cls ≠ "java/lang/invoke/VarHandle" ∧ (parseMethodDescriptor yX0_copy.desc).map (fun d => d.parameters.length) = some 5 := by decide +kernel
theorem hdX0_book : yX0_book.cls = RX0 ∧ yX0_book.cls ≠ "java/lang/invoke/MethodHandle" ∧ yX0_book.cls ≠ "java/lang/invoke/VarHandle" ∧ (parseMethodDescriptor yX0_book.desc).map (fun d => d.parameters.length) = some 4 := by decide +kernel
theorem hdX0_taken : yX0_taken.cls = RX0 ∧ yX0_taken.cls ≠ "java/lang/invoke/MethodHandle" ∧ yX0_taken.cls ≠ "java/lang/invoke/VarHandle" ∧ (parseMethodDescriptor yX0_taken.desc).map (fun d => d.parameters.length) = some 3 := by decide +kernel
theorem hdX0_lengthOf : yX0_lengthOf.cls = RX0 ∧ yX0_lengthOf.cls ≠ "java/lang/invoke/MethodHandle" ∧ yX0_lengthOf.cls ≠ "java/lang/invoke/VarHandle" ∧ (parseMethodDescriptor yX0_lengthOf.desc).map (fun d => d.parameters.length) = some 1 := by decide +kernel
theorem hdX0_isBook : yX0_isBook.cls = RX0 ∧ yX0_isBook.cls ≠ "java/lang/invoke/MethodHandle" ∧ yX0_isBook.cls ≠ "java/lang/invoke/VarHandle" ∧ (parseMethodDescriptor yX0_isBook.desc).map (fun d => d.parameters.length) = some 1 := by decide +kernel
theorem hdX0_proof : yX0_proof.cls = RX0 ∧ yX0_proof.cls ≠ "java/lang/invoke/MethodHandle" ∧ yX0_proof.cls ≠ "java/lang/invoke/VarHandle" ∧ (parseMethodDescriptor yX0_proof.desc).map (fun d => d.parameters.length) = some 4 := by decide +kernel
theorem hdX0_worth : yX0_worth.cls = RX0 ∧ yX0_worth.cls ≠ "java/lang/invoke/MethodHandle" ∧ yX0_worth.cls ≠ "java/lang/invoke/VarHandle" ∧ (parseMethodDescriptor yX0_worth.desc).map (fun d => d.parameters.length) = some 1 := by decide +kernel
theorem hdX0_tell : yX0_tell.cls = RX0 ∧ yX0_tell.cls ≠ "java/lang/invoke/MethodHandle" ∧ yX0_tell.cls ≠ "java/lang/invoke/VarHandle" ∧ (parseMethodDescriptor yX0_tell.desc).map (fun d => d.parameters.length) = some 1 := by decide +kernel
theorem hdX0_begins : yX0_begins.cls = RX0 ∧ yX0_begins.cls ≠ "java/lang/invoke/MethodHandle" ∧ yX0_begins.cls ≠ "java/lang/invoke/VarHandle" ∧ (parseMethodDescriptor yX0_begins.desc).map (fun d => d.parameters.length) = some 1 := by decide +kernel
theorem hdX0_greet : yX0_greet.cls = RX0 ∧ yX0_greet.cls ≠ "java/lang/invoke/MethodHandle" ∧ yX0_greet.cls ≠ "java/lang/invoke/VarHandle" ∧ (parseMethodDescriptor yX0_greet.desc).map (fun d => d.parameters.length) = some 1 := by decide +kernel
theorem hdX0_as : yX0_as.cls = RX0 ∧ yX0_as.cls ≠ "java/lang/invoke/MethodHandle" ∧ yX0_as.cls ≠ "java/lang/invoke/VarHandle" ∧ (parseMethodDescriptor yX0_as.desc).map (fun d => d.parameters.length) = some 2 := by decide +kernel
theorem hdX0_of : yX0_of.cls = RX0 ∧ yX0_of.cls ≠ "java/lang/invoke/MethodHandle" ∧ yX0_of.cls ≠ "java/lang/invoke/VarHandle" ∧ (parseMethodDescriptor yX0_of.desc).map (fun d => d.parameters.length) = some 2 := by decide +kernel
theorem hdX0_trace : yX0_trace.cls = RX0 ∧ yX0_trace.cls ≠ "java/lang/invoke/MethodHandle" ∧ yX0_trace.cls ≠ "java/lang/invoke/VarHandle" ∧ (parseMethodDescriptor yX0_trace.desc).map (fun d => d.parameters.length) = some 0 := by decide +kernel
theorem hdX0_fault : yX0_fault.cls = RX0 ∧ yX0_fault.cls ≠ "java/lang/invoke/MethodHandle" ∧ yX0_fault.cls ≠ "java/lang/invoke/VarHandle" ∧ (parseMethodDescriptor yX0_fault.desc).map (fun d => d.parameters.length) = some 0 := by decide +kernel
theorem hdX0_told : yX0_told.cls = RX0 ∧ yX0_told.cls ≠ "java/lang/invoke/MethodHandle" ∧ yX0_told.cls ≠ "java/lang/invoke/VarHandle" ∧ (parseMethodDescriptor yX0_told.desc).map (fun d => d.parameters.length) = some 1 := by decide +kernel
theorem hdX10_greet : yX10_greet.cls = RX10 ∧ yX10_greet.cls ≠ "java/lang/invoke/MethodHandle" ∧ yX10_greet.cls ≠ "java/lang/invoke/VarHandle" ∧ (parseMethodDescriptor yX10_greet.desc).map (fun d => d.parameters.length) = some 0 := by decide +kernel
theorem hdX2_init : yX2_init.cls = RX2 ∧ yX2_init.cls ≠ "java/lang/invoke/MethodHandle" ∧ yX2_init.cls ≠ "java/lang/invoke/VarHandle" ∧ (parseMethodDescriptor yX2_init.desc).map (fun d => d.parameters.length) = some 4 := by decide +kernel
theorem hdX2_kind : yX2_kind.cls = RX2 ∧ yX2_kind.cls ≠ "java/lang/invoke/MethodHandle" ∧ yX2_kind.cls ≠ "java/lang/invoke/VarHandle" ∧ (parseMethodDescriptor yX2_kind.desc).map (fun d => d.parameters.length) = some 0 := by decide +kernel
theorem hdX2_isOpen : yX2_isOpen.cls = RX2 ∧ yX2_isOpen.cls ≠ "java/lang/invoke/MethodHandle" ∧ yX2_isOpen.cls ≠ "java/lang/invoke/VarHandle" ∧ (parseMethodDescriptor yX2_isOpen.desc).map (fun d => d.parameters.length) = some 0 := by decide +kernel
theorem hdX2_from : yX2_from.cls = RX2 ∧ yX2_from.cls ≠ "java/lang/invoke/MethodHandle" ∧ yX2_from.cls ≠ "java/lang/invoke/VarHandle" ∧ (parseMethodDescriptor yX2_from.desc).map (fun d => d.parameters.length) = some 1 := by decide +kernel
theorem hdX2_tell : yX2_tell.cls = RX2 ∧ yX2_tell.cls ≠ "java/lang/invoke/MethodHandle" ∧ yX2_tell.cls ≠ "java/lang/invoke/VarHandle" ∧ (parseMethodDescriptor yX2_tell.desc).map (fun d => d.parameters.length) = some 0 := by decide +kernel
theorem hdX3_init : yX3_init.cls = RX3 ∧ yX3_init.cls ≠ "java/lang/invoke/MethodHandle" ∧ yX3_init.cls ≠ "java/lang/invoke/VarHandle" ∧ (parseMethodDescriptor yX3_init.desc).map (fun d => d.parameters.length) = some 4 := by decide +kernel
theorem hdX3_kind : yX3_kind.cls = RX3 ∧ yX3_kind.cls ≠ "java/lang/invoke/MethodHandle" ∧ yX3_kind.cls ≠ "java/lang/invoke/VarHandle" ∧ (parseMethodDescriptor yX3_kind.desc).map (fun d => d.parameters.length) = some 0 := by decide +kernel
theorem hdX3_from : yX3_from.cls = RX3 ∧ yX3_from.cls ≠ "java/lang/invoke/MethodHandle" ∧ yX3_from.cls ≠ "java/lang/invoke/VarHandle" ∧ (parseMethodDescriptor yX3_from.desc).map (fun d => d.parameters.length) = some 1 := by decide +kernel
theorem hdX3_tell : yX3_tell.cls = RX3 ∧ yX3_tell.cls ≠ "java/lang/invoke/MethodHandle" ∧ yX3_tell.cls ≠ "java/lang/invoke/VarHandle" ∧ (parseMethodDescriptor yX3_tell.desc).map (fun d => d.parameters.length) = some 0 := by decide +kernel
theorem hdX4_init : yX4_init.cls = RX4 ∧ yX4_init.cls ≠ "java/lang/invoke/MethodHandle" ∧ yX4_init.cls ≠ "java/lang/invoke/VarHandle" ∧ (parseMethodDescriptor yX4_init.desc).map (fun d => d.parameters.length) = some 4 := by decide +kernel
theorem hdX4_kind : yX4_kind.cls = RX4 ∧ yX4_kind.cls ≠ "java/lang/invoke/MethodHandle" ∧ yX4_kind.cls ≠ "java/lang/invoke/VarHandle" ∧ (parseMethodDescriptor yX4_kind.desc).map (fun d => d.parameters.length) = some 0 := by decide +kernel
theorem hdX4_isOpen : yX4_isOpen.cls = RX4 ∧ yX4_isOpen.cls ≠ "java/lang/invoke/MethodHandle" ∧ yX4_isOpen.cls ≠ "java/lang/invoke/VarHandle" ∧ (parseMethodDescriptor yX4_isOpen.desc).map (fun d => d.parameters.length) = some 0 := by decide +kernel
theorem hdX4_tell : yX4_tell.cls = RX4 ∧ yX4_tell.cls ≠ "java/lang/invoke/MethodHandle" ∧ yX4_tell.cls ≠ "java/lang/invoke/VarHandle" ∧ (parseMethodDescriptor yX4_tell.desc).map (fun d => d.parameters.length) = some 0 := by decide +kernel
theorem hdX5_init : yX5_init.cls = RX5 ∧ yX5_init.cls ≠ "java/lang/invoke/MethodHandle" ∧ yX5_init.cls ≠ "java/lang/invoke/VarHandle" ∧ (parseMethodDescriptor yX5_init.desc).map (fun d => d.parameters.length) = some 0 := by decide +kernel
theorem hdX6_init : yX6_init.cls = RX6 ∧ yX6_init.cls ≠ "java/lang/invoke/MethodHandle" ∧ yX6_init.cls ≠ "java/lang/invoke/VarHandle" ∧ (parseMethodDescriptor yX6_init.desc).map (fun d => d.parameters.length) = some 1 := by decide +kernel
theorem hdX6_right : yX6_right.cls = RX6 ∧ yX6_right.cls ≠ "java/lang/invoke/MethodHandle" ∧ yX6_right.cls ≠ "java/lang/invoke/VarHandle" ∧ (parseMethodDescriptor yX6_right.desc).map (fun d => d.parameters.length) = some 1 := by decide +kernel
theorem hdX7_forget : yX7_forget.cls = RX7 ∧ yX7_forget.cls ≠ "java/lang/invoke/MethodHandle" ∧ yX7_forget.cls ≠ "java/lang/invoke/VarHandle" ∧ (parseMethodDescriptor yX7_forget.desc).map (fun d => d.parameters.length) = some 0 := by decide +kernel
theorem hdX7_init : yX7_init.cls = RX7 ∧ yX7_init.cls ≠ "java/lang/invoke/MethodHandle" ∧ yX7_init.cls ≠ "java/lang/invoke/VarHandle" ∧ (parseMethodDescriptor yX7_init.desc).map (fun d => d.parameters.length) = some 3 := by decide +kernel
theorem hdX7_isClocked : yX7_isClocked.cls = RX7 ∧ yX7_isClocked.cls ≠ "java/lang/invoke/MethodHandle" ∧ yX7_isClocked.cls ≠ "java/lang/invoke/VarHandle" ∧ (parseMethodDescriptor yX7_isClocked.desc).map (fun d => d.parameters.length) = some 1 := by decide +kernel
theorem hdX7_clock : yX7_clock.cls = RX7 ∧ yX7_clock.cls ≠ "java/lang/invoke/MethodHandle" ∧ yX7_clock.cls ≠ "java/lang/invoke/VarHandle" ∧ (parseMethodDescriptor yX7_clock.desc).map (fun d => d.parameters.length) = some 2 := by decide +kernel
theorem hdX7_error : yX7_error.cls = RX7 ∧ yX7_error.cls ≠ "java/lang/invoke/MethodHandle" ∧ yX7_error.cls ≠ "java/lang/invoke/VarHandle" ∧ (parseMethodDescriptor yX7_error.desc).map (fun d => d.parameters.length) = some 1 := by decide +kernel
theorem hdX7_claimed : yX7_claimed.cls = RX7 ∧ yX7_claimed.cls ≠ "java/lang/invoke/MethodHandle" ∧ yX7_claimed.cls ≠ "java/lang/invoke/VarHandle" ∧ (parseMethodDescriptor yX7_claimed.desc).map (fun d => d.parameters.length) = some 1 := by decide +kernel
theorem hdX7_points : yX7_points.cls = RX7 ∧ yX7_points.cls ≠ "java/lang/invoke/MethodHandle" ∧ yX7_points.cls ≠ "java/lang/invoke/VarHandle" ∧ (parseMethodDescriptor yX7_points.desc).map (fun d => d.parameters.length) = some 1 := by decide +kernel
theorem hdX7_isOutOfOrder : yX7_isOutOfOrder.cls = RX7 ∧ yX7_isOutOfOrder.cls ≠ "java/lang/invoke/MethodHandle" ∧ yX7_isOutOfOrder.cls ≠ "java/lang/invoke/VarHandle" ∧ (parseMethodDescriptor yX7_isOutOfOrder.desc).map (fun d => d.parameters.length) = some 1 := by decide +kernel
theorem hdX7_cost : yX7_cost.cls = RX7 ∧ yX7_cost.cls ≠ "java/lang/invoke/MethodHandle" ∧ yX7_cost.cls ≠ "java/lang/invoke/VarHandle" ∧ (parseMethodDescriptor yX7_cost.desc).map (fun d => d.parameters.length) = some 1 := by decide +kernel
theorem hdX7_total : yX7_total.cls = RX7 ∧ yX7_total.cls ≠ "java/lang/invoke/MethodHandle" ∧ yX7_total.cls ≠ "java/lang/invoke/VarHandle" ∧ (parseMethodDescriptor yX7_total.desc).map (fun d => d.parameters.length) = some 0 := by decide +kernel
theorem hdX7_rally : yX7_rally.cls = RX7 ∧ yX7_rally.cls ≠ "java/lang/invoke/MethodHandle" ∧ yX7_rally.cls ≠ "java/lang/invoke/VarHandle" ∧ (parseMethodDescriptor yX7_rally.desc).map (fun d => d.parameters.length) = some 0 := by decide +kernel
theorem hdX7_number : yX7_number.cls = RX7 ∧ yX7_number.cls ≠ "java/lang/invoke/MethodHandle" ∧ yX7_number.cls ≠ "java/lang/invoke/VarHandle" ∧ (parseMethodDescriptor yX7_number.desc).map (fun d => d.parameters.length) = some 0 := by decide +kernel
theorem hdX7_kind : yX7_kind.cls = RX7 ∧ yX7_kind.cls ≠ "java/lang/invoke/MethodHandle" ∧ yX7_kind.cls ≠ "java/lang/invoke/VarHandle" ∧ (parseMethodDescriptor yX7_kind.desc).map (fun d => d.parameters.length) = some 0 := by decide +kernel
theorem hdX8_init : yX8_init.cls = RX8 ∧ yX8_init.cls ≠ "java/lang/invoke/MethodHandle" ∧ yX8_init.cls ≠ "java/lang/invoke/VarHandle" ∧ (parseMethodDescriptor yX8_init.desc).map (fun d => d.parameters.length) = some 3 := by decide +kernel
theorem hdX8_cost : yX8_cost.cls = RX8 ∧ yX8_cost.cls ≠ "java/lang/invoke/MethodHandle" ∧ yX8_cost.cls ≠ "java/lang/invoke/VarHandle" ∧ (parseMethodDescriptor yX8_cost.desc).map (fun d => d.parameters.length) = some 1 := by decide +kernel
theorem hdX8_greet : yX8_greet.cls = RX8 ∧ yX8_greet.cls ≠ "java/lang/invoke/MethodHandle" ∧ yX8_greet.cls ≠ "java/lang/invoke/VarHandle" ∧ (parseMethodDescriptor yX8_greet.desc).map (fun d => d.parameters.length) = some 0 := by decide +kernel
theorem hdX8_kind : yX8_kind.cls = RX8 ∧ yX8_kind.cls ≠ "java/lang/invoke/MethodHandle" ∧ yX8_kind.cls ≠ "java/lang/invoke/VarHandle" ∧ (parseMethodDescriptor yX8_kind.desc).map (fun d => d.parameters.length) = some 0 := by decide +kernel
theorem hdX9_init : yX9_init.cls = RX9 ∧ yX9_init.cls ≠ "java/lang/invoke/MethodHandle" ∧ yX9_init.cls ≠ "java/lang/invoke/VarHandle" ∧ (parseMethodDescriptor yX9_init.desc).map (fun d => d.parameters.length) = some 3 := by decide +kernel
theorem hdX9_cost : yX9_cost.cls = RX9 ∧ yX9_cost.cls ≠ "java/lang/invoke/MethodHandle" ∧ yX9_cost.cls ≠ "java/lang/invoke/VarHandle" ∧ (parseMethodDescriptor yX9_cost.desc).map (fun d => d.parameters.length) = some 1 := by decide +kernel
theorem hdX9_greet : yX9_greet.cls = RX9 ∧ yX9_greet.cls ≠ "java/lang/invoke/MethodHandle" ∧ yX9_greet.cls ≠ "java/lang/invoke/VarHandle" ∧ (parseMethodDescriptor yX9_greet.desc).map (fun d => d.parameters.length) = some 0 := by decide +kernel
theorem hdX9_kind : yX9_kind.cls = RX9 ∧ yX9_kind.cls ≠ "java/lang/invoke/MethodHandle" ∧ yX9_kind.cls ≠ "java/lang/invoke/VarHandle" ∧ (parseMethodDescriptor yX9_kind.desc).map (fun d => d.parameters.length) = some 0 := by decide +kernel
theorem hdF_size : "java/util/List" ≠ "java/lang/invoke/MethodHandle" ∧ "java/util/List" ≠ "java/lang/invoke/VarHandle" ∧ (parseMethodDescriptor "()I").map (fun d => d.parameters.length) = some 0 := by decide +kernel
theorem hdF_get : "java/util/List" ≠ "java/lang/invoke/MethodHandle" ∧ "java/util/List" ≠ "java/lang/invoke/VarHandle" ∧ (parseMethodDescriptor "(I)Ljava/lang/Object;").map (fun d => d.parameters.length) = some 1 := by decide +kernel
theorem hdF_add : "java/util/List" ≠ "java/lang/invoke/MethodHandle" ∧ "java/util/List" ≠ "java/lang/invoke/VarHandle" ∧ (parseMethodDescriptor "(Ljava/lang/Object;)Z").map (fun d => d.parameters.length) = some 1 := by decide +kernel
theorem hdF_clear : "java/util/List" ≠ "java/lang/invoke/MethodHandle" ∧ "java/util/List" ≠ "java/lang/invoke/VarHandle" ∧ (parseMethodDescriptor "()V").map (fun d => d.parameters.length) = some 0 := by decide +kernel
section XP
variable {p : Program} {l : Launch} {e : Env} {R : Room} {s : State} {m : MethodId} {args : Array Value} {below : List Frame} {meth : Method} {c : Code} {H : Heap} {locs : List Loc} {cells slots : Nat} {Q : State → Prop}
variable {cc : ByteArray} {pc nL maxL index mc ms : Nat} {ls : Array Slot} {rest As st0 : List Value} {D : xD} {A : Nat → Prop} {V : xV} {own : String} {y : MethodName} {bytes : ByteArray} {ret : Option FieldType} {rm : Room} {a : Nat}
theorem x_preE : PreS s H (fun v _ => v = As.toArray) As := preEq
theorem x_nm0 (h : xK D s) : s.vm.findClass ("[" ++ FieldType.int.toString) = some D.2.1 := (h.1.2 0 _ rfl).2
theorem x_nm1 (h : xK D s) : s.vm.findClass ("[" ++ FieldType.byte.toString) = some D.2.2.1 := (h.1.2 1 _ rfl).2
theorem x_nm2 (h : xK D s) : s.vm.findClass ("[" ++ FieldType.short.toString) = some D.2.2.2.1 := (h.1.2 2 _ rfl).2
theorem x_nm3 (h : xK D s) : s.vm.findClass "[Ljava/lang/Object;" = some D.2.2.2.2 := va_nmO (C := "java/lang/Object") (h.1.2 3 _ rfl).2 rfl
theorem x_goWv {F : xV → Prop} {v : Value} {b : Array Value} (hw : xWd D A s V H locs) (hr : va_Run p l e R s m args below meth c H locs cells slots mc ms (F0 m pc ls st0) rest (xQ D A (fun r V' => r = some v ∧ F V') b) A)
    (kk : ∀ (V : xV) (H : Heap) (locs : List Loc), F V → xWd D A s V H locs → W p l e R s m args below meth c H locs (cells + mc) (slots + ms) Q (F0 m (pc + 3) ls (v :: rest))) : W p l e R s m args below meth c H locs cells slots Q (F0 m pc ls st0) :=
  x_goW hw hr (fun r V H locs hp hw => by obtain ⟨rfl, h⟩ := hp; exact kk V H locs h hw)
theorem x_goWn {F : xV → Prop} {b : Array Value} (hw : xWd D A s V H locs) (hr : va_Run p l e R s m args below meth c H locs cells slots mc ms (F0 m pc ls st0) rest (xQ D A (fun r V' => r = none ∧ F V') b) A)
    (kk : ∀ (V : xV) (H : Heap) (locs : List Loc), F V → xWd D A s V H locs → W p l e R s m args below meth c H locs (cells + mc) (slots + ms) Q (F0 m (pc + 3) ls rest)) : W p l e R s m args below meth c H locs cells slots Q (F0 m pc ls st0) :=
  x_goW hw hr (fun r V H locs hp hw => by obtain ⟨rfl, h⟩ := hp; exact kk V H locs h hw)
theorem x_goWv5 {F : xV → Prop} {v : Value} {b : Array Value} (hw : xWd D A s V H locs) (hr : va_Run5 p l e R s m args below meth c H locs cells slots mc ms (F0 m pc ls st0) rest (xQ D A (fun r V' => r = some v ∧ F V') b) A)
    (kk : ∀ (V : xV) (H : Heap) (locs : List Loc), F V → xWd D A s V H locs → W p l e R s m args below meth c H locs (cells + mc) (slots + ms) Q (F0 m (pc + 5) ls (v :: rest))) : W p l e R s m args below meth c H locs cells slots Q (F0 m pc ls st0) :=
  x_goW5 hw hr (fun r V H locs hp hw => by obtain ⟨rfl, h⟩ := hp; exact kk V H locs h hw)
theorem x_goWn5 {F : xV → Prop} {b : Array Value} (hw : xWd D A s V H locs) (hr : va_Run5 p l e R s m args below meth c H locs cells slots mc ms (F0 m pc ls st0) rest (xQ D A (fun r V' => r = none ∧ F V') b) A)
    (kk : ∀ (V : xV) (H : Heap) (locs : List Loc), F V → xWd D A s V H locs → W p l e R s m args below meth c H locs (cells + mc) (slots + ms) Q (F0 m (pc + 5) ls rest)) : W p l e R s m args below meth c H locs cells slots Q (F0 m pc ls st0) :=
  x_goW5 hw hr (fun r V H locs hp hw => by obtain ⟨rfl, h⟩ := hp; exact kk V H locs h hw)
/-- a reference handed back by a method that changes cells: the answer may be new -/
theorem x_aret {post : Option Value → xV → Prop} {v : Value} {rt : FieldType} (E : xE own p c cc s m args D A) (hr : meth.sig.returnType = some rt) (hrt : (∃ n, rt = .object n) ∨ ∃ t, rt = .array t) (hv : v = .null ∨ ∃ a, v = .ref a) (hlk : meth.locks = false) (hw : xWd D A s V H locs) (hd : decode cc pc = .ok (.areturn, 1)) (hp : post (some v) V) :
    W p l e R s m args below meth c H locs cells slots (MQ below (xQ D A post) args s cells slots A) (F0 m pc ls [v]) :=
  W.aret E.1 E.2.1 hr hrt hv (fun t ht hW => x_end hw hp ht) hw.2.2.2 hd hlk
theorem xu_xu (V : xV) (a : Nat) (e1 e2 : va_E) : xu (xu V a e1) a e2 = xu V a e2 := by
  funext b
  by_cases h : b = a
  · subst h; rw [xu_s, xu_s]
  · rw [xu_n h, xu_n h, xu_n h]
theorem xu_comm (V : xV) {a b : Nat} (hab : a ≠ b) (e1 e2 : va_E) : xu (xu V a e1) b e2 = xu (xu V b e2) a e1 := by
  funext q
  by_cases h : q = a
  · subst h; rw [xu_n hab, xu_s, xu_s]
  · by_cases h2 : q = b
    · subst h2; rw [xu_s, xu_n h, xu_s]
    · rw [xu_n h2, xu_n h, xu_n h, xu_n h2]
theorem xu_id {V : xV} {a : Nat} {e : va_E} (h : V a = some e) : xu V a e = V := by
  funext b
  by_cases hb : b = a
  · subst hb; rw [xu_s, h]
  · rw [xu_n hb]
/-- System.arraycopy of small values, between arrays of one class -/
theorem x_cpi (E : xE own p c cc s m args D A) (hw : xWd D A s V H locs) (hml : c.maxLocals = nL) (hls : ls.size = nL) (hlink : Cond.methodLink own index arraycopyName ∈ lw_all) (hnat : Cond.native arraycopyName ∈ lw_all) (hstat : Cond.static arraycopyName ∈ lw_all) (hini : Cond.initialized "java/lang/System" ∈ lw_all)
    {a0 t0 n0 n1 : Nat} {cA : ClassId} {f g : Nat → Int32} {ty : FieldType} (ha0 : V a0 = some (.inl (cA, n0, .inl f))) (ha1 : V a = some (.inl (cA, n1, .inl g))) (ht : (xTy D)[t0]? = some (cA, ty)) (hprim : refKind ty = false)
    {sp dp n : Int32} (h1 : ¬ sp < 0) (h2 : ¬ dp < 0) (h3 : ¬ n < 0) (h4 : sp.toNatClampNeg + n.toNatClampNeg ≤ n0) (h5 : dp.toNatClampNeg + n.toNatClampNeg ≤ n1) (hfit : ∀ i, i < n.toNatClampNeg → fits ty (.int (f (sp.toNatClampNeg + i))) = true)
    (hframes : 1 ≤ R.frames) (hlocals : (rest.map fun v => v.category).sum + (nativeFrameWords "java/lang/System" "arraycopy" 5 + 11) ≤ R.locals) (hdg : decode cc pc = .ok (.invokestatic index, 3))
    (kk : ∀ (V1 : xV) (H1 : Heap) (locs1 : List Loc), V1 = xu V a (.inl (cA, n1, .inl (va_cpy f g sp.toNatClampNeg dp.toNatClampNeg n.toNatClampNeg))) → xWd D A s V1 H1 locs1 → W p l e R s m args below meth c H1 locs1 cells slots Q (F0 m (pc + 3) ls rest)) : W p l e R s m args below meth c H locs cells slots Q (F0 m pc ls (.int n :: .int dp :: .ref a :: .int sp :: .ref a0 :: rest)) := by
  have nn : ∀ z : Int32, ¬ z < 0 → z.toInt = (z.toNatClampNeg : Int) := by
    intro z hz
    have hz0 : (0 : Int) ≤ z.toInt := by
      have := Int32.not_lt.mp hz
      simpa using Int32.le_iff_toInt_le.mp this
    show z.toInt = ((z.toInt.toNat : Nat) : Int)
    omega
  intro T hT X
  have hc0 : H[a0]? = some (vp_cell cA (n0, .inl f)) := (hw.1.2 a0 _ ha0).2
  have hc1 : H[a]? = some (vp_cell cA (n1, .inl g)) := (hw.1.2 a _ ha1).2
  obtain ⟨-, k0, hk0, cm0, hkk0⟩ := (E.2.2.2.2.1.1.2 t0 _ ht).1 n0 (fun j => .int (f j))
  obtain ⟨vm', X', step⟩ := X.arraycopy E.1 E.2.2.2.1 (E.2.2.1 _ hlink) (E.2.2.1 _ hnat) (E.2.2.1 _ hstat) (E.2.2.1 _ hini) (src := a0) (dst := a) (cs := vp_cell cA (n0, .inl f)) (cd := vp_cell cA (n1, .inl g)) (srcPos := sp) (destPos := dp) (n := n) (by rw [hT]; exact hc0) (by rw [hT]; exact hc1)
    (fun _ h => by cases h) (fun _ h => by cases h) (fun h => by cases h) (fun h => by cases h) hk0 hk0 hkk0 hkk0 (by simp) h1 h2 h3
    (by rw [nn sp h1, nn n h3]; show ¬ _ > ((arrV cA n0 (fun j => .int (f j))).slots.size : Int); rw [arrV_size]; omega)
    (by rw [nn dp h2, nn n h3]; show ¬ _ > ((arrV cA n1 (fun j => .int (g j))).slots.size : Int); rw [arrV_size]; omega)
    (fun vm₁ hal i hi => by
      have e : (vp_cell cA (n0, .inl f)).slots.getD (sp.toNatClampNeg + i) .null = .int (f (sp.toNatClampNeg + i)) := by
        show (arrV cA n0 (fun j => .int (f j))).slots.getD _ _ = _
        rw [Array.getD_eq_getD_getElem?, arrV_read _ _ (by omega)]
        rfl
      rw [e]
      exact ⟨hfit i hi, trivial⟩)
    (g := F0 m pc ls (.int n :: .int dp :: .ref a :: .int sp :: .ref a0 :: rest)) rfl (by rw [hml]; exact hls) (rest := rest) rfl (by rw [E.2.1]; exact hdg) hframes (by show 2 * 0 + _ + _ ≤ _; omega)
  have e1 : copied (vp_cell cA (n0, .inl f)) (vp_cell cA (n1, .inl g)) sp dp n = vp_cell cA (n1, .inl (va_cpy f g sp.toNatClampNeg dp.toNatClampNeg n.toNatClampNeg)) := by
    rw [vp_cell_i, vp_cell_i, vp_cell_i]
    exact va_copied (fun z => .int z) cA cA f g h4
  rw [e1] at X' step
  have hl : a < H.size := (Array.getElem?_eq_some_iff.mp hc1).1
  have hheap : ((T.setVm vm').setCell a (vp_cell cA (n1, .inl (va_cpy f g sp.toNatClampNeg dp.toNatClampNeg n.toNatClampNeg)))).heap = H.setIfInBounds a (vp_cell cA (n1, .inl (va_cpy f g sp.toNatClampNeg dp.toNatClampNeg n.toNatClampNeg))) := by rw [← hT]; rfl
  have oq : ∀ q : Nat, q ≠ a → (H.setIfInBounds a (vp_cell cA (n1, .inl (va_cpy f g sp.toNatClampNeg dp.toNatClampNeg n.toNatClampNeg))))[q]? = H[q]? := fun q hq => by simp [Array.getElem?_setIfInBounds, Ne.symm hq]
  have ha : (H.setIfInBounds a (vp_cell cA (n1, .inl (va_cpy f g sp.toNatClampNeg dp.toNatClampNeg n.toNatClampNeg))))[a]? = some (vp_cell cA (n1, .inl (va_cpy f g sp.toNatClampNeg dp.toNatClampNeg n.toNatClampNeg))) := by simp [Array.getElem?_setIfInBounds, hl]
  by_cases hn0 : n.toNatClampNeg = 0
  · have hcp : va_cpy f g sp.toNatClampNeg dp.toNatClampNeg n.toNatClampNeg = g := by
      funext k
      rw [hn0]
      exact if_neg (by omega)
    rw [hcp] at ha
    obtain ⟨t, a1, b1⟩ := kk _ _ _ rfl ⟨⟨fun q hq => hw.1.1 q (by simpa using hq), fun b x hb => by
        rw [hcp, xu_id ha1] at hb
        by_cases hba : b = a
        · subst hba
          cases hb.symm.trans ha1
          exact ⟨(hw.1.2 b _ hb).1, show _ = _ by rw [hcp]; exact ha⟩
        · exact ⟨(hw.1.2 b x hb).1, (hw.1.2 b x hb).2.kept (oq b hba)⟩⟩, by simp; exact hw.2.1, fun q g1 g2 => by
        by_cases hqa : q = a
        · subst hqa
          rw [hcp, ha, ← hc1]
          exact hw.2.2.1 q g1 g2
        · rw [oq q hqa]
          exact hw.2.2.1 q g1 g2, fun q hq => by
        rcases List.mem_append.mp hq with h | h
        · exact hw.2.2.2 q h
        · simp [hn0, Cell.stretch] at h⟩ _ hheap X'
    exact ⟨t, step t a1, b1⟩
  · have hA : A a := ((hw.1.2 a _ ha1).1).resolve_right (fun ⟨c', f', h⟩ => by cases h; omega)
    obtain ⟨t, a1, b1⟩ := kk _ _ _ rfl ⟨⟨fun q hq => hw.1.1 q (by simpa using hq), fun b x hb => by
        by_cases hba : b = a
        · subst hba
          rw [xu_s] at hb
          cases hb
          exact ⟨Or.inl hA, ha⟩
        · rw [xu_n hba] at hb
          exact ⟨(hw.1.2 b x hb).1, (hw.1.2 b x hb).2.kept (oq b hba)⟩⟩, by simp; exact hw.2.1, fun q g1 g2 => by
        rw [oq q (fun e => g2 (by rw [e]; exact hA))]
        exact hw.2.2.1 q g1 g2, fun q hq => by
        rcases List.mem_append.mp hq with h | h
        · exact hw.2.2.2 q h
        · obtain ⟨z, -, hz⟩ := List.mem_map.mp h
          rw [← hz]
          exact hA⟩ _ hheap X'
    exact ⟨t, step t a1, b1⟩
/-- .. of references into an Object[] -/
theorem x_cpo (E : xE own p c cc s m args D A) (hw : xWd D A s V H locs) (hml : c.maxLocals = nL) (hls : ls.size = nL) (hlink : Cond.methodLink own index arraycopyName ∈ lw_all) (hnat : Cond.native arraycopyName ∈ lw_all) (hstat : Cond.static arraycopyName ∈ lw_all) (hini : Cond.initialized "java/lang/System" ∈ lw_all)
    {a0 n0 n1 : Nat} {f g : Nat → Option Nat} (ha0 : V a0 = some (.inl (D.2.2.2.2, n0, .inr (.inr (.inr (.inr f)))))) (ha1 : V a = some (.inl (D.2.2.2.2, n1, .inr (.inr (.inr (.inr g)))))) (hn1 : 0 < n1)
    {sp dp n : Int32} (h1 : ¬ sp < 0) (h2 : ¬ dp < 0) (h3 : ¬ n < 0) (h4 : sp.toNatClampNeg + n.toNatClampNeg ≤ n0) (h5 : dp.toNatClampNeg + n.toNatClampNeg ≤ n1) (hel : ∀ i : Nat, i < n.toNatClampNeg → ∀ y : Nat, f (sp.toNatClampNeg + i) = some y → va_Any "java/lang/Object" s H y)
    (hframes : 1 ≤ R.frames) (hlocals : (rest.map fun v => v.category).sum + (nativeFrameWords "java/lang/System" "arraycopy" 5 + 11) ≤ R.locals) (hdg : decode cc pc = .ok (.invokestatic index, 3))
    (kk : ∀ (V1 : xV) (H1 : Heap) (locs1 : List Loc), V1 = xu V a (.inl (D.2.2.2.2, n1, .inr (.inr (.inr (.inr (va_cpy f g sp.toNatClampNeg dp.toNatClampNeg n.toNatClampNeg)))))) → xWd D A s V1 H1 locs1 → W p l e R s m args below meth c H1 locs1 cells slots Q (F0 m (pc + 3) ls rest)) : W p l e R s m args below meth c H locs cells slots Q (F0 m pc ls (.int n :: .int dp :: .ref a :: .int sp :: .ref a0 :: rest)) := by
  have nn : ∀ z : Int32, ¬ z < 0 → z.toInt = (z.toNatClampNeg : Int) := by
    intro z hz
    have hz0 : (0 : Int) ≤ z.toInt := by
      have := Int32.not_lt.mp hz
      simpa using Int32.le_iff_toInt_le.mp this
    show z.toInt = ((z.toInt.toNat : Nat) : Int)
    omega
  intro T hT X
  have hc0 : H[a0]? = some (vp_cell D.2.2.2.2 (n0, .inr (.inr (.inr (.inr f))))) := (hw.1.2 a0 _ ha0).2
  have hc1 : H[a]? = some (vp_cell D.2.2.2.2 (n1, .inr (.inr (.inr (.inr g))))) := (hw.1.2 a _ ha1).2
  have hA : A a := ((hw.1.2 a _ ha1).1).resolve_right (fun ⟨c', f', h⟩ => by cases h; omega)
  obtain ⟨-, k0, hk0, cm0, hkk0⟩ := (E.2.2.2.2.1.1.2 3 _ rfl).1 n0 (fun j => va_rf (f j))
  obtain ⟨vm', X', step⟩ := X.arraycopy E.1 E.2.2.2.1 (E.2.2.1 _ hlink) (E.2.2.1 _ hnat) (E.2.2.1 _ hstat) (E.2.2.1 _ hini) (src := a0) (dst := a) (cs := vp_cell D.2.2.2.2 (n0, .inr (.inr (.inr (.inr f))))) (cd := vp_cell D.2.2.2.2 (n1, .inr (.inr (.inr (.inr g))))) (srcPos := sp) (destPos := dp) (n := n) (by rw [hT]; exact hc0) (by rw [hT]; exact hc1)
    (fun _ h => by cases h) (fun _ h => by cases h) (fun h => by cases h) (fun h => by cases h) hk0 hk0 hkk0 hkk0 rfl h1 h2 h3
    (by rw [nn sp h1, nn n h3]; show ¬ _ > ((arrV D.2.2.2.2 n0 (fun j => va_rf (f j))).slots.size : Int); rw [arrV_size]; omega)
    (by rw [nn dp h2, nn n h3]; show ¬ _ > ((arrV D.2.2.2.2 n1 (fun j => va_rf (g j))).slots.size : Int); rw [arrV_size]; omega)
    (fun vm₁ hal i hi => by
      have e : (vp_cell D.2.2.2.2 (n0, .inr (.inr (.inr (.inr f))))).slots.getD (sp.toNatClampNeg + i) .null = va_rf (f (sp.toNatClampNeg + i)) := by
        show (arrV D.2.2.2.2 n0 (fun j => va_rf (f j))).slots.getD _ _ = _
        rw [Array.getD_eq_getD_getElem?, arrV_read _ _ (by omega)]
        rfl
      rw [e]
      cases hy : f (sp.toNatClampNeg + i) with
      | none => exact ⟨rfl, trivial⟩
      | some y =>
        obtain ⟨cellV, g1, g2, ⟨kC, hkC⟩, g4⟩ := hel i hi y hy
        obtain ⟨kA, comp, r1, r2, r3, -⟩ := (E.2.2.2.2.1.1.2 3 _ rfl).2
        cases hk0.symm.trans r1
        cases hkk0.symm.trans r2
        obtain ⟨kE, hkE, -⟩ := Vm.findClass_spec r3
        obtain ⟨kC', hkC', -⟩ := hal.2.2 _ _ hkC
        obtain ⟨kE', hkE', -⟩ := hal.2.2 _ _ hkE
        refine ⟨rfl, cellV, (show T.heap[y]? = some cellV by rw [hT]; exact g1), (fun q h => by rw [h] at g2; cases g2), ⟨kC', hkC'⟩, ?_, ?_⟩
        · exact ⟨kE', hkE'⟩
        · show vm₁.assignable _ _ = true
          rw [hal.assignable]
          exact g4 _ r3)
    (g := F0 m pc ls (.int n :: .int dp :: .ref a :: .int sp :: .ref a0 :: rest)) rfl (by rw [hml]; exact hls) (rest := rest) rfl (by rw [E.2.1]; exact hdg) hframes (by show 2 * 0 + _ + _ ≤ _; omega)
  have e1 : copied (vp_cell D.2.2.2.2 (n0, .inr (.inr (.inr (.inr f))))) (vp_cell D.2.2.2.2 (n1, .inr (.inr (.inr (.inr g))))) sp dp n = vp_cell D.2.2.2.2 (n1, .inr (.inr (.inr (.inr (va_cpy f g sp.toNatClampNeg dp.toNatClampNeg n.toNatClampNeg))))) := by
    rw [vp_cell_q, vp_cell_q, vp_cell_q]
    exact va_copied (fun z => va_rf z) D.2.2.2.2 D.2.2.2.2 f g h4
  rw [e1] at X' step
  generalize hg : va_cpy f g sp.toNatClampNeg dp.toNatClampNeg n.toNatClampNeg = gg at X' step kk
  have hl : a < H.size := (Array.getElem?_eq_some_iff.mp hc1).1
  have hheap : ((T.setVm vm').setCell a (vp_cell D.2.2.2.2 (n1, .inr (.inr (.inr (.inr gg)))))).heap = H.setIfInBounds a (vp_cell D.2.2.2.2 (n1, .inr (.inr (.inr (.inr gg))))) := by rw [← hT]; rfl
  have oq : ∀ q : Nat, q ≠ a → (H.setIfInBounds a (vp_cell D.2.2.2.2 (n1, .inr (.inr (.inr (.inr gg))))))[q]? = H[q]? := fun q hq => by simp [Array.getElem?_setIfInBounds, Ne.symm hq]
  have ha : (H.setIfInBounds a (vp_cell D.2.2.2.2 (n1, .inr (.inr (.inr (.inr gg))))))[a]? = some (vp_cell D.2.2.2.2 (n1, .inr (.inr (.inr (.inr gg))))) := by simp [Array.getElem?_setIfInBounds, hl]
  obtain ⟨t, a1, b1⟩ := kk _ _ _ rfl ⟨⟨fun q hq => hw.1.1 q (by simpa using hq), fun b x hb => by
        by_cases hba : b = a
        · subst hba
          rw [xu_s] at hb
          cases hb
          exact ⟨Or.inl hA, ha⟩
        · rw [xu_n hba] at hb
          exact ⟨(hw.1.2 b x hb).1, (hw.1.2 b x hb).2.kept (oq b hba)⟩⟩, by simp; exact hw.2.1, fun q g1 g2 => by
        rw [oq q (fun e => g2 (by rw [e]; exact hA))]
        exact hw.2.2.1 q g1 g2, fun q hq => by
        rcases List.mem_append.mp hq with h | h
        · exact hw.2.2.2 q h
        · obtain ⟨z, -, hz⟩ := List.mem_map.mp h
          rw [← hz]
          exact hA⟩ _ hheap X'
  exact ⟨t, step t a1, b1⟩
end XP
