/-! RegularRally: what is asked and changes nothing, first part -/
set_option maxHeartbeats 4000000 in
set_option maxRecDepth 100000 in
theorem xtX0_isRoad (l : Launch) (D : xD) (A : Nat → Prop) (V : xV) (st : mS) (g : xG)  (x : Int32) (hI : mI st) (hR : xR D st g V)  : Met l yX0_isRoad (ws_ yX0_isRoad cX0_isRoad 2 (some .boolean)) (xRm 3 0 0) (xP D A V [.ref (g 0 0), .int x]) (k2_QcV (.int (bI (inN x (st 0 1))))) 0 0 (fun _ => False) := by
  refine x_headR (own := RX0) (As := [.ref (g 0 0), .int x]) (bytes := cX0_isRoad) (maxL := 2) (ret := (some .boolean)) (by decide) rfl (Nat.le_of_ble_eq_true rfl) ?_
  intro p e s m below meth c E hml hr hlk hw0 ls hl
  have hw : xWd D A s V s.heap [] := ⟨hw0, va_S.rf⟩
  have hx := E.1
  have hb := E.2.1
  have hts := E.2.2.1
  have hown := E.2.2.2.1
  have hl : lv_has ls 2 [(0, .ref (g 0 0)), (1, .int x)] := hl
  have h16 := hI.r16
  have h10 := hI.l10
  have hv8 := hI.v8
  have hc8 := hI.c8
  have hk8 := hI.k8
  have hb8 := hI.b8
  refine lv_iload_n (pc := 0) hx hb dX0_isRoad_0 rfl (lv_at hl 1 rfl) ?_
  refine lv_i2l (pc := 1) (v := x.toInt64) hx hb dX0_isRoad_1 rfl ?_
  refine lv_lconst (pc := 2) (v := 0) hx hb dX0_isRoad_2 (by decide) ?_
  refine lv_aload_n (pc := 3) hx hb dX0_isRoad_3 rfl (lv_at hl 0 rfl) ?_
  obtain ⟨b7, b8, b9, hpx⟩ := hR.px hI
  replace hpx : V (g 0 0) = some (.inr (0, [.int (st 0 0), .int (st 0 42), .ref (g 0 2), .ref (g 0 3), .int (nI (cnt st 12)), .ref (g 0 5), .ref (g 0 6), .int b7, .long b8, .int b9, .int (st 0 14), .ref (g 0 11), .int (nI (cnt st 24)), .int (st 0 25), .ref (g 0 14), .ref (g 0 15), .int (nI (cnt st 27)), .ref (g 0 17), .ref (g 0 18), .ref (g 0 19)])) := hpx
  refine x_rd (pc := 4) (v := .ref (g 0 2)) E hw.1 2 hpx (C := RX0) (T := TX0) (N := 20) rfl in_X0 (Nat.le_of_ble_eq_true rfl) q115 (fun _ h => h) rfl dX0_isRoad_4 ?_
  obtain ⟨mc_2, hpl_2⟩ := hR.p2
  refine x_goR5 (x_runF (pc := 7) (As := []) (rest := [.long 0, .long x.toInt64]) E hml hl.1 hw.2 hw.1 hpl_2 (C := RJ2) (T := TJ2) (N := 3) rfl (xtJ2_size l D A V (g 0 2) (g 1 0) (cnt st 1) mc_2 hpl_2) E.2.2.2.2.1.2.1.2.2.2.2.2.1 q190 q194 q196 q51 q198 hdF_size ⟨Nat.le_of_ble_eq_true rfl, Nat.le_of_ble_eq_true rfl⟩ rfl rfl rfl (Nat.le_of_ble_eq_true rfl) dX0_isRoad_7 ⟨Nat.le_of_ble_eq_true rfl, Nat.le_of_ble_eq_true rfl⟩) ?_
  refine lv_i2l (pc := 12) (v := (nI (cnt st 1)).toInt64) hx hb dX0_isRoad_12 rfl ?_
  refine lv_lconst (pc := 13) (v := 1) hx hb dX0_isRoad_13 (by decide) ?_
  refine lv_lsub (pc := 14) hx hb dX0_isRoad_14 ?_
  refine x_goR (x_runS (pc := 15) (As := [.long x.toInt64, .long 0, .long ((nI (cnt st 1)).toInt64 - 1)]) (rest := []) E hml hl.1 (x_preE) (xtX0_isInN l x (nI (cnt st 1))) q184 q185 q48 q186 hdX0_isIn.2 ⟨Nat.le_of_ble_eq_true rfl, Nat.le_of_ble_eq_true rfl⟩ rfl rfl rfl (Nat.le_of_ble_eq_true rfl) dX0_isRoad_15 ⟨Nat.le_of_ble_eq_true rfl, Nat.le_of_ble_eq_true rfl⟩) ?_
  exact m_zretS hx hb hr hlk dX0_isRoad_18 (bI_nar _) (by rw [cnt_n hI.R.1])
set_option maxHeartbeats 4000000 in
set_option maxRecDepth 100000 in
theorem xtX0_isControl (l : Launch) (D : xD) (A : Nat → Prop) (V : xV) (st : mS) (g : xG)  (x : Int32) (hI : mI st) (hR : xR D st g V)  : Met l yX0_isControl (ws_ yX0_isControl cX0_isControl 2 (some .boolean)) (xRm 3 0 0) (xP D A V [.ref (g 0 0), .int x]) (k2_QcV (.int (bI (inN x (st 0 30))))) 0 0 (fun _ => False) := by
  refine x_headR (own := RX0) (As := [.ref (g 0 0), .int x]) (bytes := cX0_isControl) (maxL := 2) (ret := (some .boolean)) (by decide) rfl (Nat.le_of_ble_eq_true rfl) ?_
  intro p e s m below meth c E hml hr hlk hw0 ls hl
  have hw : xWd D A s V s.heap [] := ⟨hw0, va_S.rf⟩
  have hx := E.1
  have hb := E.2.1
  have hts := E.2.2.1
  have hown := E.2.2.2.1
  have hl : lv_has ls 2 [(0, .ref (g 0 0)), (1, .int x)] := hl
  have h16 := hI.r16
  have h10 := hI.l10
  have hv8 := hI.v8
  have hc8 := hI.c8
  have hk8 := hI.k8
  have hb8 := hI.b8
  refine lv_iload_n (pc := 0) hx hb dX0_isControl_0 rfl (lv_at hl 1 rfl) ?_
  refine lv_i2l (pc := 1) (v := x.toInt64) hx hb dX0_isControl_1 rfl ?_
  refine lv_lconst (pc := 2) (v := 0) hx hb dX0_isControl_2 (by decide) ?_
  refine lv_aload_n (pc := 3) hx hb dX0_isControl_3 rfl (lv_at hl 0 rfl) ?_
  obtain ⟨b7, b8, b9, hpx⟩ := hR.px hI
  replace hpx : V (g 0 0) = some (.inr (0, [.int (st 0 0), .int (st 0 42), .ref (g 0 2), .ref (g 0 3), .int (nI (cnt st 12)), .ref (g 0 5), .ref (g 0 6), .int b7, .long b8, .int b9, .int (st 0 14), .ref (g 0 11), .int (nI (cnt st 24)), .int (st 0 25), .ref (g 0 14), .ref (g 0 15), .int (nI (cnt st 27)), .ref (g 0 17), .ref (g 0 18), .ref (g 0 19)])) := hpx
  refine x_rd (pc := 4) (v := .ref (g 0 17)) E hw.1 17 hpx (C := RX0) (T := TX0) (N := 20) rfl in_X0 (Nat.le_of_ble_eq_true rfl) q130 (fun _ h => h) rfl dX0_isControl_4 ?_
  obtain ⟨mc_17, hpl_17⟩ := hR.p17
  refine x_goR5 (x_runF (pc := 7) (As := []) (rest := [.long 0, .long x.toInt64]) E hml hl.1 hw.2 hw.1 hpl_17 (C := RJ2) (T := TJ2) (N := 3) rfl (xtJ2_size l D A V (g 0 17) (g 1 1) (cnt st 30) mc_17 hpl_17) E.2.2.2.2.1.2.1.2.2.2.2.2.1 q190 q194 q196 q51 q198 hdF_size ⟨Nat.le_of_ble_eq_true rfl, Nat.le_of_ble_eq_true rfl⟩ rfl rfl rfl (Nat.le_of_ble_eq_true rfl) dX0_isControl_7 ⟨Nat.le_of_ble_eq_true rfl, Nat.le_of_ble_eq_true rfl⟩) ?_
  refine lv_i2l (pc := 12) (v := (nI (cnt st 30)).toInt64) hx hb dX0_isControl_12 rfl ?_
  refine lv_lconst (pc := 13) (v := 1) hx hb dX0_isControl_13 (by decide) ?_
  refine lv_lsub (pc := 14) hx hb dX0_isControl_14 ?_
  refine x_goR (x_runS (pc := 15) (As := [.long x.toInt64, .long 0, .long ((nI (cnt st 30)).toInt64 - 1)]) (rest := []) E hml hl.1 (x_preE) (xtX0_isInN l x (nI (cnt st 30))) q184 q185 q48 q186 hdX0_isIn.2 ⟨Nat.le_of_ble_eq_true rfl, Nat.le_of_ble_eq_true rfl⟩ rfl rfl rfl (Nat.le_of_ble_eq_true rfl) dX0_isControl_15 ⟨Nat.le_of_ble_eq_true rfl, Nat.le_of_ble_eq_true rfl⟩) ?_
  exact m_zretS hx hb hr hlk dX0_isControl_18 (bI_nar _) (by rw [cnt_n hI.C.1])
set_option maxHeartbeats 4000000 in
set_option maxRecDepth 100000 in
theorem xtX0_isCar (l : Launch) (D : xD) (A : Nat → Prop) (V : xV) (st : mS) (g : xG)  (x : Int32) (hI : mI st) (hR : xR D st g V)  : Met l yX0_isCar (ws_ yX0_isCar cX0_isCar 2 (some .boolean)) (xRm 3 0 0) (xP D A V [.ref (g 0 0), .int x]) (k2_QcV (.int (bI (inN x (st 0 35))))) 0 0 (fun _ => False) := by
  refine x_headR (own := RX0) (As := [.ref (g 0 0), .int x]) (bytes := cX0_isCar) (maxL := 2) (ret := (some .boolean)) (by decide) rfl (Nat.le_of_ble_eq_true rfl) ?_
  intro p e s m below meth c E hml hr hlk hw0 ls hl
  have hw : xWd D A s V s.heap [] := ⟨hw0, va_S.rf⟩
  have hx := E.1
  have hb := E.2.1
  have hts := E.2.2.1
  have hown := E.2.2.2.1
  have hl : lv_has ls 2 [(0, .ref (g 0 0)), (1, .int x)] := hl
  have h16 := hI.r16
  have h10 := hI.l10
  have hv8 := hI.v8
  have hc8 := hI.c8
  have hk8 := hI.k8
  have hb8 := hI.b8
  refine lv_iload_n (pc := 0) hx hb dX0_isCar_0 rfl (lv_at hl 1 rfl) ?_
  refine lv_i2l (pc := 1) (v := x.toInt64) hx hb dX0_isCar_1 rfl ?_
  refine lv_lconst (pc := 2) (v := 0) hx hb dX0_isCar_2 (by decide) ?_
  refine lv_aload_n (pc := 3) hx hb dX0_isCar_3 rfl (lv_at hl 0 rfl) ?_
  obtain ⟨b7, b8, b9, hpx⟩ := hR.px hI
  replace hpx : V (g 0 0) = some (.inr (0, [.int (st 0 0), .int (st 0 42), .ref (g 0 2), .ref (g 0 3), .int (nI (cnt st 12)), .ref (g 0 5), .ref (g 0 6), .int b7, .long b8, .int b9, .int (st 0 14), .ref (g 0 11), .int (nI (cnt st 24)), .int (st 0 25), .ref (g 0 14), .ref (g 0 15), .int (nI (cnt st 27)), .ref (g 0 17), .ref (g 0 18), .ref (g 0 19)])) := hpx
  refine x_rd (pc := 4) (v := .ref (g 0 18)) E hw.1 18 hpx (C := RX0) (T := TX0) (N := 20) rfl in_X0 (Nat.le_of_ble_eq_true rfl) q132 (fun _ h => h) rfl dX0_isCar_4 ?_
  obtain ⟨mc_18, hpl_18⟩ := hR.p18
  refine x_goR5 (x_runF (pc := 7) (As := []) (rest := [.long 0, .long x.toInt64]) E hml hl.1 hw.2 hw.1 hpl_18 (C := RJ2) (T := TJ2) (N := 3) rfl (xtJ2_size l D A V (g 0 18) (g 1 2) (cnt st 35) mc_18 hpl_18) E.2.2.2.2.1.2.1.2.2.2.2.2.1 q190 q194 q196 q51 q198 hdF_size ⟨Nat.le_of_ble_eq_true rfl, Nat.le_of_ble_eq_true rfl⟩ rfl rfl rfl (Nat.le_of_ble_eq_true rfl) dX0_isCar_7 ⟨Nat.le_of_ble_eq_true rfl, Nat.le_of_ble_eq_true rfl⟩) ?_
  refine lv_i2l (pc := 12) (v := (nI (cnt st 35)).toInt64) hx hb dX0_isCar_12 rfl ?_
  refine lv_lconst (pc := 13) (v := 1) hx hb dX0_isCar_13 (by decide) ?_
  refine lv_lsub (pc := 14) hx hb dX0_isCar_14 ?_
  refine x_goR (x_runS (pc := 15) (As := [.long x.toInt64, .long 0, .long ((nI (cnt st 35)).toInt64 - 1)]) (rest := []) E hml hl.1 (x_preE) (xtX0_isInN l x (nI (cnt st 35))) q184 q185 q48 q186 hdX0_isIn.2 ⟨Nat.le_of_ble_eq_true rfl, Nat.le_of_ble_eq_true rfl⟩ rfl rfl rfl (Nat.le_of_ble_eq_true rfl) dX0_isCar_15 ⟨Nat.le_of_ble_eq_true rfl, Nat.le_of_ble_eq_true rfl⟩) ?_
  exact m_zretS hx hb hr hlk dX0_isCar_18 (bI_nar _) (by rw [cnt_n hI.K.1])
set_option maxHeartbeats 4000000 in
set_option maxRecDepth 100000 in
theorem xtX0_trace (l : Launch) (D : xD) (A : Nat → Prop) (V : xV) (st : mS) (g : xG)   (hI : mI st) (hR : xR D st g V)  : Met l yX0_trace (ws_ yX0_trace cX0_trace 1 (some .int)) (xRm 1 0 0) (xP D A V [.ref (g 0 0)]) (k2_QcV (.int (st 0 42))) 0 0 (fun _ => False) := by
  refine x_headR (own := RX0) (As := [.ref (g 0 0)]) (bytes := cX0_trace) (maxL := 1) (ret := (some .int)) (by decide) rfl (Nat.le_of_ble_eq_true rfl) ?_
  intro p e s m below meth c E hml hr hlk hw0 ls hl
  have hw : xWd D A s V s.heap [] := ⟨hw0, va_S.rf⟩
  have hx := E.1
  have hb := E.2.1
  have hts := E.2.2.1
  have hown := E.2.2.2.1
  have hl : lv_has ls 1 [(0, .ref (g 0 0))] := hl
  have h16 := hI.r16
  have h10 := hI.l10
  have hv8 := hI.v8
  have hc8 := hI.c8
  have hk8 := hI.k8
  have hb8 := hI.b8
  refine lv_aload_n (pc := 0) hx hb dX0_trace_0 rfl (lv_at hl 0 rfl) ?_
  obtain ⟨b7, b8, b9, hpx⟩ := hR.px hI
  replace hpx : V (g 0 0) = some (.inr (0, [.int (st 0 0), .int (st 0 42), .ref (g 0 2), .ref (g 0 3), .int (nI (cnt st 12)), .ref (g 0 5), .ref (g 0 6), .int b7, .long b8, .int b9, .int (st 0 14), .ref (g 0 11), .int (nI (cnt st 24)), .int (st 0 25), .ref (g 0 14), .ref (g 0 15), .int (nI (cnt st 27)), .ref (g 0 17), .ref (g 0 18), .ref (g 0 19)])) := hpx
  refine x_rd (pc := 1) (v := .int (st 0 42)) E hw.1 1 hpx (C := RX0) (T := TX0) (N := 20) rfl in_X0 (Nat.le_of_ble_eq_true rfl) q114 (fun _ h => h) rfl dX0_trace_1 ?_
  exact m_iretS hx hb hr hlk dX0_trace_4 rfl
set_option maxHeartbeats 4000000 in
set_option maxRecDepth 100000 in
theorem xtX0_fault (l : Launch) (D : xD) (A : Nat → Prop) (V : xV) (st : mS) (g : xG)   (hI : mI st) (hR : xR D st g V)  : Met l yX0_fault (ws_ yX0_fault cX0_fault 1 (some .int)) (xRm 1 0 0) (xP D A V [.ref (g 0 0)]) (k2_QcV (.int (st 0 0))) 0 0 (fun _ => False) := by
  refine x_headR (own := RX0) (As := [.ref (g 0 0)]) (bytes := cX0_fault) (maxL := 1) (ret := (some .int)) (by decide) rfl (Nat.le_of_ble_eq_true rfl) ?_
  intro p e s m below meth c E hml hr hlk hw0 ls hl
  have hw : xWd D A s V s.heap [] := ⟨hw0, va_S.rf⟩
  have hx := E.1
  have hb := E.2.1
  have hts := E.2.2.1
  have hown := E.2.2.2.1
  have hl : lv_has ls 1 [(0, .ref (g 0 0))] := hl
  have h16 := hI.r16
  have h10 := hI.l10
  have hv8 := hI.v8
  have hc8 := hI.c8
  have hk8 := hI.k8
  have hb8 := hI.b8
  refine lv_aload_n (pc := 0) hx hb dX0_fault_0 rfl (lv_at hl 0 rfl) ?_
  obtain ⟨b7, b8, b9, hpx⟩ := hR.px hI
  replace hpx : V (g 0 0) = some (.inr (0, [.int (st 0 0), .int (st 0 42), .ref (g 0 2), .ref (g 0 3), .int (nI (cnt st 12)), .ref (g 0 5), .ref (g 0 6), .int b7, .long b8, .int b9, .int (st 0 14), .ref (g 0 11), .int (nI (cnt st 24)), .int (st 0 25), .ref (g 0 14), .ref (g 0 15), .int (nI (cnt st 27)), .ref (g 0 17), .ref (g 0 18), .ref (g 0 19)])) := hpx
  refine x_rd (pc := 1) (v := .int (st 0 0)) E hw.1 0 hpx (C := RX0) (T := TX0) (N := 20) rfl in_X0 (Nat.le_of_ble_eq_true rfl) q113 (fun _ h => h) rfl dX0_fault_1 ?_
  exact m_iretS hx hb hr hlk dX0_fault_4 rfl
theorem met0 {st : mS} (hI : mI st) : st 0 25 = if st 0 24 = 0 then 0 else st 0 25 := by
  by_cases h : st 0 24 = 0
  · rw [if_pos h]
    exact hI.2.2.1.2.2.1 (by unfold cnt; rw [h]; rfl)
  · rw [if_neg h]
set_option maxHeartbeats 4000000 in
set_option maxRecDepth 100000 in
theorem xtX0_told (l : Launch) (D : xD) (A : Nat → Prop) (V : xV) (st : mS) (g : xG)  (x : Int32) (hI : mI st) (hR : xR D st g V)  : Met l yX0_told (ws_ yX0_told cX0_told 2 (some .int)) (xRm 3 0 0) (xP D A V [.ref (g 0 0), .int x]) (k2_QcV (.int (sp_told st x))) 0 0 (fun _ => False) := by
  refine x_headR (own := RX0) (As := [.ref (g 0 0), .int x]) (bytes := cX0_told) (maxL := 2) (ret := (some .int)) (by decide) rfl (Nat.le_of_ble_eq_true rfl) ?_
  intro p e s m below meth c E hml hr hlk hw0 ls hl
  have hw : xWd D A s V s.heap [] := ⟨hw0, va_S.rf⟩
  have hx := E.1
  have hb := E.2.1
  have hts := E.2.2.1
  have hown := E.2.2.2.1
  have hl : lv_has ls 2 [(0, .ref (g 0 0)), (1, .int x)] := hl
  have h16 := hI.r16
  have h10 := hI.l10
  have hv8 := hI.v8
  have hc8 := hI.c8
  have hk8 := hI.k8
  have hb8 := hI.b8
  refine lv_iload_n (pc := 0) hx hb dX0_told_0 rfl (lv_at hl 1 rfl) ?_
  by_cases t_1 : x = 0
  · refine lv_tableIn (pc := 1) (off := 47) (tgt := 48) hx hb dX0_told_1 (by rw [t_1]; decide) (by rw [t_1]; decide) (by rw [t_1]; rfl) (by decide) ?_
    refine lv_aload_n (pc := 48) hx hb dX0_told_48 rfl (lv_at hl 0 rfl) ?_
    obtain ⟨b7, b8, b9, hpx⟩ := hR.px hI
    replace hpx : V (g 0 0) = some (.inr (0, [.int (st 0 0), .int (st 0 42), .ref (g 0 2), .ref (g 0 3), .int (nI (cnt st 12)), .ref (g 0 5), .ref (g 0 6), .int b7, .long b8, .int b9, .int (st 0 14), .ref (g 0 11), .int (nI (cnt st 24)), .int (st 0 25), .ref (g 0 14), .ref (g 0 15), .int (nI (cnt st 27)), .ref (g 0 17), .ref (g 0 18), .ref (g 0 19)])) := hpx
    refine x_rd (pc := 49) (v := .ref (g 0 2)) E hw.1 2 hpx (C := RX0) (T := TX0) (N := 20) rfl in_X0 (Nat.le_of_ble_eq_true rfl) q115 (fun _ h => h) rfl dX0_told_49 ?_
    obtain ⟨mc_2, hpl_2⟩ := hR.p2
    refine x_goR5 (x_runF (pc := 52) (As := []) (rest := []) E hml hl.1 hw.2 hw.1 hpl_2 (C := RJ2) (T := TJ2) (N := 3) rfl (xtJ2_size l D A V (g 0 2) (g 1 0) (cnt st 1) mc_2 hpl_2) E.2.2.2.2.1.2.1.2.2.2.2.2.1 q190 q194 q196 q51 q198 hdF_size ⟨Nat.le_of_ble_eq_true rfl, Nat.le_of_ble_eq_true rfl⟩ rfl rfl rfl (Nat.le_of_ble_eq_true rfl) dX0_told_52 ⟨Nat.le_of_ble_eq_true rfl, Nat.le_of_ble_eq_true rfl⟩) ?_
    exact m_iretS hx hb hr hlk dX0_told_57 (by unfold sp_told; simp only [if_pos t_1]; try first | rfl | exact (cnt_n hI.R.1).symm | exact (cnt_n hI.L.1).symm | exact (cnt_n hI.Sp.1).symm | exact (cnt_n hI.C.1).symm | exact (cnt_n hI.K.1).symm | exact (cnt_n hI.B.1).symm | exact met0 hI)
  by_cases t_2 : x = 1
  · refine lv_tableIn (pc := 1) (off := 57) (tgt := 58) hx hb dX0_told_1 (by rw [t_2]; decide) (by rw [t_2]; decide) (by rw [t_2]; rfl) (by decide) ?_
    refine lv_aload_n (pc := 58) hx hb dX0_told_58 rfl (lv_at hl 0 rfl) ?_
    obtain ⟨b7, b8, b9, hpx⟩ := hR.px hI
    replace hpx : V (g 0 0) = some (.inr (0, [.int (st 0 0), .int (st 0 42), .ref (g 0 2), .ref (g 0 3), .int (nI (cnt st 12)), .ref (g 0 5), .ref (g 0 6), .int b7, .long b8, .int b9, .int (st 0 14), .ref (g 0 11), .int (nI (cnt st 24)), .int (st 0 25), .ref (g 0 14), .ref (g 0 15), .int (nI (cnt st 27)), .ref (g 0 17), .ref (g 0 18), .ref (g 0 19)])) := hpx
    refine x_rd (pc := 59) (v := .int (nI (cnt st 24))) E hw.1 12 hpx (C := RX0) (T := TX0) (N := 20) rfl in_X0 (Nat.le_of_ble_eq_true rfl) q125 (fun _ h => h) rfl dX0_told_59 ?_
    exact m_iretS hx hb hr hlk dX0_told_62 (by unfold sp_told; simp only [if_neg t_1, if_pos t_2]; try first | rfl | exact (cnt_n hI.R.1).symm | exact (cnt_n hI.L.1).symm | exact (cnt_n hI.Sp.1).symm | exact (cnt_n hI.C.1).symm | exact (cnt_n hI.K.1).symm | exact (cnt_n hI.B.1).symm | exact met0 hI)
  by_cases t_3 : x = 2
  · refine lv_tableIn (pc := 1) (off := 62) (tgt := 63) hx hb dX0_told_1 (by rw [t_3]; decide) (by rw [t_3]; decide) (by rw [t_3]; rfl) (by decide) ?_
    refine lv_aload_n (pc := 63) hx hb dX0_told_63 rfl (lv_at hl 0 rfl) ?_
    obtain ⟨b7, b8, b9, hpx⟩ := hR.px hI
    replace hpx : V (g 0 0) = some (.inr (0, [.int (st 0 0), .int (st 0 42), .ref (g 0 2), .ref (g 0 3), .int (nI (cnt st 12)), .ref (g 0 5), .ref (g 0 6), .int b7, .long b8, .int b9, .int (st 0 14), .ref (g 0 11), .int (nI (cnt st 24)), .int (st 0 25), .ref (g 0 14), .ref (g 0 15), .int (nI (cnt st 27)), .ref (g 0 17), .ref (g 0 18), .ref (g 0 19)])) := hpx
    refine x_rd (pc := 64) (v := .int (st 0 25)) E hw.1 13 hpx (C := RX0) (T := TX0) (N := 20) rfl in_X0 (Nat.le_of_ble_eq_true rfl) q126 (fun _ h => h) rfl dX0_told_64 ?_
    exact m_iretS hx hb hr hlk dX0_told_67 (by unfold sp_told; simp only [if_neg t_1, if_neg t_2, if_pos t_3]; try first | rfl | exact (cnt_n hI.R.1).symm | exact (cnt_n hI.L.1).symm | exact (cnt_n hI.Sp.1).symm | exact (cnt_n hI.C.1).symm | exact (cnt_n hI.K.1).symm | exact (cnt_n hI.B.1).symm | exact met0 hI)
  by_cases t_4 : x = 3
  · refine lv_tableIn (pc := 1) (off := 67) (tgt := 68) hx hb dX0_told_1 (by rw [t_4]; decide) (by rw [t_4]; decide) (by rw [t_4]; rfl) (by decide) ?_
    refine lv_aload_n (pc := 68) hx hb dX0_told_68 rfl (lv_at hl 0 rfl) ?_
    obtain ⟨b7, b8, b9, hpx⟩ := hR.px hI
    replace hpx : V (g 0 0) = some (.inr (0, [.int (st 0 0), .int (st 0 42), .ref (g 0 2), .ref (g 0 3), .int (nI (cnt st 12)), .ref (g 0 5), .ref (g 0 6), .int b7, .long b8, .int b9, .int (st 0 14), .ref (g 0 11), .int (nI (cnt st 24)), .int (st 0 25), .ref (g 0 14), .ref (g 0 15), .int (nI (cnt st 27)), .ref (g 0 17), .ref (g 0 18), .ref (g 0 19)])) := hpx
    refine x_rd (pc := 69) (v := .int (nI (cnt st 27))) E hw.1 16 hpx (C := RX0) (T := TX0) (N := 20) rfl in_X0 (Nat.le_of_ble_eq_true rfl) q129 (fun _ h => h) rfl dX0_told_69 ?_
    exact m_iretS hx hb hr hlk dX0_told_72 (by unfold sp_told; simp only [if_neg t_1, if_neg t_2, if_neg t_3, if_pos t_4]; try first | rfl | exact (cnt_n hI.R.1).symm | exact (cnt_n hI.L.1).symm | exact (cnt_n hI.Sp.1).symm | exact (cnt_n hI.C.1).symm | exact (cnt_n hI.K.1).symm | exact (cnt_n hI.B.1).symm | exact met0 hI)
  by_cases t_5 : x = 4
  · refine lv_tableIn (pc := 1) (off := 72) (tgt := 73) hx hb dX0_told_1 (by rw [t_5]; decide) (by rw [t_5]; decide) (by rw [t_5]; rfl) (by decide) ?_
    refine lv_aload_n (pc := 73) hx hb dX0_told_73 rfl (lv_at hl 0 rfl) ?_
    obtain ⟨b7, b8, b9, hpx⟩ := hR.px hI
    replace hpx : V (g 0 0) = some (.inr (0, [.int (st 0 0), .int (st 0 42), .ref (g 0 2), .ref (g 0 3), .int (nI (cnt st 12)), .ref (g 0 5), .ref (g 0 6), .int b7, .long b8, .int b9, .int (st 0 14), .ref (g 0 11), .int (nI (cnt st 24)), .int (st 0 25), .ref (g 0 14), .ref (g 0 15), .int (nI (cnt st 27)), .ref (g 0 17), .ref (g 0 18), .ref (g 0 19)])) := hpx
    refine x_rd (pc := 74) (v := .ref (g 0 17)) E hw.1 17 hpx (C := RX0) (T := TX0) (N := 20) rfl in_X0 (Nat.le_of_ble_eq_true rfl) q130 (fun _ h => h) rfl dX0_told_74 ?_
    obtain ⟨mc_17, hpl_17⟩ := hR.p17
    refine x_goR5 (x_runF (pc := 77) (As := []) (rest := []) E hml hl.1 hw.2 hw.1 hpl_17 (C := RJ2) (T := TJ2) (N := 3) rfl (xtJ2_size l D A V (g 0 17) (g 1 1) (cnt st 30) mc_17 hpl_17) E.2.2.2.2.1.2.1.2.2.2.2.2.1 q190 q194 q196 q51 q198 hdF_size ⟨Nat.le_of_ble_eq_true rfl, Nat.le_of_ble_eq_true rfl⟩ rfl rfl rfl (Nat.le_of_ble_eq_true rfl) dX0_told_77 ⟨Nat.le_of_ble_eq_true rfl, Nat.le_of_ble_eq_true rfl⟩) ?_
    exact m_iretS hx hb hr hlk dX0_told_82 (by unfold sp_told; simp only [if_neg t_1, if_neg t_2, if_neg t_3, if_neg t_4, if_pos t_5]; try first | rfl | exact (cnt_n hI.R.1).symm | exact (cnt_n hI.L.1).symm | exact (cnt_n hI.Sp.1).symm | exact (cnt_n hI.C.1).symm | exact (cnt_n hI.K.1).symm | exact (cnt_n hI.B.1).symm | exact met0 hI)
  by_cases t_6 : x = 5
  · refine lv_tableIn (pc := 1) (off := 82) (tgt := 83) hx hb dX0_told_1 (by rw [t_6]; decide) (by rw [t_6]; decide) (by rw [t_6]; rfl) (by decide) ?_
    refine lv_aload_n (pc := 83) hx hb dX0_told_83 rfl (lv_at hl 0 rfl) ?_
    obtain ⟨b7, b8, b9, hpx⟩ := hR.px hI
    replace hpx : V (g 0 0) = some (.inr (0, [.int (st 0 0), .int (st 0 42), .ref (g 0 2), .ref (g 0 3), .int (nI (cnt st 12)), .ref (g 0 5), .ref (g 0 6), .int b7, .long b8, .int b9, .int (st 0 14), .ref (g 0 11), .int (nI (cnt st 24)), .int (st 0 25), .ref (g 0 14), .ref (g 0 15), .int (nI (cnt st 27)), .ref (g 0 17), .ref (g 0 18), .ref (g 0 19)])) := hpx
    refine x_rd (pc := 84) (v := .ref (g 0 18)) E hw.1 18 hpx (C := RX0) (T := TX0) (N := 20) rfl in_X0 (Nat.le_of_ble_eq_true rfl) q132 (fun _ h => h) rfl dX0_told_84 ?_
    obtain ⟨mc_18, hpl_18⟩ := hR.p18
    refine x_goR5 (x_runF (pc := 87) (As := []) (rest := []) E hml hl.1 hw.2 hw.1 hpl_18 (C := RJ2) (T := TJ2) (N := 3) rfl (xtJ2_size l D A V (g 0 18) (g 1 2) (cnt st 35) mc_18 hpl_18) E.2.2.2.2.1.2.1.2.2.2.2.2.1 q190 q194 q196 q51 q198 hdF_size ⟨Nat.le_of_ble_eq_true rfl, Nat.le_of_ble_eq_true rfl⟩ rfl rfl rfl (Nat.le_of_ble_eq_true rfl) dX0_told_87 ⟨Nat.le_of_ble_eq_true rfl, Nat.le_of_ble_eq_true rfl⟩) ?_
    exact m_iretS hx hb hr hlk dX0_told_92 (by unfold sp_told; simp only [if_neg t_1, if_neg t_2, if_neg t_3, if_neg t_4, if_neg t_5, if_pos t_6]; try first | rfl | exact (cnt_n hI.R.1).symm | exact (cnt_n hI.L.1).symm | exact (cnt_n hI.Sp.1).symm | exact (cnt_n hI.C.1).symm | exact (cnt_n hI.K.1).symm | exact (cnt_n hI.B.1).symm | exact met0 hI)
  by_cases t_7 : x = 6
  · refine lv_tableIn (pc := 1) (off := 92) (tgt := 93) hx hb dX0_told_1 (by rw [t_7]; decide) (by rw [t_7]; decide) (by rw [t_7]; rfl) (by decide) ?_
    refine lv_aload_n (pc := 93) hx hb dX0_told_93 rfl (lv_at hl 0 rfl) ?_
    obtain ⟨b7, b8, b9, hpx⟩ := hR.px hI
    replace hpx : V (g 0 0) = some (.inr (0, [.int (st 0 0), .int (st 0 42), .ref (g 0 2), .ref (g 0 3), .int (nI (cnt st 12)), .ref (g 0 5), .ref (g 0 6), .int b7, .long b8, .int b9, .int (st 0 14), .ref (g 0 11), .int (nI (cnt st 24)), .int (st 0 25), .ref (g 0 14), .ref (g 0 15), .int (nI (cnt st 27)), .ref (g 0 17), .ref (g 0 18), .ref (g 0 19)])) := hpx
    refine x_rd (pc := 94) (v := .int (nI (cnt st 12))) E hw.1 4 hpx (C := RX0) (T := TX0) (N := 20) rfl in_X0 (Nat.le_of_ble_eq_true rfl) q117 (fun _ h => h) rfl dX0_told_94 ?_
    exact m_iretS hx hb hr hlk dX0_told_97 (by unfold sp_told; simp only [if_neg t_1, if_neg t_2, if_neg t_3, if_neg t_4, if_neg t_5, if_neg t_6, if_pos t_7]; try first | rfl | exact (cnt_n hI.R.1).symm | exact (cnt_n hI.L.1).symm | exact (cnt_n hI.Sp.1).symm | exact (cnt_n hI.C.1).symm | exact (cnt_n hI.K.1).symm | exact (cnt_n hI.B.1).symm | exact met0 hI)
  by_cases t_8 : x = 7
  · refine lv_tableIn (pc := 1) (off := 97) (tgt := 98) hx hb dX0_told_1 (by rw [t_8]; decide) (by rw [t_8]; decide) (by rw [t_8]; rfl) (by decide) ?_
    refine lv_aload_n (pc := 98) hx hb dX0_told_98 rfl (lv_at hl 0 rfl) ?_
    obtain ⟨b7, b8, b9, hpx⟩ := hR.px hI
    replace hpx : V (g 0 0) = some (.inr (0, [.int (st 0 0), .int (st 0 42), .ref (g 0 2), .ref (g 0 3), .int (nI (cnt st 12)), .ref (g 0 5), .ref (g 0 6), .int b7, .long b8, .int b9, .int (st 0 14), .ref (g 0 11), .int (nI (cnt st 24)), .int (st 0 25), .ref (g 0 14), .ref (g 0 15), .int (nI (cnt st 27)), .ref (g 0 17), .ref (g 0 18), .ref (g 0 19)])) := hpx
    refine x_rd (pc := 99) (v := .int (st 0 14)) E hw.1 10 hpx (C := RX0) (T := TX0) (N := 20) rfl in_X0 (Nat.le_of_ble_eq_true rfl) q123 (fun _ h => h) rfl dX0_told_99 ?_
    exact m_iretS hx hb hr hlk dX0_told_102 (by unfold sp_told; simp only [if_neg t_1, if_neg t_2, if_neg t_3, if_neg t_4, if_neg t_5, if_neg t_6, if_neg t_7, if_pos t_8]; try first | rfl | exact (cnt_n hI.R.1).symm | exact (cnt_n hI.L.1).symm | exact (cnt_n hI.Sp.1).symm | exact (cnt_n hI.C.1).symm | exact (cnt_n hI.K.1).symm | exact (cnt_n hI.B.1).symm | exact met0 hI)
  have t_9 : x.toInt < 0 ∨ 7 < x.toInt := by
    have n0_ : ¬ x.toInt = 0 := lv_neT t_1 (by decide)
    have n1_ : ¬ x.toInt = 1 := lv_neT t_2 (by decide)
    have n2_ : ¬ x.toInt = 2 := lv_neT t_3 (by decide)
    have n3_ : ¬ x.toInt = 3 := lv_neT t_4 (by decide)
    have n4_ : ¬ x.toInt = 4 := lv_neT t_5 (by decide)
    have n5_ : ¬ x.toInt = 5 := lv_neT t_6 (by decide)
    have n6_ : ¬ x.toInt = 6 := lv_neT t_7 (by decide)
    have n7_ : ¬ x.toInt = 7 := lv_neT t_8 (by decide)
    omega
  refine lv_tableOut (pc := 1) (tgt := 103) hx hb dX0_told_1 t_9 (by decide) ?_
  refine lv_bipush (pc := 103) (v := (-2)) hx hb dX0_told_103 (by decide) ?_
  exact m_iretS hx hb hr hlk dX0_told_105 (by unfold sp_told; simp only [if_neg t_1, if_neg t_2, if_neg t_3, if_neg t_4, if_neg t_5, if_neg t_6, if_neg t_7, if_neg t_8]; try first | rfl | exact (cnt_n hI.R.1).symm | exact (cnt_n hI.L.1).symm | exact (cnt_n hI.Sp.1).symm | exact (cnt_n hI.C.1).symm | exact (cnt_n hI.K.1).symm | exact (cnt_n hI.B.1).symm | exact met0 hI)
set_option maxHeartbeats 4000000 in
set_option maxRecDepth 100000 in
theorem xtX0_laid (l : Launch) (D : xD) (A : Nat → Prop) (V : xV) (st : mS) (g : xG)  (i : Int32) (hI : mI st) (hR : xR D st g V)  : Met l yX0_laid (ws_ yX0_laid cX0_laid 2 (some .int)) (xRm 3 0 0) (xP D A V [.ref (g 0 0), .int i]) (k2_QcV (.int (sp_laid st i))) 0 0 (fun _ => False) := by
  refine x_headR (own := RX0) (As := [.ref (g 0 0), .int i]) (bytes := cX0_laid) (maxL := 2) (ret := (some .int)) (by decide) rfl (Nat.le_of_ble_eq_true rfl) ?_
  intro p e s m below meth c E hml hr hlk hw0 ls hl
  have hw : xWd D A s V s.heap [] := ⟨hw0, va_S.rf⟩
  have hx := E.1
  have hb := E.2.1
  have hts := E.2.2.1
  have hown := E.2.2.2.1
  have hl : lv_has ls 2 [(0, .ref (g 0 0)), (1, .int i)] := hl
  have h16 := hI.r16
  have h10 := hI.l10
  have hv8 := hI.v8
  have hc8 := hI.c8
  have hk8 := hI.k8
  have hb8 := hI.b8
  refine lv_iload_n (pc := 0) hx hb dX0_laid_0 rfl (lv_at hl 1 rfl) ?_
  refine lv_i2l (pc := 1) (v := i.toInt64) hx hb dX0_laid_1 rfl ?_
  refine lv_lconst (pc := 2) (v := 0) hx hb dX0_laid_2 (by decide) ?_
  refine lv_aload_n (pc := 3) hx hb dX0_laid_3 rfl (lv_at hl 0 rfl) ?_
  obtain ⟨b7, b8, b9, hpx⟩ := hR.px hI
  replace hpx : V (g 0 0) = some (.inr (0, [.int (st 0 0), .int (st 0 42), .ref (g 0 2), .ref (g 0 3), .int (nI (cnt st 12)), .ref (g 0 5), .ref (g 0 6), .int b7, .long b8, .int b9, .int (st 0 14), .ref (g 0 11), .int (nI (cnt st 24)), .int (st 0 25), .ref (g 0 14), .ref (g 0 15), .int (nI (cnt st 27)), .ref (g 0 17), .ref (g 0 18), .ref (g 0 19)])) := hpx
  refine x_rd (pc := 4) (v := .int (nI (cnt st 24))) E hw.1 12 hpx (C := RX0) (T := TX0) (N := 20) rfl in_X0 (Nat.le_of_ble_eq_true rfl) q125 (fun _ h => h) rfl dX0_laid_4 ?_
  refine lv_i2l (pc := 7) (v := (nI (cnt st 24)).toInt64) hx hb dX0_laid_7 rfl ?_
  refine lv_lconst (pc := 8) (v := 1) hx hb dX0_laid_8 (by decide) ?_
  refine lv_lsub (pc := 9) hx hb dX0_laid_9 ?_
  refine x_goR (x_runS (pc := 10) (As := [.long i.toInt64, .long 0, .long ((nI (cnt st 24)).toInt64 - 1)]) (rest := []) E hml hl.1 (x_preE) (xtX0_isInN l i (nI (cnt st 24))) q184 q185 q48 q186 hdX0_isIn.2 ⟨Nat.le_of_ble_eq_true rfl, Nat.le_of_ble_eq_true rfl⟩ rfl rfl rfl (Nat.le_of_ble_eq_true rfl) dX0_laid_10 ⟨Nat.le_of_ble_eq_true rfl, Nat.le_of_ble_eq_true rfl⟩) ?_
  refine lb_eq (pc := 13) (tgt := 25) hx hb dX0_laid_13 (by decide) (fun c_1 => ?_) (fun c_1 => ?_)
  · rw [← cnt_n hI.L.1] at c_1
    refine lv_iconst (pc := 25) (v := (-1)) hx hb dX0_laid_25 (by decide) ?_
    exact m_iretS hx hb hr hlk dX0_laid_26 (by simp only [sp_laid, if_neg c_1])
  · rw [← cnt_n hI.L.1] at c_1
    have hin := clamp_n (x := i) c_1.1
    have hii := clamp_i (x := i) c_1.1
    have hLL := hI.L
    refine lv_aload_n (pc := 16) hx hb dX0_laid_16 rfl (lv_at hl 0 rfl) ?_
    refine x_rd (pc := 17) (v := .ref (g 0 11)) E hw.1 11 hpx (C := RX0) (T := TX0) (N := 20) rfl in_X0 (Nat.le_of_ble_eq_true rfl) q124 (fun _ h => h) rfl dX0_laid_17 ?_
    refine lv_iload_n (pc := 20) hx hb dX0_laid_20 rfl (lv_at hl 1 rfl) ?_
    refine li_top (v' := .int (nI i.toNatClampNeg)) (congrArg Value.int hin) ?_
    obtain ⟨f_26, hpa_26, hf_26⟩ := hR.p11
    refine x_ildN (pc := 21) (v := (st 26 i.toNatClampNeg)) E hw.1 (i.toNatClampNeg) hpa_26 (show i.toNatClampNeg < 10 from (by omega)) (Nat.le_of_ble_eq_true rfl) (hf_26 _ (by omega)) dX0_laid_21 ?_
    refine lv_goto (pc := 22) (tgt := 26) hx hb dX0_laid_22 (by decide) ?_
    exact m_iretS hx hb hr hlk dX0_laid_26 (by simp only [sp_laid, if_pos c_1])
def xma (st : mS) (x : Int32) (k : Nat) : Nat := if k < cnt st 12 then if st 13 k = x then k + 1 else k else k
set_option maxHeartbeats 4000000 in
set_option maxRecDepth 100000 in
theorem xtX0_metAt (l : Launch) (D : xD) (A : Nat → Prop) (V : xV) (st : mS) (g : xG)  (x : Int32) (k : Nat) (hI : mI st) (hR : xR D st g V) (hk : k ≤ 8) : Met l yX0_metAt (ws_ yX0_metAt cX0_metAt 3 (some .int)) (xRm 1 0 0) (xP D A V [.ref (g 0 0), .int x, .int (nI k)]) (k2_QcV (.int (nI (xma st x k)))) 0 0 (fun _ => False) := by
  refine x_headR (own := RX0) (As := [.ref (g 0 0), .int x, .int (nI k)]) (bytes := cX0_metAt) (maxL := 3) (ret := (some .int)) (by decide) rfl (Nat.le_of_ble_eq_true rfl) ?_
  intro p e s m below meth c E hml hr hlk hw0 ls hl
  have hw : xWd D A s V s.heap [] := ⟨hw0, va_S.rf⟩
  have hx := E.1
  have hb := E.2.1
  have hts := E.2.2.1
  have hown := E.2.2.2.1
  have hl : lv_has ls 3 [(0, .ref (g 0 0)), (1, .int x), (2, .int (nI k))] := hl
  have h16 := hI.r16
  have h10 := hI.l10
  have hv8 := hI.v8
  have hc8 := hI.c8
  have hk8 := hI.k8
  have hb8 := hI.b8
  refine lv_iload_n (pc := 0) hx hb dX0_metAt_0 rfl (lv_at hl 2 rfl) ?_
  refine lv_aload_n (pc := 1) hx hb dX0_metAt_1 rfl (lv_at hl 0 rfl) ?_
  obtain ⟨b7, b8, b9, hpx⟩ := hR.px hI
  replace hpx : V (g 0 0) = some (.inr (0, [.int (st 0 0), .int (st 0 42), .ref (g 0 2), .ref (g 0 3), .int (nI (cnt st 12)), .ref (g 0 5), .ref (g 0 6), .int b7, .long b8, .int b9, .int (st 0 14), .ref (g 0 11), .int (nI (cnt st 24)), .int (st 0 25), .ref (g 0 14), .ref (g 0 15), .int (nI (cnt st 27)), .ref (g 0 17), .ref (g 0 18), .ref (g 0 19)])) := hpx
  refine x_rd (pc := 2) (v := .int (nI (cnt st 12))) E hw.1 4 hpx (C := RX0) (T := TX0) (N := 20) rfl in_X0 (Nat.le_of_ble_eq_true rfl) q117 (fun _ h => h) rfl dX0_metAt_2 ?_
  refine li_icmp_geN (pc := 5) (a := k) (b := cnt st 12) (tgt := 24) hx hb (by omega) (by omega) dX0_metAt_5 (by decide) (fun c_1 => ?_) (fun c_1 => ?_)
  · refine lv_iload_n (pc := 24) hx hb dX0_metAt_24 rfl (lv_at hl 2 rfl) ?_
    exact m_iretS hx hb hr hlk dX0_metAt_25 (by simp only [xma, if_neg c_1])
  · refine lv_aload_n (pc := 8) hx hb dX0_metAt_8 rfl (lv_at hl 0 rfl) ?_
    refine x_rd (pc := 9) (v := .ref (g 0 3)) E hw.1 3 hpx (C := RX0) (T := TX0) (N := 20) rfl in_X0 (Nat.le_of_ble_eq_true rfl) q116 (fun _ h => h) rfl dX0_metAt_9 ?_
    refine lv_iload_n (pc := 12) hx hb dX0_metAt_12 rfl (lv_at hl 2 rfl) ?_
    obtain ⟨f_13, hpa_13, hf_13⟩ := hR.p3
    refine x_ildN (pc := 13) (v := (st 13 k)) E hw.1 (k) hpa_13 (show k < 8 from (by omega)) (Nat.le_of_ble_eq_true rfl) (hf_13 _ (by omega)) dX0_metAt_13 ?_
    refine lv_iload_n (pc := 14) hx hb dX0_metAt_14 rfl (lv_at hl 1 rfl) ?_
    refine li_icne (pc := 15) (tgt := 24) hx hb dX0_metAt_15 (by decide) (fun c_2 => ?_) (fun c_2 => ?_)
    · refine lv_iload_n (pc := 24) hx hb dX0_metAt_24 rfl (lv_at hl 2 rfl) ?_
      exact m_iretS hx hb hr hlk dX0_metAt_25 (by simp only [xma, if_pos c_1, if_neg c_2])
    · refine lv_iload_n (pc := 18) hx hb dX0_metAt_18 rfl (lv_at hl 2 rfl) ?_
      refine lv_iconst (pc := 19) (v := 1) hx hb dX0_metAt_19 (by decide) ?_
      refine li_addN (pc := 20) (a := k) (b := 1) hx hb dX0_metAt_20 ?_
      refine lv_goto (pc := 21) (tgt := 25) hx hb dX0_metAt_21 (by decide) ?_
      exact m_iretS hx hb hr hlk dX0_metAt_25 (by simp only [xma, if_pos c_1, if_pos c_2])
theorem xop_4t {st : mS} {j : Nat} (h : (st 6 j = 0 ∨ st 6 j = 1) ∧ (st 7 j = 0 ∨ st 7 j = 1) ∧ (¬ st 5 j = 2 → st 7 j = 0) ∧ (cnt st 1 ≤ j → st 6 j = 0 ∧ st 7 j = 0) ∧ (j < cnt st 1 → (st 5 j = 0 ∨ st 5 j = 1 ∨ st 5 j = 2) ∧ (0 ≤ (st 2 j).toInt ∧ (st 2 j).toInt ≤ 9) ∧ (0 ≤ (st 3 j).toInt ∧ (st 3 j).toInt ≤ 9) ∧ (1 ≤ (st 4 j).toInt ∧ (st 4 j).toInt ≤ 20000) ∧ ¬ st 2 j = st 3 j)) (c : xop (st 5 j) (st 6 j) (st 7 j)) : (0 : Int32) = if st 6 j = 0 then if st 7 j = 0 then 0 else 1 else 1 := by
  unfold xop at c
  have h7 := h.2.2.1
  split at c
  · rename_i e; rw [if_pos c, if_pos (h7 (by rw [e]; decide))]
  · split at c
    · rename_i e; rw [if_pos c, if_pos (h7 (by rw [e]; decide))]
    · rw [if_pos c.2, if_pos c.1]
theorem xop_4f {st : mS} {j : Nat} (h : (st 6 j = 0 ∨ st 6 j = 1) ∧ (st 7 j = 0 ∨ st 7 j = 1) ∧ (¬ st 5 j = 2 → st 7 j = 0) ∧ (cnt st 1 ≤ j → st 6 j = 0 ∧ st 7 j = 0) ∧ (j < cnt st 1 → (st 5 j = 0 ∨ st 5 j = 1 ∨ st 5 j = 2) ∧ (0 ≤ (st 2 j).toInt ∧ (st 2 j).toInt ≤ 9) ∧ (0 ≤ (st 3 j).toInt ∧ (st 3 j).toInt ≤ 9) ∧ (1 ≤ (st 4 j).toInt ∧ (st 4 j).toInt ≤ 20000) ∧ ¬ st 2 j = st 3 j)) (c : ¬ xop (st 5 j) (st 6 j) (st 7 j)) : (1 : Int32) = if st 6 j = 0 then if st 7 j = 0 then 0 else 1 else 1 := by
  unfold xop at c
  have h7 := h.2.2.1
  split at c
  · rw [if_neg c]
  · split at c
    · rw [if_neg c]
    · by_cases h6 : st 6 j = 0
      · rw [if_pos h6, if_neg (fun q => c ⟨q, h6⟩)]
      · rw [if_neg h6]
set_option maxHeartbeats 4000000 in
set_option maxRecDepth 100000 in
theorem xtX0_about (l : Launch) (D : xD) (A : Nat → Prop) (V : xV) (st : mS) (g : xG)  (r : Int32) (x : Int32) (hI : mI st) (hR : xR D st g V)  : Met l yX0_about (ws_ yX0_about cX0_about 5 (some .int)) (xRm 6 0 0) (xP D A V [.ref (g 0 0), .int r, .int x]) (k2_QcV (.int (sp_about st r x))) 0 0 (fun _ => False) := by
  refine x_headR (own := RX0) (As := [.ref (g 0 0), .int r, .int x]) (bytes := cX0_about) (maxL := 5) (ret := (some .int)) (by decide) rfl (Nat.le_of_ble_eq_true rfl) ?_
  intro p e s m below meth c E hml hr hlk hw0 ls hl
  have hw : xWd D A s V s.heap [] := ⟨hw0, va_S.rf⟩
  have hx := E.1
  have hb := E.2.1
  have hts := E.2.2.1
  have hown := E.2.2.2.1
  have hl : lv_has ls 5 [(0, .ref (g 0 0)), (1, .int r), (2, .int x)] := hl
  have h16 := hI.r16
  have h10 := hI.l10
  have hv8 := hI.v8
  have hc8 := hI.c8
  have hk8 := hI.k8
  have hb8 := hI.b8
  refine lv_aload_n (pc := 0) hx hb dX0_about_0 rfl (lv_at hl 0 rfl) ?_
  refine lv_iload_n (pc := 1) hx hb dX0_about_1 rfl (lv_at hl 1 rfl) ?_
  obtain ⟨b7, b8, b9, hpx⟩ := hR.px hI
  replace hpx : V (g 0 0) = some (.inr (0, [.int (st 0 0), .int (st 0 42), .ref (g 0 2), .ref (g 0 3), .int (nI (cnt st 12)), .ref (g 0 5), .ref (g 0 6), .int b7, .long b8, .int b9, .int (st 0 14), .ref (g 0 11), .int (nI (cnt st 24)), .int (st 0 25), .ref (g 0 14), .ref (g 0 15), .int (nI (cnt st 27)), .ref (g 0 17), .ref (g 0 18), .ref (g 0 19)])) := hpx
  refine x_goR (x_runV (pc := 2) (As := [.int r]) (rest := []) E hml hl.1 hw.2 hw.1 hpx (C := RX0) (T := TX0) (N := 20) rfl (xtX0_isRoad l D A V st g r hI hR) q332 q334 qs3 q48 q335 hdX0_isRoad ⟨Nat.le_of_ble_eq_true rfl, Nat.le_of_ble_eq_true rfl⟩ rfl rfl rfl (Nat.le_of_ble_eq_true rfl) dX0_about_2 ⟨Nat.le_of_ble_eq_true rfl, Nat.le_of_ble_eq_true rfl⟩) ?_
  refine lb_ne (pc := 5) (tgt := 10) hx hb dX0_about_5 (by decide) (fun c_1 => ?_) (fun c_1 => ?_)
  · have hrn := clamp_n (x := r) c_1.1
    have hri := clamp_i (x := r) c_1.1
    have hrl : r.toNatClampNeg < cnt st 1 := by have := cnt_i (st := st) (k := 1) (by omega); omega
    refine lv_aload_n (pc := 10) hx hb dX0_about_10 rfl (lv_at hl 0 rfl) ?_
    refine x_rd (pc := 11) (v := .ref (g 0 2)) E hw.1 2 hpx (C := RX0) (T := TX0) (N := 20) rfl in_X0 (Nat.le_of_ble_eq_true rfl) q115 (fun _ h => h) rfl dX0_about_11 ?_
    refine lv_iload_n (pc := 14) hx hb dX0_about_14 rfl (lv_at hl 1 rfl) ?_
    refine li_top (v' := .int (nI r.toNatClampNeg)) (congrArg Value.int hrn) ?_
    obtain ⟨mc_2, hpl_2⟩ := hR.p2
    obtain ⟨cap_0, f1_0, hpe_0, hcap_0, hle_0, hel_0⟩ := hR.pe (j := 0) (by decide)
    replace hle_0 : cnt st 1 ≤ cap_0 := hle_0
    replace hel_0 : ∀ q, q < cnt st 1 → f1_0 q = some (g 2 q) := hel_0
    refine x_goR5 (x_runF (pc := 15) (As := [.int (nI r.toNatClampNeg)]) (rest := []) E hml hl.1 hw.2 hw.1 hpl_2 (C := RJ2) (T := TJ2) (N := 3) rfl (xtJ2_get l D A V (g 0 2) (g 1 0) (cnt st 1) cap_0 (g 2 r.toNatClampNeg) r.toNatClampNeg mc_2 f1_0 hpl_2 hpe_0 (show r.toNatClampNeg < cnt st 1 from (by omega)) hle_0 (by have := hcap_0; omega) (hel_0 _ (by omega))) E.2.2.2.2.1.2.1.2.2.2.2.2.2.1 q337 q340 q342 q51 q344 hdF_get ⟨Nat.le_of_ble_eq_true rfl, Nat.le_of_ble_eq_true rfl⟩ rfl rfl rfl (Nat.le_of_ble_eq_true rfl) dX0_about_15 ⟨Nat.le_of_ble_eq_true rfl, Nat.le_of_ble_eq_true rfl⟩) ?_
    have hpr_2 := hR.road (j := r.toNatClampNeg) (by omega)
    refine x_castRo (pc := 20) E hw.1 hpr_2 q199 dX0_about_20 ?_
    refine lv_astore_n (pc := 23) (lv' := [(3, .ref (g 2 r.toNatClampNeg)), (0, .ref (g 0 0)), (1, .int r), (2, .int x)]) hx hb dX0_about_23 rfl hl (by decide) rfl (fun ls hl => ?_)
    refine lv_iload_n (pc := 24) hx hb dX0_about_24 rfl (lv_at hl 3 rfl) ?_
    by_cases t_3 : x = 0
    · refine lv_tableIn (pc := 25) (off := 39) (tgt := 64) hx hb dX0_about_25 (by rw [t_3]; decide) (by rw [t_3]; decide) (by rw [t_3]; rfl) (by decide) ?_
      refine lv_aload_n (pc := 64) hx hb dX0_about_64 rfl (lv_at hl 0 rfl) ?_
      refine x_rdRo (pc := 65) (v := (st 2 r.toNatClampNeg)) E hw.1 hpr_2 0 (Nat.le_of_ble_eq_true rfl) q206 rfl dX0_about_65 ?_
      exact m_iretS hx hb hr hlk dX0_about_68 (by simp only [sp_about, if_pos c_1, if_pos t_3])
    by_cases t_4 : x = 1
    · refine lv_tableIn (pc := 25) (off := 44) (tgt := 69) hx hb dX0_about_25 (by rw [t_4]; decide) (by rw [t_4]; decide) (by rw [t_4]; rfl) (by decide) ?_
      refine lv_aload_n (pc := 69) hx hb dX0_about_69 rfl (lv_at hl 0 rfl) ?_
      refine x_rdRo (pc := 70) (v := (st 3 r.toNatClampNeg)) E hw.1 hpr_2 1 (Nat.le_of_ble_eq_true rfl) q210 rfl dX0_about_70 ?_
      exact m_iretS hx hb hr hlk dX0_about_73 (by simp only [sp_about, if_pos c_1, if_neg t_3, if_pos t_4])
    by_cases t_5 : x = 2
    · refine lv_tableIn (pc := 25) (off := 49) (tgt := 74) hx hb dX0_about_25 (by rw [t_5]; decide) (by rw [t_5]; decide) (by rw [t_5]; rfl) (by decide) ?_
      refine lv_aload_n (pc := 74) hx hb dX0_about_74 rfl (lv_at hl 0 rfl) ?_
      refine x_rdRo (pc := 75) (v := (st 4 r.toNatClampNeg)) E hw.1 hpr_2 2 (Nat.le_of_ble_eq_true rfl) q212 rfl dX0_about_75 ?_
      exact m_iretS hx hb hr hlk dX0_about_78 (by simp only [sp_about, if_pos c_1, if_neg t_3, if_neg t_4, if_pos t_5])
    by_cases t_6 : x = 3
    · refine lv_tableIn (pc := 25) (off := 54) (tgt := 79) hx hb dX0_about_25 (by rw [t_6]; decide) (by rw [t_6]; decide) (by rw [t_6]; rfl) (by decide) ?_
      refine lv_aload_n (pc := 79) hx hb dX0_about_79 rfl (lv_at hl 0 rfl) ?_
      refine x_cRo_kind (pc := 80) (rest := []) g E hw ((hI.2.1 r.toNatClampNeg (by omega)).2.2.2.2 (by omega)).1 hpr_2 dX0_about_80 ⟨Nat.le_of_ble_eq_true rfl, Nat.le_of_ble_eq_true rfl⟩ ⟨Nat.le_of_ble_eq_true rfl, Nat.le_of_ble_eq_true rfl⟩ (Nat.le_of_ble_eq_true rfl) hml hl ?_
      exact m_iretS hx hb hr hlk dX0_about_83 (by simp only [sp_about, if_pos c_1, if_neg t_3, if_neg t_4, if_neg t_5, if_pos t_6])
    by_cases t_7 : x = 4
    · refine lv_tableIn (pc := 25) (off := 59) (tgt := 84) hx hb dX0_about_25 (by rw [t_7]; decide) (by rw [t_7]; decide) (by rw [t_7]; rfl) (by decide) ?_
      refine lv_aload_n (pc := 84) hx hb dX0_about_84 rfl (lv_at hl 0 rfl) ?_
      refine x_cRo_isOpen (pc := 85) (rest := []) g E hw hpr_2 dX0_about_85 ⟨Nat.le_of_ble_eq_true rfl, Nat.le_of_ble_eq_true rfl⟩ ⟨Nat.le_of_ble_eq_true rfl, Nat.le_of_ble_eq_true rfl⟩ (Nat.le_of_ble_eq_true rfl) hml hl ?_
      refine lb_eq (pc := 88) (tgt := 95) hx hb dX0_about_88 (by decide) (fun c_8 => ?_) (fun c_8 => ?_)
      · refine lv_iconst (pc := 95) (v := 1) hx hb dX0_about_95 (by decide) ?_
        exact m_iretS hx hb hr hlk dX0_about_96 (by simp only [sp_about, if_pos c_1, if_neg t_3, if_neg t_4, if_neg t_5, if_neg t_6, if_pos t_7]; exact xop_4f (hI.2.1 _ (by omega)) c_8)
      · refine lv_iconst (pc := 91) (v := 0) hx hb dX0_about_91 (by decide) ?_
        refine lv_goto (pc := 92) (tgt := 96) hx hb dX0_about_92 (by decide) ?_
        exact m_iretS hx hb hr hlk dX0_about_96 (by simp only [sp_about, if_pos c_1, if_neg t_3, if_neg t_4, if_neg t_5, if_neg t_6, if_pos t_7]; exact xop_4t (hI.2.1 _ (by omega)) c_8)
    by_cases t_9 : x = 5
    · refine lv_tableIn (pc := 25) (off := 72) (tgt := 97) hx hb dX0_about_25 (by rw [t_9]; decide) (by rw [t_9]; decide) (by rw [t_9]; rfl) (by decide) ?_
      refine lv_iconst (pc := 97) (v := 0) hx hb dX0_about_97 (by decide) ?_
      refine lv_istore (pc := 98) (lv' := [(4, .int 0), (3, .ref (g 2 r.toNatClampNeg)), (0, .ref (g 0 0)), (1, .int r), (2, .int x)]) hx hb dX0_about_98 hl (by decide) rfl (fun ls hl => ?_)
      have loop : ∀ (k : Nat) (i : Nat), i + k = cnt st 24 → ∀ ls : Array Slot, lv_has ls 5 [(0, .ref (g 0 0)), (1, .int r), (4, .int (nI i))] → W p l e (xRm 6 0 0) s m ([.ref (g 0 0), .int r, .int x] : List Value).toArray below meth c s.heap [] 0 0 (MQ below (k2_QcV (.int (lat st r k i))) ([.ref (g 0 0), .int r, .int x] : List Value).toArray s 0 0 (fun _ => False)) (F0 m 100 ls []) := by
        intro k
        induction k with
        | zero =>
          intro i hi ls hl
          refine lv_iload (pc := 100) hx hb dX0_about_100 (lv_at hl 2 rfl) ?_
          refine lv_aload_n (pc := 102) hx hb dX0_about_102 rfl (lv_at hl 0 rfl) ?_
          refine x_rd (pc := 103) (v := .int (nI (cnt st 24))) E hw.1 12 hpx (C := RX0) (T := TX0) (N := 20) rfl in_X0 (Nat.le_of_ble_eq_true rfl) q125 (fun _ h => h) rfl dX0_about_103 ?_
          refine li_icmp_geN (pc := 106) (a := i) (b := cnt st 24) (tgt := 129) hx hb (by omega) (by omega) dX0_about_106 (by decide) (fun c_10 => ?_) (fun c_10 => absurd c_10 (by omega))
          refine lv_bipush (pc := 129) (v := (-9)) hx hb dX0_about_129 (by decide) ?_
          exact m_iretS hx hb hr hlk dX0_about_131 (by simp only [lat])
        | succ k ih_loop =>
          intro i hi ls hl
          refine lv_iload (pc := 100) hx hb dX0_about_100 (lv_at hl 2 rfl) ?_
          refine lv_aload_n (pc := 102) hx hb dX0_about_102 rfl (lv_at hl 0 rfl) ?_
          refine x_rd (pc := 103) (v := .int (nI (cnt st 24))) E hw.1 12 hpx (C := RX0) (T := TX0) (N := 20) rfl in_X0 (Nat.le_of_ble_eq_true rfl) q125 (fun _ h => h) rfl dX0_about_103 ?_
          refine li_icmp_geN (pc := 106) (a := i) (b := cnt st 24) (tgt := 129) hx hb (by omega) (by omega) dX0_about_106 (by decide) (fun c_11 => absurd c_11 (by omega)) (fun c_11 => ?_)
          refine lv_aload_n (pc := 109) hx hb dX0_about_109 rfl (lv_at hl 0 rfl) ?_
          refine x_rd (pc := 110) (v := .ref (g 0 11)) E hw.1 11 hpx (C := RX0) (T := TX0) (N := 20) rfl in_X0 (Nat.le_of_ble_eq_true rfl) q124 (fun _ h => h) rfl dX0_about_110 ?_
          refine lv_iload (pc := 113) hx hb dX0_about_113 (lv_at hl 2 rfl) ?_
          obtain ⟨f_26, hpa_26, hf_26⟩ := hR.p11
          refine x_ildN (pc := 115) (v := (st 26 i)) E hw.1 (i) hpa_26 (show i < 10 from (by omega)) (Nat.le_of_ble_eq_true rfl) (hf_26 _ (by omega)) dX0_about_115 ?_
          refine lv_iload_n (pc := 116) hx hb dX0_about_116 rfl (lv_at hl 1 rfl) ?_
          refine li_icne (pc := 117) (tgt := 123) hx hb dX0_about_117 (by decide) (fun c_12 => ?_) (fun c_12 => ?_)
          · refine lv_iinc (pc := 123) (v := (nI (i + 1))) (lv' := [(4, .int (nI (i + 1))), (0, .ref (g 0 0)), (1, .int r)]) hx hb dX0_about_123 hl (k := 2) rfl (nI_1 _) (by decide) rfl (fun ls hl => ?_)
            refine lv_goto (pc := 126) (tgt := 100) hx hb dX0_about_126 (by decide) ?_
            exact x_toR (by simp only [lat, if_neg c_12]) (ih_loop (i + 1) (by omega) _ (lv_sub hl [1, 2, 0] rfl))
          · refine lv_iload (pc := 120) hx hb dX0_about_120 (lv_at hl 2 rfl) ?_
            exact m_iretS hx hb hr hlk dX0_about_122 (by simp only [lat, if_pos c_12])
      exact x_toR (by simp only [sp_about, if_pos c_1, if_neg t_3, if_neg t_4, if_neg t_5, if_neg t_6, if_neg t_7, if_pos t_9]) (loop (cnt st 24) 0 (by omega) _ (lv_sub hl [2, 3, 0] rfl))
    have t_13 : x.toInt < 0 ∨ 5 < x.toInt := by
      have n0_ : ¬ x.toInt = 0 := lv_neT t_3 (by decide)
      have n1_ : ¬ x.toInt = 1 := lv_neT t_4 (by decide)
      have n2_ : ¬ x.toInt = 2 := lv_neT t_5 (by decide)
      have n3_ : ¬ x.toInt = 3 := lv_neT t_6 (by decide)
      have n4_ : ¬ x.toInt = 4 := lv_neT t_7 (by decide)
      have n5_ : ¬ x.toInt = 5 := lv_neT t_9 (by decide)
      omega
    refine lv_tableOut (pc := 25) (tgt := 132) hx hb dX0_about_25 t_13 (by decide) ?_
    refine lv_bipush (pc := 132) (v := (-2)) hx hb dX0_about_132 (by decide) ?_
    exact m_iretS hx hb hr hlk dX0_about_134 (by simp only [sp_about, if_pos c_1, if_neg t_3, if_neg t_4, if_neg t_5, if_neg t_6, if_neg t_7, if_neg t_9])
  · refine lv_iconst (pc := 8) (v := (-1)) hx hb dX0_about_8 (by decide) ?_
    exact m_iretS hx hb hr hlk dX0_about_9 (by simp only [sp_about, if_neg c_1])
set_option maxHeartbeats 4000000 in
set_option maxRecDepth 100000 in
theorem xtX0_roadAt (l : Launch) (D : xD) (A : Nat → Prop) (V : xV) (st : mS) (g : xG)  (d : Int32) (hI : mI st) (hR : xR D st g V)  : Met l yX0_roadAt (ws_ yX0_roadAt cX0_roadAt 4 (some .int)) (xRm 4 0 0) (xP D A V [.ref (g 0 0), .int d]) (k2_QcV (.int (sp_roadAt st d))) 0 0 (fun _ => False) := by
  refine x_headR (own := RX0) (As := [.ref (g 0 0), .int d]) (bytes := cX0_roadAt) (maxL := 4) (ret := (some .int)) (by decide) rfl (Nat.le_of_ble_eq_true rfl) ?_
  intro p e s m below meth c E hml hr hlk hw0 ls hl
  have hw : xWd D A s V s.heap [] := ⟨hw0, va_S.rf⟩
  have hx := E.1
  have hb := E.2.1
  have hts := E.2.2.1
  have hown := E.2.2.2.1
  have hl : lv_has ls 4 [(0, .ref (g 0 0)), (1, .int d)] := hl
  have h16 := hI.r16
  have h10 := hI.l10
  have hv8 := hI.v8
  have hc8 := hI.c8
  have hk8 := hI.k8
  have hb8 := hI.b8
  refine lv_aload_n (pc := 0) hx hb dX0_roadAt_0 rfl (lv_at hl 0 rfl) ?_
  obtain ⟨b7, b8, b9, hpx⟩ := hR.px hI
  replace hpx : V (g 0 0) = some (.inr (0, [.int (st 0 0), .int (st 0 42), .ref (g 0 2), .ref (g 0 3), .int (nI (cnt st 12)), .ref (g 0 5), .ref (g 0 6), .int b7, .long b8, .int b9, .int (st 0 14), .ref (g 0 11), .int (nI (cnt st 24)), .int (st 0 25), .ref (g 0 14), .ref (g 0 15), .int (nI (cnt st 27)), .ref (g 0 17), .ref (g 0 18), .ref (g 0 19)])) := hpx
  refine x_rd (pc := 1) (v := .int (nI (cnt st 24))) E hw.1 12 hpx (C := RX0) (T := TX0) (N := 20) rfl in_X0 (Nat.le_of_ble_eq_true rfl) q125 (fun _ h => h) rfl dX0_roadAt_1 ?_
  refine li_if_neN (pc := 4) (tgt := 10) hx hb (by omega) dX0_roadAt_4 (by decide) (fun c_1 => ?_) (fun c_1 => ?_)
  · refine lv_iload_n (pc := 10) hx hb dX0_roadAt_10 rfl (lv_at hl 1 rfl) ?_
    refine lv_i2l (pc := 11) (v := d.toInt64) hx hb dX0_roadAt_11 rfl ?_
    refine lv_lconst (pc := 12) (v := 0) hx hb dX0_roadAt_12 (by decide) ?_
    refine lv_aload_n (pc := 13) hx hb dX0_roadAt_13 rfl (lv_at hl 0 rfl) ?_
    refine x_rd (pc := 14) (v := .int (st 0 25)) E hw.1 13 hpx (C := RX0) (T := TX0) (N := 20) rfl in_X0 (Nat.le_of_ble_eq_true rfl) q126 (fun _ h => h) rfl dX0_roadAt_14 ?_
    refine lv_i2l (pc := 17) (v := (st 0 25).toInt64) hx hb dX0_roadAt_17 rfl ?_
    refine x_goR (x_runS (pc := 18) (As := [.long d.toInt64, .long 0, .long (st 0 25).toInt64]) (rest := []) E hml hl.1 (x_preE) (xtX0_isInB l d 0 (st 0 25).toInt64 0 ((st 0 25).toInt) rfl (Int32.toInt_toInt64 _)) q184 q185 q48 q186 hdX0_isIn.2 ⟨Nat.le_of_ble_eq_true rfl, Nat.le_of_ble_eq_true rfl⟩ rfl rfl rfl (Nat.le_of_ble_eq_true rfl) dX0_roadAt_18 ⟨Nat.le_of_ble_eq_true rfl, Nat.le_of_ble_eq_true rfl⟩) ?_
    refine lb_ne (pc := 21) (tgt := 27) hx hb dX0_roadAt_21 (by decide) (fun c_2 => ?_) (fun c_2 => ?_)
    · refine lv_iconst (pc := 27) (v := 0) hx hb dX0_roadAt_27 (by decide) ?_
      refine lv_istore_n (pc := 28) (lv' := [(2, .int 0), (0, .ref (g 0 0)), (1, .int d)]) hx hb dX0_roadAt_28 rfl hl (by decide) rfl (fun ls hl => ?_)
      refine lv_iconst (pc := 29) (v := 0) hx hb dX0_roadAt_29 (by decide) ?_
      refine lv_istore_n (pc := 30) (lv' := [(3, .int 0), (2, .int 0), (0, .ref (g 0 0)), (1, .int d)]) hx hb dX0_roadAt_30 rfl hl (by decide) rfl (fun ls hl => ?_)
      have loop : ∀ (k : Nat) (i : Nat) (e_ : Int32), i + k = cnt st 24 → ∀ ls : Array Slot, lv_has ls 4 [(0, .ref (g 0 0)), (1, .int d), (2, .int e_), (3, .int (nI i))] → W p l e (xRm 4 0 0) s m ([.ref (g 0 0), .int d] : List Value).toArray below meth c s.heap [] 0 0 (MQ below (k2_QcV (.int (rdt st d k i e_))) ([.ref (g 0 0), .int d] : List Value).toArray s 0 0 (fun _ => False)) (F0 m 31 ls []) := by
        intro k
        induction k with
        | zero =>
          intro i e_ hi ls hl
          refine lv_iload_n (pc := 31) hx hb dX0_roadAt_31 rfl (lv_at hl 3 rfl) ?_
          refine lv_aload_n (pc := 32) hx hb dX0_roadAt_32 rfl (lv_at hl 0 rfl) ?_
          refine x_rd (pc := 33) (v := .int (nI (cnt st 24))) E hw.1 12 hpx (C := RX0) (T := TX0) (N := 20) rfl in_X0 (Nat.le_of_ble_eq_true rfl) q125 (fun _ h => h) rfl dX0_roadAt_33 ?_
          refine li_icmp_geN (pc := 36) (a := i) (b := cnt st 24) (tgt := 81) hx hb (by omega) (by omega) dX0_roadAt_36 (by decide) (fun c_3 => ?_) (fun c_3 => absurd c_3 (by omega))
          refine lv_aload_n (pc := 81) hx hb dX0_roadAt_81 rfl (lv_at hl 0 rfl) ?_
          refine x_rd (pc := 82) (v := .ref (g 0 11)) E hw.1 11 hpx (C := RX0) (T := TX0) (N := 20) rfl in_X0 (Nat.le_of_ble_eq_true rfl) q124 (fun _ h => h) rfl dX0_roadAt_82 ?_
          refine lv_aload_n (pc := 85) hx hb dX0_roadAt_85 rfl (lv_at hl 0 rfl) ?_
          refine x_rd (pc := 86) (v := .int (nI (cnt st 24))) E hw.1 12 hpx (C := RX0) (T := TX0) (N := 20) rfl in_X0 (Nat.le_of_ble_eq_true rfl) q125 (fun _ h => h) rfl dX0_roadAt_86 ?_
          refine lv_iconst (pc := 89) (v := 1) hx hb dX0_roadAt_89 (by decide) ?_
          refine li_subN (pc := 90) (a := cnt st 24) (b := 1) hx hb (by omega) dX0_roadAt_90 ?_
          obtain ⟨f_26, hpa_26, hf_26⟩ := hR.p11
          refine x_ildN (pc := 91) (v := (st 26 ((cnt st 24) - 1))) E hw.1 ((cnt st 24) - 1) hpa_26 (show (cnt st 24) - 1 < 10 from (by omega)) (Nat.le_of_ble_eq_true rfl) (hf_26 _ (by omega)) dX0_roadAt_91 ?_
          exact m_iretS hx hb hr hlk dX0_roadAt_92 (by first | rfl | simp only [rdt])
        | succ k ih_loop =>
          intro i e_ hi ls hl
          have hg_ := hI.2.2.1.1 i (by omega)
          have hgn := clamp_n (x := st 26 i) hg_.1
          have hgi := clamp_i (x := st 26 i) hg_.1
          have hgl : (st 26 i).toNatClampNeg < cnt st 1 := by have := cnt_i hI.R.1; omega
          refine lv_iload_n (pc := 31) hx hb dX0_roadAt_31 rfl (lv_at hl 3 rfl) ?_
          refine lv_aload_n (pc := 32) hx hb dX0_roadAt_32 rfl (lv_at hl 0 rfl) ?_
          refine x_rd (pc := 33) (v := .int (nI (cnt st 24))) E hw.1 12 hpx (C := RX0) (T := TX0) (N := 20) rfl in_X0 (Nat.le_of_ble_eq_true rfl) q125 (fun _ h => h) rfl dX0_roadAt_33 ?_
          refine li_icmp_geN (pc := 36) (a := i) (b := cnt st 24) (tgt := 81) hx hb (by omega) (by omega) dX0_roadAt_36 (by decide) (fun c_4 => absurd c_4 (by omega)) (fun c_4 => ?_)
          refine lv_iload_n (pc := 39) hx hb dX0_roadAt_39 rfl (lv_at hl 2 rfl) ?_
          refine lv_aload_n (pc := 40) hx hb dX0_roadAt_40 rfl (lv_at hl 0 rfl) ?_
          refine x_rd (pc := 41) (v := .ref (g 0 2)) E hw.1 2 hpx (C := RX0) (T := TX0) (N := 20) rfl in_X0 (Nat.le_of_ble_eq_true rfl) q115 (fun _ h => h) rfl dX0_roadAt_41 ?_
          refine lv_aload_n (pc := 44) hx hb dX0_roadAt_44 rfl (lv_at hl 0 rfl) ?_
          refine x_rd (pc := 45) (v := .ref (g 0 11)) E hw.1 11 hpx (C := RX0) (T := TX0) (N := 20) rfl in_X0 (Nat.le_of_ble_eq_true rfl) q124 (fun _ h => h) rfl dX0_roadAt_45 ?_
          refine lv_iload_n (pc := 48) hx hb dX0_roadAt_48 rfl (lv_at hl 3 rfl) ?_
          obtain ⟨f_26, hpa_26, hf_26⟩ := hR.p11
          refine x_ildN (pc := 49) (v := (st 26 i)) E hw.1 (i) hpa_26 (show i < 10 from (by omega)) (Nat.le_of_ble_eq_true rfl) (hf_26 _ (by omega)) dX0_roadAt_49 ?_
          refine li_top (v' := .int (nI (st 26 i).toNatClampNeg)) (congrArg Value.int hgn) ?_
          obtain ⟨mc_2, hpl_2⟩ := hR.p2
          obtain ⟨cap_0, f1_0, hpe_0, hcap_0, hle_0, hel_0⟩ := hR.pe (j := 0) (by decide)
          replace hle_0 : cnt st 1 ≤ cap_0 := hle_0
          replace hel_0 : ∀ q, q < cnt st 1 → f1_0 q = some (g 2 q) := hel_0
          refine x_goR5 (x_runF (pc := 50) (As := [.int (nI (st 26 i).toNatClampNeg)]) (rest := [.int e_]) E hml hl.1 hw.2 hw.1 hpl_2 (C := RJ2) (T := TJ2) (N := 3) rfl (xtJ2_get l D A V (g 0 2) (g 1 0) (cnt st 1) cap_0 (g 2 (st 26 i).toNatClampNeg) (st 26 i).toNatClampNeg mc_2 f1_0 hpl_2 hpe_0 (show (st 26 i).toNatClampNeg < cnt st 1 from (by omega)) hle_0 (by have := hcap_0; omega) (hel_0 _ (by omega))) E.2.2.2.2.1.2.1.2.2.2.2.2.2.1 q337 q340 q342 q51 q344 hdF_get ⟨Nat.le_of_ble_eq_true rfl, Nat.le_of_ble_eq_true rfl⟩ rfl rfl rfl (Nat.le_of_ble_eq_true rfl) dX0_roadAt_50 ⟨Nat.le_of_ble_eq_true rfl, Nat.le_of_ble_eq_true rfl⟩) ?_
          have hpr_5 := hR.road (j := (st 26 i).toNatClampNeg) (by omega)
          refine x_castRo (pc := 55) E hw.1 hpr_5 q199 dX0_roadAt_55 ?_
          refine x_rdRo (pc := 58) (v := (st 4 (st 26 i).toNatClampNeg)) E hw.1 hpr_5 2 (Nat.le_of_ble_eq_true rfl) q212 rfl dX0_roadAt_58 ?_
          refine lv_iadd (pc := 61) hx hb dX0_roadAt_61 ?_
          refine lv_istore_n (pc := 62) (lv' := [(2, .int (e_ + (st 4 (st 26 i).toNatClampNeg))), (0, .ref (g 0 0)), (1, .int d), (3, .int (nI i))]) hx hb dX0_roadAt_62 rfl hl (by decide) rfl (fun ls hl => ?_)
          refine lv_iload_n (pc := 63) hx hb dX0_roadAt_63 rfl (lv_at hl 2 rfl) ?_
          refine lv_iload_n (pc := 64) hx hb dX0_roadAt_64 rfl (lv_at hl 0 rfl) ?_
          refine li_icmp_ge (pc := 65) (tgt := 75) hx hb dX0_roadAt_65 (by decide) (fun c_6 => ?_) (fun c_6 => ?_)
          · refine lv_iinc (pc := 75) (v := (nI (i + 1))) (lv' := [(3, .int (nI (i + 1))), (2, .int (e_ + (st 4 (st 26 i).toNatClampNeg))), (0, .ref (g 0 0)), (1, .int d)]) hx hb dX0_roadAt_75 hl (k := 3) rfl (nI_1 _) (by decide) rfl (fun ls hl => ?_)
            refine lv_goto (pc := 78) (tgt := 31) hx hb dX0_roadAt_78 (by decide) ?_
            exact x_toR (by simp only [rdt, if_neg c_6]) (ih_loop (i + 1) (e_ + (st 4 (st 26 i).toNatClampNeg)) (by omega) _ (lv_sub hl [2, 3, 1, 0] rfl))
          · refine lv_aload_n (pc := 68) hx hb dX0_roadAt_68 rfl (lv_at hl 1 rfl) ?_
            refine x_rd (pc := 69) (v := .ref (g 0 11)) E hw.1 11 hpx (C := RX0) (T := TX0) (N := 20) rfl in_X0 (Nat.le_of_ble_eq_true rfl) q124 (fun _ h => h) rfl dX0_roadAt_69 ?_
            refine lv_iload_n (pc := 72) hx hb dX0_roadAt_72 rfl (lv_at hl 3 rfl) ?_
            refine x_ildN (pc := 73) (v := (st 26 i)) E hw.1 (i) hpa_26 (show i < 10 from (by omega)) (Nat.le_of_ble_eq_true rfl) (hf_26 _ (by omega)) dX0_roadAt_73 ?_
            exact m_iretS hx hb hr hlk dX0_roadAt_74 (by first | rfl | simp only [rdt, if_pos c_6])
      exact x_toR (by simp only [sp_roadAt, if_neg c_1, if_pos c_2]) (loop (cnt st 24) 0 0 (by omega) _ (lv_sub hl [2, 3, 1, 0] rfl))
    · refine lv_bipush (pc := 24) (v := (-2)) hx hb dX0_roadAt_24 (by decide) ?_
      exact m_iretS hx hb hr hlk dX0_roadAt_26 (by simp only [sp_roadAt, if_neg c_1, if_neg c_2])
  · refine lv_bipush (pc := 7) (v := (-3)) hx hb dX0_roadAt_7 (by decide) ?_
    exact m_iretS hx hb hr hlk dX0_roadAt_9 (by simp only [sp_roadAt, if_pos c_1])
def xsv (st : mS) (z : Int32) : Nat → Nat → Int32 → Int32
  | 0, _, v => v
  | n + 1, i, v => xsv st z n (i + 1) (if st 28 i = z then st 29 i else v)
def xnp (st : mS) (z : Int32) : Nat → Nat → Int32 → Int32
  | 0, _, x => x
  | n + 1, i, x => xnp st z n (i + 1) (if z.toInt < (st 28 i).toInt then if (st 28 i).toInt < x.toInt then st 28 i else x else x)
theorem dun_eq (st : mS) (z : Int32) : ∀ (n i : Nat) (v x : Int32), dun st z n i v x = (xsv st z n i v, xnp st z n i x) := by
  intro n
  induction n with
  | zero => intro i v x; rfl
  | succ n ih => intro i v x; simp only [dun, xsv, xnp, ih]
theorem xsv_hdu {st : mS} : ∀ (n i : Nat) (v h : Int32), (∀ k, i ≤ k → k < i + n → 0 < (st 29 k).toInt) → ((0 < v.toInt ↔ ¬ h = 0) ∧ 0 ≤ v.toInt) → (0 < (xsv st 0 n i v).toInt ↔ ¬ hdu st n i h = 0) := by
  intro n
  induction n with
  | zero => intro i v h _ hh; exact hh.1
  | succ n ih =>
    intro i v h hp hh
    simp only [xsv, hdu]
    refine ih (i + 1) _ _ (fun k h1 h2 => hp k (by omega) (by omega)) ?_
    by_cases h1 : st 28 i = 0
    · rw [if_pos h1, if_pos h1]
      have q := hp i (Nat.le_refl _) (by omega)
      refine ⟨⟨fun _ => ?_, fun _ => q⟩, by omega⟩
      split <;> decide
    · rw [if_neg h1, if_neg h1]
      by_cases h0 : h = 0
      · rw [if_pos h0]
        refine ⟨⟨fun a => absurd h0 (hh.1.mp a), fun a => absurd rfl a⟩, hh.2⟩
      · rw [if_neg h0]
        exact ⟨⟨fun _ => by decide, fun _ => hh.1.mpr h0⟩, hh.2⟩
theorem xsv_has {st : mS} (hI : mI st) : (0 < cnt st 24 ∧ 0 < (xsv st 0 (cnt st 27) 0 0).toInt) ↔ hasD st := by
  have h := xsv_hdu (st := st) (cnt st 27) 0 0 0 (fun k _ hk => (hI.2.2.1.2.2.2.1 k (by omega)).1) ⟨by decide, by decide⟩
  unfold hasD
  rw [← h]
  exact ⟨fun q => ⟨q.2, q.1⟩, fun q => ⟨q.2, q.1⟩⟩
set_option maxHeartbeats 4000000 in
set_option maxRecDepth 100000 in
theorem xtX0_speedAt (l : Launch) (D : xD) (A : Nat → Prop) (V : xV) (st : mS) (g : xG)  (x : Int32) (hI : mI st) (hR : xR D st g V)  : Met l yX0_speedAt (ws_ yX0_speedAt cX0_speedAt 4 (some .int)) (xRm 1 0 0) (xP D A V [.ref (g 0 0), .int x]) (k2_QcV (.int (xsv st x (cnt st 27) 0 0))) 0 0 (fun _ => False) := by
  refine x_headR (own := RX0) (As := [.ref (g 0 0), .int x]) (bytes := cX0_speedAt) (maxL := 4) (ret := (some .int)) (by decide) rfl (Nat.le_of_ble_eq_true rfl) ?_
  intro p e s m below meth c E hml hr hlk hw0 ls hl
  have hw : xWd D A s V s.heap [] := ⟨hw0, va_S.rf⟩
  have hx := E.1
  have hb := E.2.1
  have hts := E.2.2.1
  have hown := E.2.2.2.1
  have hl : lv_has ls 4 [(0, .ref (g 0 0)), (1, .int x)] := hl
  have h16 := hI.r16
  have h10 := hI.l10
  have hv8 := hI.v8
  have hc8 := hI.c8
  have hk8 := hI.k8
  have hb8 := hI.b8
  refine lv_iconst (pc := 0) (v := 0) hx hb dX0_speedAt_0 (by decide) ?_
  refine lv_istore_n (pc := 1) (lv' := [(2, .int 0), (0, .ref (g 0 0)), (1, .int x)]) hx hb dX0_speedAt_1 rfl hl (by decide) rfl (fun ls hl => ?_)
  refine lv_iconst (pc := 2) (v := 0) hx hb dX0_speedAt_2 (by decide) ?_
  refine lv_istore_n (pc := 3) (lv' := [(3, .int 0), (2, .int 0), (0, .ref (g 0 0)), (1, .int x)]) hx hb dX0_speedAt_3 rfl hl (by decide) rfl (fun ls hl => ?_)
  have loop : ∀ (k : Nat) (i : Nat) (v : Int32), i + k = cnt st 27 → ∀ ls : Array Slot, lv_has ls 4 [(0, .ref (g 0 0)), (1, .int x), (2, .int v), (3, .int (nI i))] → W p l e (xRm 1 0 0) s m ([.ref (g 0 0), .int x] : List Value).toArray below meth c s.heap [] 0 0 (MQ below (k2_QcV (.int (xsv st x k i v))) ([.ref (g 0 0), .int x] : List Value).toArray s 0 0 (fun _ => False)) (F0 m 4 ls []) := by
    intro k
    induction k with
    | zero =>
      intro i v hi ls hl
      refine lv_iload_n (pc := 4) hx hb dX0_speedAt_4 rfl (lv_at hl 3 rfl) ?_
      refine lv_aload_n (pc := 5) hx hb dX0_speedAt_5 rfl (lv_at hl 0 rfl) ?_
      obtain ⟨b7, b8, b9, hpx⟩ := hR.px hI
      replace hpx : V (g 0 0) = some (.inr (0, [.int (st 0 0), .int (st 0 42), .ref (g 0 2), .ref (g 0 3), .int (nI (cnt st 12)), .ref (g 0 5), .ref (g 0 6), .int b7, .long b8, .int b9, .int (st 0 14), .ref (g 0 11), .int (nI (cnt st 24)), .int (st 0 25), .ref (g 0 14), .ref (g 0 15), .int (nI (cnt st 27)), .ref (g 0 17), .ref (g 0 18), .ref (g 0 19)])) := hpx
      refine x_rd (pc := 6) (v := .int (nI (cnt st 27))) E hw.1 16 hpx (C := RX0) (T := TX0) (N := 20) rfl in_X0 (Nat.le_of_ble_eq_true rfl) q129 (fun _ h => h) rfl dX0_speedAt_6 ?_
      refine li_icmp_geN (pc := 9) (a := i) (b := cnt st 27) (tgt := 39) hx hb (by omega) (by omega) dX0_speedAt_9 (by decide) (fun c_1 => ?_) (fun c_1 => absurd c_1 (by omega))
      refine lv_iload_n (pc := 39) hx hb dX0_speedAt_39 rfl (lv_at hl 2 rfl) ?_
      exact m_iretS hx hb hr hlk dX0_speedAt_40 rfl
    | succ k ih_loop =>
      intro i v hi ls hl
      refine lv_iload_n (pc := 4) hx hb dX0_speedAt_4 rfl (lv_at hl 3 rfl) ?_
      refine lv_aload_n (pc := 5) hx hb dX0_speedAt_5 rfl (lv_at hl 0 rfl) ?_
      obtain ⟨b7, b8, b9, hpx⟩ := hR.px hI
      replace hpx : V (g 0 0) = some (.inr (0, [.int (st 0 0), .int (st 0 42), .ref (g 0 2), .ref (g 0 3), .int (nI (cnt st 12)), .ref (g 0 5), .ref (g 0 6), .int b7, .long b8, .int b9, .int (st 0 14), .ref (g 0 11), .int (nI (cnt st 24)), .int (st 0 25), .ref (g 0 14), .ref (g 0 15), .int (nI (cnt st 27)), .ref (g 0 17), .ref (g 0 18), .ref (g 0 19)])) := hpx
      refine x_rd (pc := 6) (v := .int (nI (cnt st 27))) E hw.1 16 hpx (C := RX0) (T := TX0) (N := 20) rfl in_X0 (Nat.le_of_ble_eq_true rfl) q129 (fun _ h => h) rfl dX0_speedAt_6 ?_
      refine li_icmp_geN (pc := 9) (a := i) (b := cnt st 27) (tgt := 39) hx hb (by omega) (by omega) dX0_speedAt_9 (by decide) (fun c_2 => absurd c_2 (by omega)) (fun c_2 => ?_)
      refine lv_aload_n (pc := 12) hx hb dX0_speedAt_12 rfl (lv_at hl 0 rfl) ?_
      refine x_rd (pc := 13) (v := .ref (g 0 14)) E hw.1 14 hpx (C := RX0) (T := TX0) (N := 20) rfl in_X0 (Nat.le_of_ble_eq_true rfl) q127 (fun _ h => h) rfl dX0_speedAt_13 ?_
      refine lv_iload_n (pc := 16) hx hb dX0_speedAt_16 rfl (lv_at hl 3 rfl) ?_
      obtain ⟨f_28, hpa_28, hf_28⟩ := hR.p14
      refine x_ildN (pc := 17) (v := (st 28 i)) E hw.1 (i) hpa_28 (show i < 8 from (by omega)) (Nat.le_of_ble_eq_true rfl) (hf_28 _ (by omega)) dX0_speedAt_17 ?_
      refine lv_iload_n (pc := 18) hx hb dX0_speedAt_18 rfl (lv_at hl 1 rfl) ?_
      refine li_icne (pc := 19) (tgt := 31) hx hb dX0_speedAt_19 (by decide) (fun c_3 => ?_) (fun c_3 => ?_)
      · refine lv_iload_n (pc := 31) hx hb dX0_speedAt_31 rfl (lv_at hl 2 rfl) ?_
        refine lv_istore_n (pc := 32) (lv' := [(2, .int v), (0, .ref (g 0 0)), (1, .int x), (3, .int (nI i))]) hx hb dX0_speedAt_32 rfl hl (by decide) rfl (fun ls hl => ?_)
        refine lv_iinc (pc := 33) (v := (nI (i + 1))) (lv' := [(3, .int (nI (i + 1))), (2, .int v), (0, .ref (g 0 0)), (1, .int x)]) hx hb dX0_speedAt_33 hl (k := 3) rfl (nI_1 _) (by decide) rfl (fun ls hl => ?_)
        refine lv_goto (pc := 36) (tgt := 4) hx hb dX0_speedAt_36 (by decide) ?_
        exact x_toR (by simp only [xsv, if_neg c_3]) (ih_loop (i + 1) v (by omega) _ (lv_sub hl [2, 3, 1, 0] rfl))
      · refine lv_aload_n (pc := 22) hx hb dX0_speedAt_22 rfl (lv_at hl 0 rfl) ?_
        refine x_rd (pc := 23) (v := .ref (g 0 15)) E hw.1 15 hpx (C := RX0) (T := TX0) (N := 20) rfl in_X0 (Nat.le_of_ble_eq_true rfl) q128 (fun _ h => h) rfl dX0_speedAt_23 ?_
        refine lv_iload_n (pc := 26) hx hb dX0_speedAt_26 rfl (lv_at hl 3 rfl) ?_
        obtain ⟨f_29, hpa_29, hf_29⟩ := hR.p15
        refine x_ildN (pc := 27) (v := (st 29 i)) E hw.1 (i) hpa_29 (show i < 8 from (by omega)) (Nat.le_of_ble_eq_true rfl) (hf_29 _ (by omega)) dX0_speedAt_27 ?_
        refine lv_goto (pc := 28) (tgt := 32) hx hb dX0_speedAt_28 (by decide) ?_
        refine lv_istore_n (pc := 32) (lv' := [(2, .int (st 29 i)), (0, .ref (g 0 0)), (1, .int x), (3, .int (nI i))]) hx hb dX0_speedAt_32 rfl hl (by decide) rfl (fun ls hl => ?_)
        refine lv_iinc (pc := 33) (v := (nI (i + 1))) (lv' := [(3, .int (nI (i + 1))), (2, .int (st 29 i)), (0, .ref (g 0 0)), (1, .int x)]) hx hb dX0_speedAt_33 hl (k := 3) rfl (nI_1 _) (by decide) rfl (fun ls hl => ?_)
        refine lv_goto (pc := 36) (tgt := 4) hx hb dX0_speedAt_36 (by decide) ?_
        exact x_toR (by simp only [xsv, if_pos c_3]) (ih_loop (i + 1) (st 29 i) (by omega) _ (lv_sub hl [2, 3, 1, 0] rfl))
  exact x_toR rfl (loop (cnt st 27) 0 0 (by omega) _ (lv_sub hl [2, 3, 1, 0] rfl))
set_option maxHeartbeats 4000000 in
set_option maxRecDepth 100000 in
theorem xtX0_nextPlace (l : Launch) (D : xD) (A : Nat → Prop) (V : xV) (st : mS) (g : xG)  (x : Int32) (y : Int32) (hI : mI st) (hR : xR D st g V)  : Met l yX0_nextPlace (ws_ yX0_nextPlace cX0_nextPlace 5 (some .int)) (xRm 1 0 0) (xP D A V [.ref (g 0 0), .int x, .int y]) (k2_QcV (.int (xnp st x (cnt st 27) 0 y))) 0 0 (fun _ => False) := by
  refine x_headR (own := RX0) (As := [.ref (g 0 0), .int x, .int y]) (bytes := cX0_nextPlace) (maxL := 5) (ret := (some .int)) (by decide) rfl (Nat.le_of_ble_eq_true rfl) ?_
  intro p e s m below meth c E hml hr hlk hw0 ls hl
  have hw : xWd D A s V s.heap [] := ⟨hw0, va_S.rf⟩
  have hx := E.1
  have hb := E.2.1
  have hts := E.2.2.1
  have hown := E.2.2.2.1
  have hl : lv_has ls 5 [(0, .ref (g 0 0)), (1, .int x), (2, .int y)] := hl
  have h16 := hI.r16
  have h10 := hI.l10
  have hv8 := hI.v8
  have hc8 := hI.c8
  have hk8 := hI.k8
  have hb8 := hI.b8
  refine lv_iload_n (pc := 0) hx hb dX0_nextPlace_0 rfl (lv_at hl 2 rfl) ?_
  refine lv_istore_n (pc := 1) (lv' := [(3, .int y), (0, .ref (g 0 0)), (1, .int x), (2, .int y)]) hx hb dX0_nextPlace_1 rfl hl (by decide) rfl (fun ls hl => ?_)
  refine lv_iconst (pc := 2) (v := 0) hx hb dX0_nextPlace_2 (by decide) ?_
  refine lv_istore (pc := 3) (lv' := [(4, .int 0), (3, .int y), (0, .ref (g 0 0)), (1, .int x), (2, .int y)]) hx hb dX0_nextPlace_3 hl (by decide) rfl (fun ls hl => ?_)
  have loop : ∀ (k : Nat) (i : Nat) (v : Int32), i + k = cnt st 27 → ∀ ls : Array Slot, lv_has ls 5 [(0, .ref (g 0 0)), (1, .int x), (2, .int y), (3, .int v), (4, .int (nI i))] → W p l e (xRm 1 0 0) s m ([.ref (g 0 0), .int x, .int y] : List Value).toArray below meth c s.heap [] 0 0 (MQ below (k2_QcV (.int (xnp st x k i v))) ([.ref (g 0 0), .int x, .int y] : List Value).toArray s 0 0 (fun _ => False)) (F0 m 5 ls []) := by
    intro k
    induction k with
    | zero =>
      intro i v hi ls hl
      refine lv_iload (pc := 5) hx hb dX0_nextPlace_5 (lv_at hl 4 rfl) ?_
      refine lv_aload_n (pc := 7) hx hb dX0_nextPlace_7 rfl (lv_at hl 0 rfl) ?_
      obtain ⟨b7, b8, b9, hpx⟩ := hR.px hI
      replace hpx : V (g 0 0) = some (.inr (0, [.int (st 0 0), .int (st 0 42), .ref (g 0 2), .ref (g 0 3), .int (nI (cnt st 12)), .ref (g 0 5), .ref (g 0 6), .int b7, .long b8, .int b9, .int (st 0 14), .ref (g 0 11), .int (nI (cnt st 24)), .int (st 0 25), .ref (g 0 14), .ref (g 0 15), .int (nI (cnt st 27)), .ref (g 0 17), .ref (g 0 18), .ref (g 0 19)])) := hpx
      refine x_rd (pc := 8) (v := .int (nI (cnt st 27))) E hw.1 16 hpx (C := RX0) (T := TX0) (N := 20) rfl in_X0 (Nat.le_of_ble_eq_true rfl) q129 (fun _ h => h) rfl dX0_nextPlace_8 ?_
      refine li_icmp_geN (pc := 11) (a := i) (b := cnt st 27) (tgt := 43) hx hb (by omega) (by omega) dX0_nextPlace_11 (by decide) (fun c_1 => ?_) (fun c_1 => absurd c_1 (by omega))
      refine lv_iload_n (pc := 43) hx hb dX0_nextPlace_43 rfl (lv_at hl 3 rfl) ?_
      exact m_iretS hx hb hr hlk dX0_nextPlace_44 rfl
    | succ k ih_loop =>
      intro i v hi ls hl
      refine lv_iload (pc := 5) hx hb dX0_nextPlace_5 (lv_at hl 4 rfl) ?_
      refine lv_aload_n (pc := 7) hx hb dX0_nextPlace_7 rfl (lv_at hl 0 rfl) ?_
      obtain ⟨b7, b8, b9, hpx⟩ := hR.px hI
      replace hpx : V (g 0 0) = some (.inr (0, [.int (st 0 0), .int (st 0 42), .ref (g 0 2), .ref (g 0 3), .int (nI (cnt st 12)), .ref (g 0 5), .ref (g 0 6), .int b7, .long b8, .int b9, .int (st 0 14), .ref (g 0 11), .int (nI (cnt st 24)), .int (st 0 25), .ref (g 0 14), .ref (g 0 15), .int (nI (cnt st 27)), .ref (g 0 17), .ref (g 0 18), .ref (g 0 19)])) := hpx
      refine x_rd (pc := 8) (v := .int (nI (cnt st 27))) E hw.1 16 hpx (C := RX0) (T := TX0) (N := 20) rfl in_X0 (Nat.le_of_ble_eq_true rfl) q129 (fun _ h => h) rfl dX0_nextPlace_8 ?_
      refine li_icmp_geN (pc := 11) (a := i) (b := cnt st 27) (tgt := 43) hx hb (by omega) (by omega) dX0_nextPlace_11 (by decide) (fun c_2 => absurd c_2 (by omega)) (fun c_2 => ?_)
      refine lv_aload_n (pc := 14) hx hb dX0_nextPlace_14 rfl (lv_at hl 0 rfl) ?_
      refine x_rd (pc := 15) (v := .ref (g 0 14)) E hw.1 14 hpx (C := RX0) (T := TX0) (N := 20) rfl in_X0 (Nat.le_of_ble_eq_true rfl) q127 (fun _ h => h) rfl dX0_nextPlace_15 ?_
      refine lv_iload (pc := 18) hx hb dX0_nextPlace_18 (lv_at hl 4 rfl) ?_
      obtain ⟨f_28, hpa_28, hf_28⟩ := hR.p14
      refine x_ildN (pc := 20) (v := (st 28 i)) E hw.1 (i) hpa_28 (show i < 8 from (by omega)) (Nat.le_of_ble_eq_true rfl) (hf_28 _ (by omega)) dX0_nextPlace_20 ?_
      refine lv_iload_n (pc := 21) hx hb dX0_nextPlace_21 rfl (lv_at hl 1 rfl) ?_
      refine li_icmp_le (pc := 22) (tgt := 37) hx hb dX0_nextPlace_22 (by decide) (fun c_3 => ?_) (fun c_3 => ?_)
      · refine lv_iinc (pc := 37) (v := (nI (i + 1))) (lv' := [(4, .int (nI (i + 1))), (0, .ref (g 0 0)), (1, .int x), (2, .int y), (3, .int v)]) hx hb dX0_nextPlace_37 hl (k := 4) rfl (nI_1 _) (by decide) rfl (fun ls hl => ?_)
        refine lv_goto (pc := 40) (tgt := 5) hx hb dX0_nextPlace_40 (by decide) ?_
        exact x_toR (by simp only [xnp, if_neg c_3]) (ih_loop (i + 1) v (by omega) _ (lv_sub hl [1, 2, 3, 4, 0] rfl))
      · refine lv_iload_n (pc := 25) hx hb dX0_nextPlace_25 rfl (lv_at hl 3 rfl) ?_
        refine lv_aload_n (pc := 26) hx hb dX0_nextPlace_26 rfl (lv_at hl 0 rfl) ?_
        refine x_rd (pc := 27) (v := .ref (g 0 14)) E hw.1 14 hpx (C := RX0) (T := TX0) (N := 20) rfl in_X0 (Nat.le_of_ble_eq_true rfl) q127 (fun _ h => h) rfl dX0_nextPlace_27 ?_
        refine lv_iload (pc := 30) hx hb dX0_nextPlace_30 (lv_at hl 4 rfl) ?_
        refine x_ildN (pc := 32) (v := (st 28 i)) E hw.1 (i) hpa_28 (show i < 8 from (by omega)) (Nat.le_of_ble_eq_true rfl) (hf_28 _ (by omega)) dX0_nextPlace_32 ?_
        refine x_mmin (pc := 33) (rest := []) hx hb hts hown hml hl.1 q575 (Nat.le_of_ble_eq_true rfl) (Nat.le_of_ble_eq_true rfl) (Nat.le_of_ble_eq_true rfl) (Nat.le_of_ble_eq_true rfl) dX0_nextPlace_33 ?_
        refine lv_istore_n (pc := 36) (lv' := [(3, .int (if (st 28 i : Int32).toInt < (v : Int32).toInt then (st 28 i : Int32) else v)), (0, .ref (g 0 0)), (1, .int x), (2, .int y), (4, .int (nI i))]) hx hb dX0_nextPlace_36 rfl hl (by decide) rfl (fun ls hl => ?_)
        refine lv_iinc (pc := 37) (v := (nI (i + 1))) (lv' := [(4, .int (nI (i + 1))), (3, .int (if (st 28 i : Int32).toInt < (v : Int32).toInt then (st 28 i : Int32) else v)), (0, .ref (g 0 0)), (1, .int x), (2, .int y)]) hx hb dX0_nextPlace_37 hl (k := 4) rfl (nI_1 _) (by decide) rfl (fun ls hl => ?_)
        refine lv_goto (pc := 40) (tgt := 5) hx hb dX0_nextPlace_40 (by decide) ?_
        exact x_toR (by simp only [xnp, if_pos c_3]) (ih_loop (i + 1) (if (st 28 i : Int32).toInt < (v : Int32).toInt then (st 28 i : Int32) else v) (by omega) _ (lv_sub hl [2, 3, 4, 1, 0] rfl))
  exact x_toR rfl (loop (cnt st 27) 0 y (by omega) _ (lv_sub hl [2, 3, 4, 1, 0] rfl))
set_option maxHeartbeats 4000000 in
set_option maxRecDepth 100000 in
theorem xtX0_isTimed (l : Launch) (D : xD) (A : Nat → Prop) (V : xV) (st : mS) (g : xG)   (hI : mI st) (hR : xR D st g V)  : Met l yX0_isTimed (ws_ yX0_isTimed cX0_isTimed 1 (some .boolean)) (xRm 2 0 0) (xP D A V [.ref (g 0 0)]) (k2_QcV (.int (bI (hasD st)))) 0 0 (fun _ => False) := by
  refine x_headR (own := RX0) (As := [.ref (g 0 0)]) (bytes := cX0_isTimed) (maxL := 1) (ret := (some .boolean)) (by decide) rfl (Nat.le_of_ble_eq_true rfl) ?_
  intro p e s m below meth c E hml hr hlk hw0 ls hl
  have hw : xWd D A s V s.heap [] := ⟨hw0, va_S.rf⟩
  have hx := E.1
  have hb := E.2.1
  have hts := E.2.2.1
  have hown := E.2.2.2.1
  have hl : lv_has ls 1 [(0, .ref (g 0 0))] := hl
  have h16 := hI.r16
  have h10 := hI.l10
  have hv8 := hI.v8
  have hc8 := hI.c8
  have hk8 := hI.k8
  have hb8 := hI.b8
  refine lv_aload_n (pc := 0) hx hb dX0_isTimed_0 rfl (lv_at hl 0 rfl) ?_
  obtain ⟨b7, b8, b9, hpx⟩ := hR.px hI
  replace hpx : V (g 0 0) = some (.inr (0, [.int (st 0 0), .int (st 0 42), .ref (g 0 2), .ref (g 0 3), .int (nI (cnt st 12)), .ref (g 0 5), .ref (g 0 6), .int b7, .long b8, .int b9, .int (st 0 14), .ref (g 0 11), .int (nI (cnt st 24)), .int (st 0 25), .ref (g 0 14), .ref (g 0 15), .int (nI (cnt st 27)), .ref (g 0 17), .ref (g 0 18), .ref (g 0 19)])) := hpx
  refine x_rd (pc := 1) (v := .int (nI (cnt st 24))) E hw.1 12 hpx (C := RX0) (T := TX0) (N := 20) rfl in_X0 (Nat.le_of_ble_eq_true rfl) q125 (fun _ h => h) rfl dX0_isTimed_1 ?_
  refine li_if_leN (pc := 4) (tgt := 19) hx hb (by omega) dX0_isTimed_4 (by decide) (fun c_1 => ?_) (fun c_1 => ?_)
  · refine lv_iconst (pc := 19) (v := 0) hx hb dX0_isTimed_19 (by decide) ?_
    exact m_zretS hx hb hr hlk dX0_isTimed_20 rfl ((bI_f (fun q => absurd ((xsv_has hI).mpr q) (by simp_all))).symm)
  · refine lv_aload_n (pc := 7) hx hb dX0_isTimed_7 rfl (lv_at hl 0 rfl) ?_
    refine lv_iconst (pc := 8) (v := 0) hx hb dX0_isTimed_8 (by decide) ?_
    refine x_goR (x_runV (pc := 9) (As := [.int 0]) (rest := []) E hml hl.1 hw.2 hw.1 hpx (C := RX0) (T := TX0) (N := 20) rfl (xtX0_speedAt l D A V st g 0 hI hR) q563 q565 qs11 q48 q566 hdX0_speedAt ⟨Nat.le_of_ble_eq_true rfl, Nat.le_of_ble_eq_true rfl⟩ rfl rfl rfl (Nat.le_of_ble_eq_true rfl) dX0_isTimed_9 ⟨Nat.le_of_ble_eq_true rfl, Nat.le_of_ble_eq_true rfl⟩) ?_
    refine li_if_le (pc := 12) (tgt := 19) hx hb dX0_isTimed_12 (by decide) (fun c_2 => ?_) (fun c_2 => ?_)
    · refine lv_iconst (pc := 19) (v := 0) hx hb dX0_isTimed_19 (by decide) ?_
      exact m_zretS hx hb hr hlk dX0_isTimed_20 rfl ((bI_f (fun q => absurd ((xsv_has hI).mpr q) (by simp_all))).symm)
    · refine lv_iconst (pc := 15) (v := 1) hx hb dX0_isTimed_15 (by decide) ?_
      refine lv_goto (pc := 16) (tgt := 20) hx hb dX0_isTimed_16 (by decide) ?_
      exact m_zretS hx hb hr hlk dX0_isTimed_20 rfl ((bI_t ((xsv_has hI).mp (by simp_all))).symm)
set_option maxHeartbeats 4000000 in
set_option maxRecDepth 100000 in
theorem xtX0_dueAt (l : Launch) (D : xD) (A : Nat → Prop) (V : xV) (st : mS) (g : xG)  (d : Int32) (hI : mI st) (hR : xR D st g V) (hd0 : 0 ≤ d.toInt) (hD : hasD st) : Met l yX0_dueAt (ws_ yX0_dueAt cX0_dueAt 6 (some .long)) (xRm 2 0 0) (xP D A V [.ref (g 0 0), .int d]) (k2_QcV (.long (dueA st d))) 0 0 (fun _ => False) := by
  refine x_headR (own := RX0) (As := [.ref (g 0 0), .int d]) (bytes := cX0_dueAt) (maxL := 6) (ret := (some .long)) (by decide) rfl (Nat.le_of_ble_eq_true rfl) ?_
  intro p e s m below meth c E hml hr hlk hw0 ls hl
  have hw : xWd D A s V s.heap [] := ⟨hw0, va_S.rf⟩
  have hx := E.1
  have hb := E.2.1
  have hts := E.2.2.1
  have hown := E.2.2.2.1
  have hl : lv_has ls 6 [(0, .ref (g 0 0)), (1, .int d)] := hl
  have h16 := hI.r16
  have h10 := hI.l10
  have hv8 := hI.v8
  have hc8 := hI.c8
  have hk8 := hI.k8
  have hb8 := hI.b8
  have hdi := clamp_i hd0
  refine lv_lconst (pc := 0) (v := 0) hx hb dX0_dueAt_0 (by decide) ?_
  refine lv_lstore_n (pc := 1) (lv' := [(2, .long 0), (0, .ref (g 0 0)), (1, .int d)]) hx hb dX0_dueAt_1 rfl hl (by decide) rfl (fun ls hl => ?_)
  refine lv_iconst (pc := 2) (v := 0) hx hb dX0_dueAt_2 (by decide) ?_
  refine lv_istore (pc := 3) (lv' := [(4, .int 0), (2, .long 0), (0, .ref (g 0 0)), (1, .int d)]) hx hb dX0_dueAt_3 hl (by decide) rfl (fun ls hl => ?_)
  have loop : ∀ (f : Nat) (z : Int32) (a : Int64), d.toInt - z.toInt ≤ f → 0 ≤ z.toInt → (∃ k, k < cnt st 27 ∧ st 28 k = z) ∨ ¬ z.toInt < d.toInt → ∀ ls : Array Slot, lv_has ls 6 [(0, .ref (g 0 0)), (1, .int d), (2, .long a), (4, .int z)] → W p l e (xRm 2 0 0) s m ([.ref (g 0 0), .int d] : List Value).toArray below meth c s.heap [] 0 0 (MQ below (k2_QcV (.long (due st d f z a))) ([.ref (g 0 0), .int d] : List Value).toArray s 0 0 (fun _ => False)) (F0 m 5 ls []) := by
    intro f
    induction f with
    | zero =>
      intro z a hf hz ha ls hl
      refine lv_iload (pc := 5) hx hb dX0_dueAt_5 (lv_at hl 3 rfl) ?_
      refine lv_iload_n (pc := 7) hx hb dX0_dueAt_7 rfl (lv_at hl 1 rfl) ?_
      refine li_icmp_ge (pc := 8) (tgt := 48) hx hb dX0_dueAt_8 (by decide) (fun c_1 => ?_) (fun c_1 => absurd c_1 (by omega))
      refine lv_lload_n (pc := 48) hx hb dX0_dueAt_48 rfl (lv_at hl 2 rfl) ?_
      exact m_lretS hx hb hr hlk dX0_dueAt_49 (by first | rfl | simp only [due, if_neg c_1])
    | succ f ih_loop =>
      intro z a hf hz ha ls hl
      refine lv_iload (pc := 5) hx hb dX0_dueAt_5 (lv_at hl 3 rfl) ?_
      refine lv_iload_n (pc := 7) hx hb dX0_dueAt_7 rfl (lv_at hl 1 rfl) ?_
      refine li_icmp_ge (pc := 8) (tgt := 48) hx hb dX0_dueAt_8 (by decide) (fun c_2 => ?_) (fun c_2 => ?_)
      · refine lv_lload_n (pc := 48) hx hb dX0_dueAt_48 rfl (lv_at hl 2 rfl) ?_
        exact m_lretS hx hb hr hlk dX0_dueAt_49 (by first | rfl | simp only [due, if_neg c_2])
      · have hv0 : ¬ xsv st z (cnt st 27) 0 0 = 0 := by
          have e0 : xsv st z (cnt st 27) 0 0 = (dun st z (cnt st 27) 0 0 d).1 := by rw [dun_eq]
          rw [e0]
          refine dun_v (cnt st 27) 0 0 d (fun k _ hk e0 => ?_) (Or.inr ?_)
          · have q := (hI.2.2.1.2.2.2.1 k (by omega)).1; rw [e0] at q; exact absurd q (by decide)
          · rcases ha with ⟨k, hk, ek⟩ | hn
            · exact ⟨k, Nat.zero_le _, by omega, ek⟩
            · exact absurd c_2 hn
        refine lv_aload_n (pc := 11) hx hb dX0_dueAt_11 rfl (lv_at hl 0 rfl) ?_
        refine lv_iload (pc := 12) hx hb dX0_dueAt_12 (lv_at hl 3 rfl) ?_
        refine lv_iload_n (pc := 14) hx hb dX0_dueAt_14 rfl (lv_at hl 1 rfl) ?_
        obtain ⟨b7, b8, b9, hpx⟩ := hR.px hI
        replace hpx : V (g 0 0) = some (.inr (0, [.int (st 0 0), .int (st 0 42), .ref (g 0 2), .ref (g 0 3), .int (nI (cnt st 12)), .ref (g 0 5), .ref (g 0 6), .int b7, .long b8, .int b9, .int (st 0 14), .ref (g 0 11), .int (nI (cnt st 24)), .int (st 0 25), .ref (g 0 14), .ref (g 0 15), .int (nI (cnt st 27)), .ref (g 0 17), .ref (g 0 18), .ref (g 0 19)])) := hpx
        refine x_goR (x_runV (pc := 15) (As := [.int z, .int d]) (rest := []) E hml hl.1 hw.2 hw.1 hpx (C := RX0) (T := TX0) (N := 20) rfl (xtX0_nextPlace l D A V st g z d hI hR) q571 q573 qs13 q48 q574 hdX0_nextPlace ⟨Nat.le_of_ble_eq_true rfl, Nat.le_of_ble_eq_true rfl⟩ rfl rfl rfl (Nat.le_of_ble_eq_true rfl) dX0_dueAt_15 ⟨Nat.le_of_ble_eq_true rfl, Nat.le_of_ble_eq_true rfl⟩) ?_
        refine lv_istore (pc := 18) (lv' := [(5, .int (xnp st z (cnt st 27) 0 d)), (0, .ref (g 0 0)), (1, .int d), (2, .long a), (4, .int z)]) hx hb dX0_dueAt_18 hl (by decide) rfl (fun ls hl => ?_)
        refine lv_lload_n (pc := 20) hx hb dX0_dueAt_20 rfl (lv_at hl 3 rfl) ?_
        refine lv_ldc2 (pc := 21) hx hb hown (hts _ q576) dX0_dueAt_21 ?_
        refine lv_iload (pc := 24) hx hb dX0_dueAt_24 (lv_at hl 0 rfl) ?_
        refine lv_iload (pc := 26) hx hb dX0_dueAt_26 (lv_at hl 4 rfl) ?_
        refine lv_isub (pc := 28) hx hb dX0_dueAt_28 ?_
        refine lv_i2l (pc := 29) (v := ((xnp st z (cnt st 27) 0 d) - z).toInt64) hx hb dX0_dueAt_29 rfl ?_
        refine lv_lmul (pc := 30) hx hb dX0_dueAt_30 ?_
        refine lv_aload_n (pc := 31) hx hb dX0_dueAt_31 rfl (lv_at hl 1 rfl) ?_
        refine lv_iload (pc := 32) hx hb dX0_dueAt_32 (lv_at hl 4 rfl) ?_
        refine x_goR (x_runV (pc := 34) (As := [.int z]) (rest := [.long (600 * ((xnp st z (cnt st 27) 0 d) - z).toInt64), .long a]) E hml hl.1 hw.2 hw.1 hpx (C := RX0) (T := TX0) (N := 20) rfl (xtX0_speedAt l D A V st g z hI hR) q563 q565 qs11 q48 q566 hdX0_speedAt ⟨Nat.le_of_ble_eq_true rfl, Nat.le_of_ble_eq_true rfl⟩ rfl rfl rfl (Nat.le_of_ble_eq_true rfl) dX0_dueAt_34 ⟨Nat.le_of_ble_eq_true rfl, Nat.le_of_ble_eq_true rfl⟩) ?_
        refine lv_i2l (pc := 37) (v := (xsv st z (cnt st 27) 0 0).toInt64) hx hb dX0_dueAt_37 rfl ?_
        refine lv_ldiv (pc := 38) hx hb dX0_dueAt_38 (i64_ne hv0) ?_
        refine lv_ladd (pc := 39) hx hb dX0_dueAt_39 ?_
        refine lv_lstore_n (pc := 40) (lv' := [(2, .long (a + ((600 * ((xnp st z (cnt st 27) 0 d) - z).toInt64) / (xsv st z (cnt st 27) 0 0).toInt64))), (5, .int (xnp st z (cnt st 27) 0 d)), (0, .ref (g 0 0)), (1, .int d), (4, .int z)]) hx hb dX0_dueAt_40 rfl hl (by decide) rfl (fun ls hl => ?_)
        refine lv_iload (pc := 41) hx hb dX0_dueAt_41 (lv_at hl 1 rfl) ?_
        refine lv_istore (pc := 43) (lv' := [(4, .int (xnp st z (cnt st 27) 0 d)), (2, .long (a + ((600 * ((xnp st z (cnt st 27) 0 d) - z).toInt64) / (xsv st z (cnt st 27) 0 0).toInt64))), (5, .int (xnp st z (cnt st 27) 0 d)), (0, .ref (g 0 0)), (1, .int d)]) hx hb dX0_dueAt_43 hl (by decide) rfl (fun ls hl => ?_)
        refine lv_goto (pc := 45) (tgt := 5) hx hb dX0_dueAt_45 (by decide) ?_
        have eR := dun_eq st z (cnt st 27) 0 0 d
        have q := dun_x (st := st) (z := z) (cnt st 27) 0 0 d (by omega)
        simp only [eR] at q
        exact x_toR (by simp only [due, if_pos c_2, eR]) (ih_loop (xnp st z (cnt st 27) 0 d) (a + ((600 * ((xnp st z (cnt st 27) 0 d) - z).toInt64) / (xsv st z (cnt st 27) 0 0).toInt64)) (by omega) (by omega) (by rcases q.2.2 with q | ⟨k, q1, q2, q3⟩; exact Or.inr (by rw [q]; omega); exact Or.inl ⟨k, by omega, q3.symm⟩) _ (lv_sub hl [3, 4, 1, 0] rfl))
  exact x_toR rfl (loop d.toNatClampNeg 0 0 (by show d.toInt - 0 ≤ _; omega) (by decide) (Or.inl (by rcases hdu_ex _ _ _ hD.1 with q | ⟨k, _, q2, q3⟩; exact absurd rfl q; exact ⟨k, by omega, q3⟩)) _ (lv_sub hl [2, 3, 1, 0] rfl))
set_option maxHeartbeats 4000000 in
set_option maxRecDepth 100000 in
theorem xtX0_due (l : Launch) (D : xD) (A : Nat → Prop) (V : xV) (st : mS) (g : xG)  (d : Int32) (hI : mI st) (hR : xR D st g V)  : Met l yX0_due (ws_ yX0_due cX0_due 2 (some .long)) (xRm 3 0 0) (xP D A V [.ref (g 0 0), .int d]) (k2_QcV (.long (sp_due st d))) 0 0 (fun _ => False) := by
  refine x_headR (own := RX0) (As := [.ref (g 0 0), .int d]) (bytes := cX0_due) (maxL := 2) (ret := (some .long)) (by decide) rfl (Nat.le_of_ble_eq_true rfl) ?_
  intro p e s m below meth c E hml hr hlk hw0 ls hl
  have hw : xWd D A s V s.heap [] := ⟨hw0, va_S.rf⟩
  have hx := E.1
  have hb := E.2.1
  have hts := E.2.2.1
  have hown := E.2.2.2.1
  have hl : lv_has ls 2 [(0, .ref (g 0 0)), (1, .int d)] := hl
  have h16 := hI.r16
  have h10 := hI.l10
  have hv8 := hI.v8
  have hc8 := hI.c8
  have hk8 := hI.k8
  have hb8 := hI.b8
  refine lv_aload_n (pc := 0) hx hb dX0_due_0 rfl (lv_at hl 0 rfl) ?_
  obtain ⟨b7, b8, b9, hpx⟩ := hR.px hI
  replace hpx : V (g 0 0) = some (.inr (0, [.int (st 0 0), .int (st 0 42), .ref (g 0 2), .ref (g 0 3), .int (nI (cnt st 12)), .ref (g 0 5), .ref (g 0 6), .int b7, .long b8, .int b9, .int (st 0 14), .ref (g 0 11), .int (nI (cnt st 24)), .int (st 0 25), .ref (g 0 14), .ref (g 0 15), .int (nI (cnt st 27)), .ref (g 0 17), .ref (g 0 18), .ref (g 0 19)])) := hpx
  refine x_goR (x_runV (pc := 1) (As := []) (rest := []) E hml hl.1 hw.2 hw.1 hpx (C := RX0) (T := TX0) (N := 20) rfl (xtX0_isTimed l D A V st g hI hR) q559 q561 qs10 q48 q562 hdX0_isTimed ⟨Nat.le_of_ble_eq_true rfl, Nat.le_of_ble_eq_true rfl⟩ rfl rfl rfl (Nat.le_of_ble_eq_true rfl) dX0_due_1 ⟨Nat.le_of_ble_eq_true rfl, Nat.le_of_ble_eq_true rfl⟩) ?_
  refine lb_eq (pc := 4) (tgt := 29) hx hb dX0_due_4 (by decide) (fun c_1 => ?_) (fun c_1 => ?_)
  · refine lv_ldc2 (pc := 29) hx hb hown (hts _ q577) dX0_due_29 ?_
    exact m_lretS hx hb hr hlk dX0_due_32 (by simp only [sp_due, if_neg c_1])
  · refine lv_iload_n (pc := 7) hx hb dX0_due_7 rfl (lv_at hl 1 rfl) ?_
    refine lv_i2l (pc := 8) (v := d.toInt64) hx hb dX0_due_8 rfl ?_
    refine lv_lconst (pc := 9) (v := 0) hx hb dX0_due_9 (by decide) ?_
    refine lv_aload_n (pc := 10) hx hb dX0_due_10 rfl (lv_at hl 0 rfl) ?_
    refine x_rd (pc := 11) (v := .int (st 0 25)) E hw.1 13 hpx (C := RX0) (T := TX0) (N := 20) rfl in_X0 (Nat.le_of_ble_eq_true rfl) q126 (fun _ h => h) rfl dX0_due_11 ?_
    refine lv_i2l (pc := 14) (v := (st 0 25).toInt64) hx hb dX0_due_14 rfl ?_
    refine x_goR (x_runS (pc := 15) (As := [.long d.toInt64, .long 0, .long (st 0 25).toInt64]) (rest := []) E hml hl.1 (x_preE) (xtX0_isInB l d 0 (st 0 25).toInt64 0 ((st 0 25).toInt) rfl (Int32.toInt_toInt64 _)) q184 q185 q48 q186 hdX0_isIn.2 ⟨Nat.le_of_ble_eq_true rfl, Nat.le_of_ble_eq_true rfl⟩ rfl rfl rfl (Nat.le_of_ble_eq_true rfl) dX0_due_15 ⟨Nat.le_of_ble_eq_true rfl, Nat.le_of_ble_eq_true rfl⟩) ?_
    refine lb_eq (pc := 18) (tgt := 29) hx hb dX0_due_18 (by decide) (fun c_2 => ?_) (fun c_2 => ?_)
    · refine lv_ldc2 (pc := 29) hx hb hown (hts _ q577) dX0_due_29 ?_
      exact m_lretS hx hb hr hlk dX0_due_32 (by simp only [sp_due, if_pos c_1, if_neg c_2])
    · refine lv_aload_n (pc := 21) hx hb dX0_due_21 rfl (lv_at hl 0 rfl) ?_
      refine lv_iload_n (pc := 22) hx hb dX0_due_22 rfl (lv_at hl 1 rfl) ?_
      refine x_goR (x_runV (pc := 23) (As := [.int d]) (rest := []) E hml hl.1 hw.2 hw.1 hpx (C := RX0) (T := TX0) (N := 20) rfl (xtX0_dueAt l D A V st g d hI hR c_2.1 c_1) q567 q569 qs12 q48 q570 hdX0_dueAt ⟨Nat.le_of_ble_eq_true rfl, Nat.le_of_ble_eq_true rfl⟩ rfl rfl rfl (Nat.le_of_ble_eq_true rfl) dX0_due_23 ⟨Nat.le_of_ble_eq_true rfl, Nat.le_of_ble_eq_true rfl⟩) ?_
      refine lv_goto (pc := 26) (tgt := 32) hx hb dX0_due_26 (by decide) ?_
      exact m_lretS hx hb hr hlk dX0_due_32 (by simp only [sp_due, if_pos c_1, if_pos c_2])
theorem i64_s0 {a b : Int32} (h : ¬ b - a = 0) : ¬ (b - a).toInt64 = 0 := i64_ne h
theorem i32_s0 {a b : Int32} (ha : 0 ≤ a.toInt) (h : a.toInt < b.toInt) : ¬ b - a = 0 := fun q => by
  have h3 := i32_hi b
  have e : (b - a).toInt = b.toInt - a.toInt := i32_sub (by omega) (by omega)
  rw [q] at e
  have e0 : (0 : Int32).toInt = 0 := rfl
  omega
theorem i64_ss {a b : Int32} (ha : 0 ≤ a.toInt) (h : 0 ≤ b.toInt) : (b - a).toInt64 = b.toInt64 - a.toInt64 := by
  have h3 := i32_hi b
  have h4 := i32_hi a
  apply Int64.toInt_inj.mp
  rw [i64_sub (by rw [Int32.toInt_toInt64, Int32.toInt_toInt64]; omega) (by rw [Int32.toInt_toInt64, Int32.toInt_toInt64]; omega), Int32.toInt_toInt64, Int32.toInt_toInt64, Int32.toInt_toInt64]
  exact i32_sub (by omega) (by omega)
set_option maxHeartbeats 4000000 in
set_option maxRecDepth 100000 in
theorem xtX6_right (l : Launch) (D : xD) (A : Nat → Prop) (V : xV) (q : Nat) (pl sk ch a b c_ d_ : Int32) (t : Int32) (h1 : V q = some (.inr (4, [.int pl, .int sk, .int ch, .int a, .int b, .int c_, .int d_]))) (hne : ¬ ch = 0 → ¬ d_ - c_ = 0) : Met l yX6_right (ws_ yX6_right cX6_right 2 (some .long)) (xRm 1 0 0) (xP D A V [.ref q, .int t]) (k2_QcV (.long (if ch = 0 then t.toInt64 else a.toInt64 + ((t.toInt64 - c_.toInt64) * (b - a).toInt64) / (d_ - c_).toInt64))) 0 0 (fun _ => False) := by
  refine x_headR (own := RX6) (As := [.ref q, .int t]) (bytes := cX6_right) (maxL := 2) (ret := (some .long)) (by decide) rfl (Nat.le_of_ble_eq_true rfl) ?_
  intro p e s m below meth c E hml hr hlk hw0 ls hl
  have hw : xWd D A s V s.heap [] := ⟨hw0, va_S.rf⟩
  have hx := E.1
  have hb := E.2.1
  have hts := E.2.2.1
  have hown := E.2.2.2.1
  have hl : lv_has ls 2 [(0, .ref q), (1, .int t)] := hl
  refine lv_aload_n (pc := 0) hx hb dX6_right_0 rfl (lv_at hl 0 rfl) ?_
  refine x_rd (pc := 1) (v := .int ch) E hw.1 2 h1 (C := RX6) (T := TX6) (N := 7) rfl in_X6 (Nat.le_of_ble_eq_true rfl) q597 (fun _ h => h) rfl dX6_right_1 ?_
  refine lv_if_eq (pc := 4) (tgt := 46) hx hb dX6_right_4 (by decide) (fun c_1 => ?_) (fun c_1 => ?_)
  · refine lv_iload_n (pc := 46) hx hb dX6_right_46 rfl (lv_at hl 1 rfl) ?_
    refine lv_i2l (pc := 47) (v := t.toInt64) hx hb dX6_right_47 rfl ?_
    exact m_lretS hx hb hr hlk dX6_right_48 (by simp only [if_pos c_1])
  · refine lv_aload_n (pc := 7) hx hb dX6_right_7 rfl (lv_at hl 0 rfl) ?_
    refine x_rd (pc := 8) (v := .int a) E hw.1 3 h1 (C := RX6) (T := TX6) (N := 7) rfl in_X6 (Nat.le_of_ble_eq_true rfl) q599 (fun _ h => h) rfl dX6_right_8 ?_
    refine lv_i2l (pc := 11) (v := a.toInt64) hx hb dX6_right_11 rfl ?_
    refine lv_iload_n (pc := 12) hx hb dX6_right_12 rfl (lv_at hl 1 rfl) ?_
    refine lv_i2l (pc := 13) (v := t.toInt64) hx hb dX6_right_13 rfl ?_
    refine lv_aload_n (pc := 14) hx hb dX6_right_14 rfl (lv_at hl 0 rfl) ?_
    refine x_rd (pc := 15) (v := .int c_) E hw.1 5 h1 (C := RX6) (T := TX6) (N := 7) rfl in_X6 (Nat.le_of_ble_eq_true rfl) q603 (fun _ h => h) rfl dX6_right_15 ?_
    refine lv_i2l (pc := 18) (v := c_.toInt64) hx hb dX6_right_18 rfl ?_
    refine lv_lsub (pc := 19) hx hb dX6_right_19 ?_
    refine lv_aload_n (pc := 20) hx hb dX6_right_20 rfl (lv_at hl 0 rfl) ?_
    refine x_rd (pc := 21) (v := .int b) E hw.1 4 h1 (C := RX6) (T := TX6) (N := 7) rfl in_X6 (Nat.le_of_ble_eq_true rfl) q601 (fun _ h => h) rfl dX6_right_21 ?_
    refine lv_aload_n (pc := 24) hx hb dX6_right_24 rfl (lv_at hl 0 rfl) ?_
    refine x_rd (pc := 25) (v := .int a) E hw.1 3 h1 (C := RX6) (T := TX6) (N := 7) rfl in_X6 (Nat.le_of_ble_eq_true rfl) q599 (fun _ h => h) rfl dX6_right_25 ?_
    refine lv_isub (pc := 28) hx hb dX6_right_28 ?_
    refine lv_i2l (pc := 29) (v := (b - a).toInt64) hx hb dX6_right_29 rfl ?_
    refine lv_lmul (pc := 30) hx hb dX6_right_30 ?_
    refine lv_aload_n (pc := 31) hx hb dX6_right_31 rfl (lv_at hl 0 rfl) ?_
    refine x_rd (pc := 32) (v := .int d_) E hw.1 6 h1 (C := RX6) (T := TX6) (N := 7) rfl in_X6 (Nat.le_of_ble_eq_true rfl) q605 (fun _ h => h) rfl dX6_right_32 ?_
    refine lv_aload_n (pc := 35) hx hb dX6_right_35 rfl (lv_at hl 0 rfl) ?_
    refine x_rd (pc := 36) (v := .int c_) E hw.1 5 h1 (C := RX6) (T := TX6) (N := 7) rfl in_X6 (Nat.le_of_ble_eq_true rfl) q603 (fun _ h => h) rfl dX6_right_36 ?_
    refine lv_isub (pc := 39) hx hb dX6_right_39 ?_
    refine lv_i2l (pc := 40) (v := (d_ - c_).toInt64) hx hb dX6_right_40 rfl ?_
    refine lv_ldiv (pc := 41) hx hb dX6_right_41 (i64_s0 (hne c_1)) ?_
    refine lv_ladd (pc := 42) hx hb dX6_right_42 ?_
    refine lv_goto (pc := 43) (tgt := 48) hx hb dX6_right_43 (by decide) ?_
    exact m_lretS hx hb hr hlk dX6_right_48 (by simp only [if_neg c_1])
theorem rgt_eq {st : mS} (hI : mI st) {j : Nat} (hj : j < 8) {t a b c_ d_ : Int32} (h : ¬ st 33 j = 0 → a = st 34 (4 * j) ∧ b = st 34 (4 * j + 1) ∧ c_ = st 34 (4 * j + 2) ∧ d_ = st 34 (4 * j + 3)) : (if st 33 j = 0 then t.toInt64 else a.toInt64 + ((t.toInt64 - c_.toInt64) * (b - a).toInt64) / (d_ - c_).toInt64) = rgt st j t.toInt64 := by
  unfold rgt
  by_cases h0 : st 33 j = 0
  · rw [if_pos h0, if_pos h0]
  · rw [if_neg h0, if_neg h0]
    obtain ⟨rfl, rfl, rfl, rfl⟩ := h h0
    obtain ⟨-, -, h3⟩ := hI.2.2.1.2.2.2.2.1 j hj
    have h4 := (h3 h0).2.2
    rw [i64_ss (show 0 ≤ (st 34 (4 * j)).toInt from (h4 0 (by decide)).1) (h4 1 (by decide)).1, i64_ss (h4 2 (by decide)).1 (h4 3 (by decide)).1]
theorem rgt_ne {st : mS} (hI : mI st) {j : Nat} (hj : j < 8) {a b c_ d_ : Int32} (h : ¬ st 33 j = 0 → a = st 34 (4 * j) ∧ b = st 34 (4 * j + 1) ∧ c_ = st 34 (4 * j + 2) ∧ d_ = st 34 (4 * j + 3)) : ¬ st 33 j = 0 → ¬ d_ - c_ = 0 := fun h0 => by
  obtain ⟨rfl, rfl, rfl, rfl⟩ := h h0
  obtain ⟨-, -, h3⟩ := hI.2.2.1.2.2.2.2.1 j hj
  exact i32_s0 ((h3 h0).2.2 2 (by decide)).1 (h3 h0).2.1
set_option maxHeartbeats 4000000 in
set_option maxRecDepth 100000 in
theorem xtX0_right (l : Launch) (D : xD) (A : Nat → Prop) (V : xV) (st : mS) (g : xG)  (c_ : Int32) (t : Int32) (hI : mI st) (hR : xR D st g V)  : Met l yX0_right (ws_ yX0_right cX0_right 3 (some .long)) (xRm 4 0 0) (xP D A V [.ref (g 0 0), .int c_, .int t]) (k2_QcV (.long (sp_right st c_ t))) 0 0 (fun _ => False) := by
  refine x_headR (own := RX0) (As := [.ref (g 0 0), .int c_, .int t]) (bytes := cX0_right) (maxL := 3) (ret := (some .long)) (by decide) rfl (Nat.le_of_ble_eq_true rfl) ?_
  intro p e s m below meth c E hml hr hlk hw0 ls hl
  have hw : xWd D A s V s.heap [] := ⟨hw0, va_S.rf⟩
  have hx := E.1
  have hb := E.2.1
  have hts := E.2.2.1
  have hown := E.2.2.2.1
  have hl : lv_has ls 3 [(0, .ref (g 0 0)), (1, .int c_), (2, .int t)] := hl
  have h16 := hI.r16
  have h10 := hI.l10
  have hv8 := hI.v8
  have hc8 := hI.c8
  have hk8 := hI.k8
  have hb8 := hI.b8
  refine lv_aload_n (pc := 0) hx hb dX0_right_0 rfl (lv_at hl 0 rfl) ?_
  refine lv_iload_n (pc := 1) hx hb dX0_right_1 rfl (lv_at hl 1 rfl) ?_
  obtain ⟨b7, b8, b9, hpx⟩ := hR.px hI
  replace hpx : V (g 0 0) = some (.inr (0, [.int (st 0 0), .int (st 0 42), .ref (g 0 2), .ref (g 0 3), .int (nI (cnt st 12)), .ref (g 0 5), .ref (g 0 6), .int b7, .long b8, .int b9, .int (st 0 14), .ref (g 0 11), .int (nI (cnt st 24)), .int (st 0 25), .ref (g 0 14), .ref (g 0 15), .int (nI (cnt st 27)), .ref (g 0 17), .ref (g 0 18), .ref (g 0 19)])) := hpx
  refine x_goR (x_runV (pc := 2) (As := [.int c_]) (rest := []) E hml hl.1 hw.2 hw.1 hpx (C := RX0) (T := TX0) (N := 20) rfl (xtX0_isControl l D A V st g c_ hI hR) q626 q628 qs14 q48 q629 hdX0_isControl ⟨Nat.le_of_ble_eq_true rfl, Nat.le_of_ble_eq_true rfl⟩ rfl rfl rfl (Nat.le_of_ble_eq_true rfl) dX0_right_2 ⟨Nat.le_of_ble_eq_true rfl, Nat.le_of_ble_eq_true rfl⟩) ?_
  refine lb_eq (pc := 5) (tgt := 35) hx hb dX0_right_5 (by decide) (fun c_1 => ?_) (fun c_1 => ?_)
  · refine lv_ldc2 (pc := 35) hx hb hown (hts _ q577) dX0_right_35 ?_
    exact m_lretS hx hb hr hlk dX0_right_38 (by simp only [sp_right, if_neg c_1])
  · have hc_n := clamp_n (x := c_) c_1.1
    have hc_i := clamp_i (x := c_) c_1.1
    have hc_l : c_.toNatClampNeg < cnt st 30 := by have := cnt_i (st := st) (k := 30) (by omega); omega
    refine lv_iload_n (pc := 8) hx hb dX0_right_8 rfl (lv_at hl 2 rfl) ?_
    refine x_goR (x_runS (pc := 9) (As := [.int t]) (rest := []) E hml hl.1 (x_preE) (xtX0_isTime l t) q630 q631 q48 q632 hdX0_isTime.2 ⟨Nat.le_of_ble_eq_true rfl, Nat.le_of_ble_eq_true rfl⟩ rfl rfl rfl (Nat.le_of_ble_eq_true rfl) dX0_right_9 ⟨Nat.le_of_ble_eq_true rfl, Nat.le_of_ble_eq_true rfl⟩) ?_
    refine lb_eq (pc := 12) (tgt := 35) hx hb dX0_right_12 (by decide) (fun c_2 => ?_) (fun c_2 => ?_)
    · refine lv_ldc2 (pc := 35) hx hb hown (hts _ q577) dX0_right_35 ?_
      exact m_lretS hx hb hr hlk dX0_right_38 (by simp only [sp_right, if_pos c_1, if_neg c_2])
    · refine lv_aload_n (pc := 15) hx hb dX0_right_15 rfl (lv_at hl 0 rfl) ?_
      refine x_rd (pc := 16) (v := .ref (g 0 17)) E hw.1 17 hpx (C := RX0) (T := TX0) (N := 20) rfl in_X0 (Nat.le_of_ble_eq_true rfl) q130 (fun _ h => h) rfl dX0_right_16 ?_
      refine lv_iload_n (pc := 19) hx hb dX0_right_19 rfl (lv_at hl 1 rfl) ?_
      refine li_top (v' := .int (nI c_.toNatClampNeg)) (congrArg Value.int hc_n) ?_
      obtain ⟨mc_17, hpl_17⟩ := hR.p17
      obtain ⟨cap_1, f1_1, hpe_1, hcap_1, hle_1, hel_1⟩ := hR.pe (j := 1) (by decide)
      replace hle_1 : cnt st 30 ≤ cap_1 := hle_1
      replace hel_1 : ∀ q, q < cnt st 30 → f1_1 q = some (g 3 q) := hel_1
      refine x_goR5 (x_runF (pc := 20) (As := [.int (nI c_.toNatClampNeg)]) (rest := []) E hml hl.1 hw.2 hw.1 hpl_17 (C := RJ2) (T := TJ2) (N := 3) rfl (xtJ2_get l D A V (g 0 17) (g 1 1) (cnt st 30) cap_1 (g 3 c_.toNatClampNeg) c_.toNatClampNeg mc_17 f1_1 hpl_17 hpe_1 (show c_.toNatClampNeg < cnt st 30 from (by omega)) hle_1 (by have := hcap_1; omega) (hel_1 _ (by omega))) E.2.2.2.2.1.2.1.2.2.2.2.2.2.1 q337 q340 q342 q51 q344 hdF_get ⟨Nat.le_of_ble_eq_true rfl, Nat.le_of_ble_eq_true rfl⟩ rfl rfl rfl (Nat.le_of_ble_eq_true rfl) dX0_right_20 ⟨Nat.le_of_ble_eq_true rfl, Nat.le_of_ble_eq_true rfl⟩) ?_
      obtain ⟨k_3a, k_3b, k_3c, k_3d, k_3h, k_3e⟩ := hR.ctl (j := c_.toNatClampNeg) (by omega)
      refine x_castS (pc := 25) E hw.1 k_3h (C := RX6) (T := TX6) (N := 7) rfl q586 dX0_right_25 ?_
      refine lv_iload_n (pc := 28) hx hb dX0_right_28 rfl (lv_at hl 2 rfl) ?_
      refine x_goR (x_runV (pc := 29) (As := [.int t]) (rest := []) E hml hl.1 hw.2 hw.1 k_3h (C := RX6) (T := TX6) (N := 7) rfl (xtX6_right l D A V (g 3 c_.toNatClampNeg) (st 31 c_.toNatClampNeg) (st 32 c_.toNatClampNeg) (st 33 c_.toNatClampNeg) k_3a k_3b k_3c k_3d t k_3h (rgt_ne hI (j := c_.toNatClampNeg) (by omega) k_3e)) q638 q639 q640 q72 q641 hdX6_right ⟨Nat.le_of_ble_eq_true rfl, Nat.le_of_ble_eq_true rfl⟩ rfl rfl rfl (Nat.le_of_ble_eq_true rfl) dX0_right_29 ⟨Nat.le_of_ble_eq_true rfl, Nat.le_of_ble_eq_true rfl⟩) ?_
      refine li_top (v' := .long (rgt st c_.toNatClampNeg t.toInt64)) (congrArg Value.long (rgt_eq hI (j := c_.toNatClampNeg) (by omega) k_3e)) ?_
      refine lv_goto (pc := 32) (tgt := 38) hx hb dX0_right_32 (by decide) ?_
      exact m_lretS hx hb hr hlk dX0_right_38 (by simp only [sp_right, if_pos c_1, if_pos c_2])
/-- the control with the least place behind z, not struck, of n from i on; u: the best one so far, -9 none -/
def xnc (st : mS) (z : Int32) : Nat → Nat → Int32 → Int32
  | 0, _, u => u
  | n + 1, i, u => xnc st z n (i + 1) (if st 32 i = 0 then if z.toInt < (st 31 i).toInt then if u = -9 then nI i else if (st 31 i).toInt < (st 31 u.toNatClampNeg).toInt then nI i else u else u else u)
set_option maxHeartbeats 4000000 in
set_option maxRecDepth 100000 in
theorem xtX0_nextControl (l : Launch) (D : xD) (A : Nat → Prop) (V : xV) (st : mS) (g : xG)  (x : Int32) (hI : mI st) (hR : xR D st g V)  : Met l yX0_nextControl (ws_ yX0_nextControl cX0_nextControl 5 (some .int)) (xRm 4 0 0) (xP D A V [.ref (g 0 0), .int x]) (k2_QcV (.int (xnc st x (cnt st 30) 0 (-9)))) 0 0 (fun _ => False) := by
  refine x_headR (own := RX0) (As := [.ref (g 0 0), .int x]) (bytes := cX0_nextControl) (maxL := 5) (ret := (some .int)) (by decide) rfl (Nat.le_of_ble_eq_true rfl) ?_
  intro p e s m below meth c E hml hr hlk hw0 ls hl
  have hw : xWd D A s V s.heap [] := ⟨hw0, va_S.rf⟩
  have hx := E.1
  have hb := E.2.1
  have hts := E.2.2.1
  have hown := E.2.2.2.1
  have hl : lv_has ls 5 [(0, .ref (g 0 0)), (1, .int x)] := hl
  have h16 := hI.r16
  have h10 := hI.l10
  have hv8 := hI.v8
  have hc8 := hI.c8
  have hk8 := hI.k8
  have hb8 := hI.b8
  refine lv_bipush (pc := 0) (v := (-9)) hx hb dX0_nextControl_0 (by decide) ?_
  refine lv_istore_n (pc := 2) (lv' := [(2, .int (-9)), (0, .ref (g 0 0)), (1, .int x)]) hx hb dX0_nextControl_2 rfl hl (by decide) rfl (fun ls hl => ?_)
  refine lv_iconst (pc := 3) (v := 0) hx hb dX0_nextControl_3 (by decide) ?_
  refine lv_istore_n (pc := 4) (lv' := [(3, .int 0), (2, .int (-9)), (0, .ref (g 0 0)), (1, .int x)]) hx hb dX0_nextControl_4 rfl hl (by decide) rfl (fun ls hl => ?_)
  have loop : ∀ (k : Nat) (i : Nat) (u : Int32), i + k = cnt st 30 → u = -9 ∨ (0 ≤ u.toInt ∧ u.toInt < i) → ∀ ls : Array Slot, lv_has ls 5 [(0, .ref (g 0 0)), (1, .int x), (2, .int u), (3, .int (nI i))] → W p l e (xRm 4 0 0) s m ([.ref (g 0 0), .int x] : List Value).toArray below meth c s.heap [] 0 0 (MQ below (k2_QcV (.int (xnc st x k i u))) ([.ref (g 0 0), .int x] : List Value).toArray s 0 0 (fun _ => False)) (F0 m 5 ls []) := by
    intro k
    induction k with
    | zero =>
      intro i u hi hu ls hl
      refine lv_iload_n (pc := 5) hx hb dX0_nextControl_5 rfl (lv_at hl 3 rfl) ?_
      refine lv_aload_n (pc := 6) hx hb dX0_nextControl_6 rfl (lv_at hl 0 rfl) ?_
      obtain ⟨b7, b8, b9, hpx⟩ := hR.px hI
      replace hpx : V (g 0 0) = some (.inr (0, [.int (st 0 0), .int (st 0 42), .ref (g 0 2), .ref (g 0 3), .int (nI (cnt st 12)), .ref (g 0 5), .ref (g 0 6), .int b7, .long b8, .int b9, .int (st 0 14), .ref (g 0 11), .int (nI (cnt st 24)), .int (st 0 25), .ref (g 0 14), .ref (g 0 15), .int (nI (cnt st 27)), .ref (g 0 17), .ref (g 0 18), .ref (g 0 19)])) := hpx
      refine x_rd (pc := 7) (v := .ref (g 0 17)) E hw.1 17 hpx (C := RX0) (T := TX0) (N := 20) rfl in_X0 (Nat.le_of_ble_eq_true rfl) q130 (fun _ h => h) rfl dX0_nextControl_7 ?_
      obtain ⟨mc_17, hpl_17⟩ := hR.p17
      refine x_goR5 (x_runF (pc := 10) (As := []) (rest := [.int (nI i)]) E hml hl.1 hw.2 hw.1 hpl_17 (C := RJ2) (T := TJ2) (N := 3) rfl (xtJ2_size l D A V (g 0 17) (g 1 1) (cnt st 30) mc_17 hpl_17) E.2.2.2.2.1.2.1.2.2.2.2.2.1 q190 q194 q196 q51 q198 hdF_size ⟨Nat.le_of_ble_eq_true rfl, Nat.le_of_ble_eq_true rfl⟩ rfl rfl rfl (Nat.le_of_ble_eq_true rfl) dX0_nextControl_10 ⟨Nat.le_of_ble_eq_true rfl, Nat.le_of_ble_eq_true rfl⟩) ?_
      refine li_icmp_geN (pc := 15) (a := i) (b := cnt st 30) (tgt := 88) hx hb (by omega) (by omega) dX0_nextControl_15 (by decide) (fun c_1 => ?_) (fun c_1 => absurd c_1 (by omega))
      refine lv_iload_n (pc := 88) hx hb dX0_nextControl_88 rfl (lv_at hl 2 rfl) ?_
      exact m_iretS hx hb hr hlk dX0_nextControl_89 rfl
    | succ k ih_loop =>
      intro i u hi hu ls hl
      refine lv_iload_n (pc := 5) hx hb dX0_nextControl_5 rfl (lv_at hl 3 rfl) ?_
      refine lv_aload_n (pc := 6) hx hb dX0_nextControl_6 rfl (lv_at hl 0 rfl) ?_
      obtain ⟨b7, b8, b9, hpx⟩ := hR.px hI
      replace hpx : V (g 0 0) = some (.inr (0, [.int (st 0 0), .int (st 0 42), .ref (g 0 2), .ref (g 0 3), .int (nI (cnt st 12)), .ref (g 0 5), .ref (g 0 6), .int b7, .long b8, .int b9, .int (st 0 14), .ref (g 0 11), .int (nI (cnt st 24)), .int (st 0 25), .ref (g 0 14), .ref (g 0 15), .int (nI (cnt st 27)), .ref (g 0 17), .ref (g 0 18), .ref (g 0 19)])) := hpx
      refine x_rd (pc := 7) (v := .ref (g 0 17)) E hw.1 17 hpx (C := RX0) (T := TX0) (N := 20) rfl in_X0 (Nat.le_of_ble_eq_true rfl) q130 (fun _ h => h) rfl dX0_nextControl_7 ?_
      obtain ⟨mc_17, hpl_17⟩ := hR.p17
      refine x_goR5 (x_runF (pc := 10) (As := []) (rest := [.int (nI i)]) E hml hl.1 hw.2 hw.1 hpl_17 (C := RJ2) (T := TJ2) (N := 3) rfl (xtJ2_size l D A V (g 0 17) (g 1 1) (cnt st 30) mc_17 hpl_17) E.2.2.2.2.1.2.1.2.2.2.2.2.1 q190 q194 q196 q51 q198 hdF_size ⟨Nat.le_of_ble_eq_true rfl, Nat.le_of_ble_eq_true rfl⟩ rfl rfl rfl (Nat.le_of_ble_eq_true rfl) dX0_nextControl_10 ⟨Nat.le_of_ble_eq_true rfl, Nat.le_of_ble_eq_true rfl⟩) ?_
      refine li_icmp_geN (pc := 15) (a := i) (b := cnt st 30) (tgt := 88) hx hb (by omega) (by omega) dX0_nextControl_15 (by decide) (fun c_2 => absurd c_2 (by omega)) (fun c_2 => ?_)
      refine lv_aload_n (pc := 18) hx hb dX0_nextControl_18 rfl (lv_at hl 0 rfl) ?_
      refine x_rd (pc := 19) (v := .ref (g 0 17)) E hw.1 17 hpx (C := RX0) (T := TX0) (N := 20) rfl in_X0 (Nat.le_of_ble_eq_true rfl) q130 (fun _ h => h) rfl dX0_nextControl_19 ?_
      refine lv_iload_n (pc := 22) hx hb dX0_nextControl_22 rfl (lv_at hl 3 rfl) ?_
      obtain ⟨cap_1, f1_1, hpe_1, hcap_1, hle_1, hel_1⟩ := hR.pe (j := 1) (by decide)
      replace hle_1 : cnt st 30 ≤ cap_1 := hle_1
      replace hel_1 : ∀ q, q < cnt st 30 → f1_1 q = some (g 3 q) := hel_1
      refine x_goR5 (x_runF (pc := 23) (As := [.int (nI i)]) (rest := []) E hml hl.1 hw.2 hw.1 hpl_17 (C := RJ2) (T := TJ2) (N := 3) rfl (xtJ2_get l D A V (g 0 17) (g 1 1) (cnt st 30) cap_1 (g 3 i) i mc_17 f1_1 hpl_17 hpe_1 (show i < cnt st 30 from (by omega)) hle_1 (by have := hcap_1; omega) (hel_1 _ (by omega))) E.2.2.2.2.1.2.1.2.2.2.2.2.2.1 q337 q340 q342 q51 q344 hdF_get ⟨Nat.le_of_ble_eq_true rfl, Nat.le_of_ble_eq_true rfl⟩ rfl rfl rfl (Nat.le_of_ble_eq_true rfl) dX0_nextControl_23 ⟨Nat.le_of_ble_eq_true rfl, Nat.le_of_ble_eq_true rfl⟩) ?_
      obtain ⟨k_3a, k_3b, k_3c, k_3d, k_3h, k_3e⟩ := hR.ctl (j := i) (by omega)
      refine x_castS (pc := 28) E hw.1 k_3h (C := RX6) (T := TX6) (N := 7) rfl q586 dX0_nextControl_28 ?_
      refine lv_astore (pc := 31) (lv' := [(4, .ref (g 3 i)), (0, .ref (g 0 0)), (1, .int x), (2, .int u), (3, .int (nI i))]) hx hb dX0_nextControl_31 hl (by decide) rfl (fun ls hl => ?_)
      refine lv_aload (pc := 33) hx hb dX0_nextControl_33 (lv_at hl 0 rfl) ?_
      refine x_rdN (pc := 35) (v := .int (st 32 i)) E hw.1 1 k_3h (C := RX6) (T := TX6) (N := 7) rfl in_X6 (Nat.le_of_ble_eq_true rfl) q596 (fun _ h => h) rfl dX0_nextControl_35 ?_
      refine li_ne (pc := 38) (tgt := 82) hx hb dX0_nextControl_38 (by decide) (fun c_4 => ?_) (fun c_4 => ?_)
      · refine lv_iinc (pc := 82) (v := (nI (i + 1))) (lv' := [(3, .int (nI (i + 1))), (4, .ref (g 3 i)), (0, .ref (g 0 0)), (1, .int x), (2, .int u)]) hx hb dX0_nextControl_82 hl (k := 4) rfl (nI_1 _) (by decide) rfl (fun ls hl => ?_)
        refine lv_goto (pc := 85) (tgt := 5) hx hb dX0_nextControl_85 (by decide) ?_
        exact x_toR (by simp only [xnc, if_neg c_4]) (ih_loop (i + 1) u (by omega) (by first | exact Or.inr ⟨by rw [nI_toInt (by omega)]; omega, by rw [nI_toInt (by omega)]; omega⟩ | (rcases hu with h | h; exact Or.inl h; exact Or.inr ⟨h.1, by omega⟩)) _ (lv_sub hl [2, 3, 4, 0] rfl))
      · refine lv_aload (pc := 41) hx hb dX0_nextControl_41 (lv_at hl 0 rfl) ?_
        refine x_rdN (pc := 43) (v := .int (st 31 i)) E hw.1 0 k_3h (C := RX6) (T := TX6) (N := 7) rfl in_X6 (Nat.le_of_ble_eq_true rfl) q594 (fun _ h => h) rfl dX0_nextControl_43 ?_
        refine lv_iload_n (pc := 46) hx hb dX0_nextControl_46 rfl (lv_at hl 2 rfl) ?_
        refine li_icmp_le (pc := 47) (tgt := 82) hx hb dX0_nextControl_47 (by decide) (fun c_5 => ?_) (fun c_5 => ?_)
        · refine lv_iinc (pc := 82) (v := (nI (i + 1))) (lv' := [(3, .int (nI (i + 1))), (4, .ref (g 3 i)), (0, .ref (g 0 0)), (1, .int x), (2, .int u)]) hx hb dX0_nextControl_82 hl (k := 4) rfl (nI_1 _) (by decide) rfl (fun ls hl => ?_)
          refine lv_goto (pc := 85) (tgt := 5) hx hb dX0_nextControl_85 (by decide) ?_
          exact x_toR (by simp only [xnc, if_pos c_4, if_neg c_5]) (ih_loop (i + 1) u (by omega) (by first | exact Or.inr ⟨by rw [nI_toInt (by omega)]; omega, by rw [nI_toInt (by omega)]; omega⟩ | (rcases hu with h | h; exact Or.inl h; exact Or.inr ⟨h.1, by omega⟩)) _ (lv_sub hl [2, 3, 4, 0] rfl))
        · refine lv_iload_n (pc := 50) hx hb dX0_nextControl_50 rfl (lv_at hl 3 rfl) ?_
          refine lv_bipush (pc := 51) (v := (-9)) hx hb dX0_nextControl_51 (by decide) ?_
          refine lv_icmp_eq (pc := 53) (tgt := 80) hx hb dX0_nextControl_53 (by decide) (fun c_6 => ?_) (fun c_6 => ?_)
          · refine lv_iload_n (pc := 80) hx hb dX0_nextControl_80 rfl (lv_at hl 4 rfl) ?_
            refine lv_istore_n (pc := 81) (lv' := [(2, .int (nI i)), (4, .ref (g 3 i)), (0, .ref (g 0 0)), (1, .int x), (3, .int (nI i))]) hx hb dX0_nextControl_81 rfl hl (by decide) rfl (fun ls hl => ?_)
            refine lv_iinc (pc := 82) (v := (nI (i + 1))) (lv' := [(3, .int (nI (i + 1))), (2, .int (nI i)), (4, .ref (g 3 i)), (0, .ref (g 0 0)), (1, .int x)]) hx hb dX0_nextControl_82 hl (k := 4) rfl (nI_1 _) (by decide) rfl (fun ls hl => ?_)
            refine lv_goto (pc := 85) (tgt := 5) hx hb dX0_nextControl_85 (by decide) ?_
            exact x_toR (by simp only [xnc, if_pos c_4, if_pos c_5, if_pos c_6]) (ih_loop (i + 1) (nI i) (by omega) (by first | exact Or.inr ⟨by rw [nI_toInt (by omega)]; omega, by rw [nI_toInt (by omega)]; omega⟩ | (rcases hu with h | h; exact Or.inl h; exact Or.inr ⟨h.1, by omega⟩)) _ (lv_sub hl [3, 4, 1, 0] rfl))
          · have hu2 := hu.resolve_left c_6
            have hun := clamp_n (x := u) hu2.1
            have hui := clamp_i (x := u) hu2.1
            refine lv_aload (pc := 56) hx hb dX0_nextControl_56 (lv_at hl 0 rfl) ?_
            refine x_rdN (pc := 58) (v := .int (st 31 i)) E hw.1 0 k_3h (C := RX6) (T := TX6) (N := 7) rfl in_X6 (Nat.le_of_ble_eq_true rfl) q594 (fun _ h => h) rfl dX0_nextControl_58 ?_
            refine lv_aload_n (pc := 61) hx hb dX0_nextControl_61 rfl (lv_at hl 1 rfl) ?_
            refine x_rd (pc := 62) (v := .ref (g 0 17)) E hw.1 17 hpx (C := RX0) (T := TX0) (N := 20) rfl in_X0 (Nat.le_of_ble_eq_true rfl) q130 (fun _ h => h) rfl dX0_nextControl_62 ?_
            refine lv_iload_n (pc := 65) hx hb dX0_nextControl_65 rfl (lv_at hl 3 rfl) ?_
            refine li_top (v' := .int (nI u.toNatClampNeg)) (congrArg Value.int hun) ?_
            refine x_goR5 (x_runF (pc := 66) (As := [.int (nI u.toNatClampNeg)]) (rest := [.int (st 31 i)]) E hml hl.1 hw.2 hw.1 hpl_17 (C := RJ2) (T := TJ2) (N := 3) rfl (xtJ2_get l D A V (g 0 17) (g 1 1) (cnt st 30) cap_1 (g 3 u.toNatClampNeg) u.toNatClampNeg mc_17 f1_1 hpl_17 hpe_1 (show u.toNatClampNeg < cnt st 30 from (by omega)) hle_1 (by have := hcap_1; omega) (hel_1 _ (by omega))) E.2.2.2.2.1.2.1.2.2.2.2.2.2.1 q337 q340 q342 q51 q344 hdF_get ⟨Nat.le_of_ble_eq_true rfl, Nat.le_of_ble_eq_true rfl⟩ rfl rfl rfl (Nat.le_of_ble_eq_true rfl) dX0_nextControl_66 ⟨Nat.le_of_ble_eq_true rfl, Nat.le_of_ble_eq_true rfl⟩) ?_
            obtain ⟨k_7a, k_7b, k_7c, k_7d, k_7h, k_7e⟩ := hR.ctl (j := u.toNatClampNeg) (by omega)
            refine x_castS (pc := 71) E hw.1 k_7h (C := RX6) (T := TX6) (N := 7) rfl q586 dX0_nextControl_71 ?_
            refine x_rdN (pc := 74) (v := .int (st 31 u.toNatClampNeg)) E hw.1 0 k_7h (C := RX6) (T := TX6) (N := 7) rfl in_X6 (Nat.le_of_ble_eq_true rfl) q594 (fun _ h => h) rfl dX0_nextControl_74 ?_
            refine li_icmp_ge (pc := 77) (tgt := 82) hx hb dX0_nextControl_77 (by decide) (fun c_8 => ?_) (fun c_8 => ?_)
            · refine lv_iinc (pc := 82) (v := (nI (i + 1))) (lv' := [(3, .int (nI (i + 1))), (4, .ref (g 3 i)), (0, .ref (g 0 0)), (1, .int x), (2, .int u)]) hx hb dX0_nextControl_82 hl (k := 4) rfl (nI_1 _) (by decide) rfl (fun ls hl => ?_)
              refine lv_goto (pc := 85) (tgt := 5) hx hb dX0_nextControl_85 (by decide) ?_
              exact x_toR (by simp only [xnc, if_pos c_4, if_pos c_5, if_neg c_6, if_neg c_8]) (ih_loop (i + 1) u (by omega) (by first | exact Or.inr ⟨by rw [nI_toInt (by omega)]; omega, by rw [nI_toInt (by omega)]; omega⟩ | (rcases hu with h | h; exact Or.inl h; exact Or.inr ⟨h.1, by omega⟩)) _ (lv_sub hl [2, 3, 4, 0] rfl))
            · refine lv_iload_n (pc := 80) hx hb dX0_nextControl_80 rfl (lv_at hl 4 rfl) ?_
              refine lv_istore_n (pc := 81) (lv' := [(2, .int (nI i)), (4, .ref (g 3 i)), (0, .ref (g 0 0)), (1, .int x), (3, .int (nI i))]) hx hb dX0_nextControl_81 rfl hl (by decide) rfl (fun ls hl => ?_)
              refine lv_iinc (pc := 82) (v := (nI (i + 1))) (lv' := [(3, .int (nI (i + 1))), (2, .int (nI i)), (4, .ref (g 3 i)), (0, .ref (g 0 0)), (1, .int x)]) hx hb dX0_nextControl_82 hl (k := 4) rfl (nI_1 _) (by decide) rfl (fun ls hl => ?_)
              refine lv_goto (pc := 85) (tgt := 5) hx hb dX0_nextControl_85 (by decide) ?_
              exact x_toR (by simp only [xnc, if_pos c_4, if_pos c_5, if_neg c_6, if_pos c_8]) (ih_loop (i + 1) (nI i) (by omega) (by first | exact Or.inr ⟨by rw [nI_toInt (by omega)]; omega, by rw [nI_toInt (by omega)]; omega⟩ | (rcases hu with h | h; exact Or.inl h; exact Or.inr ⟨h.1, by omega⟩)) _ (lv_sub hl [3, 4, 1, 0] rfl))
  exact x_toR rfl (loop (cnt st 30) 0 (-9) (by omega) (Or.inl rfl) _ (lv_sub hl [2, 3, 1, 0] rfl))
