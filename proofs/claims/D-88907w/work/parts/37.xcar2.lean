/-! cars: costs, points, totals -/
theorem cs3_0 (z : Int64) : cs3 0 z = cs1 z := rfl
theorem cs3_1 (z : Int64) : cs3 1 z = cs1 z / 2 := rfl
theorem cs3_2 (z : Int64) : cs3 2 z = if 50 < (cs1 z / 2).toInt then 50 else cs1 z / 2 := rfl
set_option maxHeartbeats 4000000 in
set_option maxRecDepth 100000 in
theorem xtX8_cost_6 (l : Launch) (D : xD) (A : Nat → Prop) (V : xV) (st : mS) (g : xG) (a : Nat) (z : Int64) (hI : mI st) (hR : xR D st g V) (ha : a < cnt st 35) (hk : st 37 a = 1)  : Met l yX8_cost (ws_ yX8_cost cX8_cost 3 (some .int)) (xRm 2 0 0) (xP D A V [.ref (g 4 a), .long z]) (k2_QcV (.int ((cs1 z).toInt32 / 2))) 0 0 (fun _ => False) := by
  refine x_headR (own := RX8) (As := [.ref (g 4 a), .long z]) (bytes := cX8_cost) (maxL := 3) (ret := (some .int)) (by decide) rfl (Nat.le_of_ble_eq_true rfl) ?_
  intro p e s m below meth c E hml hr hlk hw0 ls hl
  have hw : xWd D A s V s.heap [] := ⟨hw0, va_S.rf⟩
  have hx := E.1
  have hb := E.2.1
  have hts := E.2.2.1
  have hown := E.2.2.2.1
  have hl : lv_has ls 3 [(0, .ref (g 4 a)), (1, .long z)] := hl
  have h16 := hI.r16
  have h10 := hI.l10
  have hv8 := hI.v8
  have hc8 := hI.c8
  have hk8 := hI.k8
  have hb8 := hI.b8
  have h1 := hR.car6 ha hk
  have h9 := hR.o9 hI ha
  refine lv_aload_n (pc := 0) hx hb dX8_cost_0 rfl (lv_at hl 0 rfl) ?_
  refine lv_lload_n (pc := 1) hx hb dX8_cost_1 rfl (lv_at hl 1 rfl) ?_
  refine x_goR (x_runSU (pc := 2) (As := [.long z]) (rest := []) E hml hl.1 hw.2 hw.1 h1 (C := RX8) (T := TX8) (N := 8) rfl (xtX7_cost_6 l D A V st g a z hI hR ha hk) q801 q794 q696 q792 q73 q804 ⟨by decide, hdX7_cost.2.2.2⟩ ⟨Nat.le_of_ble_eq_true rfl, Nat.le_of_ble_eq_true rfl⟩ rfl rfl rfl (Nat.le_of_ble_eq_true rfl) dX8_cost_2 ⟨Nat.le_of_ble_eq_true rfl, Nat.le_of_ble_eq_true rfl⟩) ?_
  refine lv_iconst (pc := 5) (v := 2) hx hb dX8_cost_5 (by decide) ?_
  refine lv_idiv (pc := 6) hx hb dX8_cost_6 (by decide) ?_
  exact m_iretS hx hb hr hlk dX8_cost_7 rfl
set_option maxHeartbeats 4000000 in
set_option maxRecDepth 100000 in
theorem xtX8_cost_7 (l : Launch) (D : xD) (A : Nat → Prop) (V : xV) (st : mS) (g : xG) (a : Nat) (z : Int64) (hI : mI st) (hR : xR D st g V) (ha : a < cnt st 35) (hk : st 37 a = 2)  : Met l yX8_cost (ws_ yX8_cost cX8_cost 3 (some .int)) (xRm 2 0 0) (xP D A V [.ref (g 4 a), .long z]) (k2_QcV (.int ((cs1 z).toInt32 / 2))) 0 0 (fun _ => False) := by
  refine x_headR (own := RX8) (As := [.ref (g 4 a), .long z]) (bytes := cX8_cost) (maxL := 3) (ret := (some .int)) (by decide) rfl (Nat.le_of_ble_eq_true rfl) ?_
  intro p e s m below meth c E hml hr hlk hw0 ls hl
  have hw : xWd D A s V s.heap [] := ⟨hw0, va_S.rf⟩
  have hx := E.1
  have hb := E.2.1
  have hts := E.2.2.1
  have hown := E.2.2.2.1
  have hl : lv_has ls 3 [(0, .ref (g 4 a)), (1, .long z)] := hl
  have h16 := hI.r16
  have h10 := hI.l10
  have hv8 := hI.v8
  have hc8 := hI.c8
  have hk8 := hI.k8
  have hb8 := hI.b8
  have h1 := hR.car7 ha hk
  have h9 := hR.o9 hI ha
  refine lv_aload_n (pc := 0) hx hb dX8_cost_0 rfl (lv_at hl 0 rfl) ?_
  refine lv_lload_n (pc := 1) hx hb dX8_cost_1 rfl (lv_at hl 1 rfl) ?_
  refine x_goR (x_runSU (pc := 2) (As := [.long z]) (rest := []) E hml hl.1 hw.2 hw.1 h1 (C := RX9) (T := TX9) (N := 9) rfl (xtX7_cost_7 l D A V st g a z hI hR ha hk) q801 q794 q696 q792 q73 q804 ⟨by decide, hdX7_cost.2.2.2⟩ ⟨Nat.le_of_ble_eq_true rfl, Nat.le_of_ble_eq_true rfl⟩ rfl rfl rfl (Nat.le_of_ble_eq_true rfl) dX8_cost_2 ⟨Nat.le_of_ble_eq_true rfl, Nat.le_of_ble_eq_true rfl⟩) ?_
  refine lv_iconst (pc := 5) (v := 2) hx hb dX8_cost_5 (by decide) ?_
  refine lv_idiv (pc := 6) hx hb dX8_cost_6 (by decide) ?_
  exact m_iretS hx hb hr hlk dX8_cost_7 rfl
set_option maxHeartbeats 4000000 in
set_option maxRecDepth 100000 in
theorem xtX9_cost_7 (l : Launch) (D : xD) (A : Nat → Prop) (V : xV) (st : mS) (g : xG) (a : Nat) (z : Int64) (hI : mI st) (hR : xR D st g V) (ha : a < cnt st 35) (hk : st 37 a = 2)  : Met l yX9_cost (ws_ yX9_cost cX9_cost 3 (some .int)) (xRm 3 0 0) (xP D A V [.ref (g 4 a), .long z]) (k2_QcV (.int (if ((cs1 z).toInt32 / 2).toInt < (50 : Int32).toInt then (cs1 z).toInt32 / 2 else (50 : Int32)))) 0 0 (fun _ => False) := by
  refine x_headR (own := RX9) (As := [.ref (g 4 a), .long z]) (bytes := cX9_cost) (maxL := 3) (ret := (some .int)) (by decide) rfl (Nat.le_of_ble_eq_true rfl) ?_
  intro p e s m below meth c E hml hr hlk hw0 ls hl
  have hw : xWd D A s V s.heap [] := ⟨hw0, va_S.rf⟩
  have hx := E.1
  have hb := E.2.1
  have hts := E.2.2.1
  have hown := E.2.2.2.1
  have hl : lv_has ls 3 [(0, .ref (g 4 a)), (1, .long z)] := hl
  have h16 := hI.r16
  have h10 := hI.l10
  have hv8 := hI.v8
  have hc8 := hI.c8
  have hk8 := hI.k8
  have hb8 := hI.b8
  have h1 := hR.car7 ha hk
  have h9 := hR.o9 hI ha
  refine lv_bipush (pc := 0) (v := 50) hx hb dX9_cost_0 (by decide) ?_
  refine lv_aload_n (pc := 2) hx hb dX9_cost_2 rfl (lv_at hl 0 rfl) ?_
  refine lv_lload_n (pc := 3) hx hb dX9_cost_3 rfl (lv_at hl 1 rfl) ?_
  refine x_goR (x_runSU (pc := 4) (As := [.long z]) (rest := [.int 50]) E hml hl.1 hw.2 hw.1 h1 (C := RX9) (T := TX9) (N := 9) rfl (xtX8_cost_7 l D A V st g a z hI hR ha hk) q798 q1492 q714 q799 q74 q800 ⟨by decide, hdX8_cost.2.2.2⟩ ⟨Nat.le_of_ble_eq_true rfl, Nat.le_of_ble_eq_true rfl⟩ rfl rfl rfl (Nat.le_of_ble_eq_true rfl) dX9_cost_4 ⟨Nat.le_of_ble_eq_true rfl, Nat.le_of_ble_eq_true rfl⟩) ?_
  refine x_mmin (pc := 7) (rest := []) hx hb hts hown hml hl.1 q802 (Nat.le_of_ble_eq_true rfl) (Nat.le_of_ble_eq_true rfl) (Nat.le_of_ble_eq_true rfl) (Nat.le_of_ble_eq_true rfl) dX9_cost_7 ?_
  exact m_iretS hx hb hr hlk dX9_cost_10 rfl
set_option maxHeartbeats 4000000 in
set_option maxRecDepth 100000 in
theorem xtX7_points_5 (l : Launch) (D : xD) (A : Nat → Prop) (V : xV) (st : mS) (g : xG) (a : Nat) (c_ : Nat) (hI : mI st) (hR : xR D st g V) (ha : a < cnt st 35) (hk : st 37 a = 0) (hc : c_ < cnt st 30) (hD : hasD st) : Met l yX7_points (ws_ yX7_points cX7_points 2 (some .int)) (xRm 6 0 0) (xP D A V [.ref (g 4 a), .int (nI c_)]) (k2_QcV (.int (pts st a c_))) 0 0 (fun _ => False) := by
  refine x_headR (own := RX7) (As := [.ref (g 4 a), .int (nI c_)]) (bytes := cX7_points) (maxL := 2) (ret := (some .int)) (by decide) rfl (Nat.le_of_ble_eq_true rfl) ?_
  intro p e s m below meth c E hml hr hlk hw0 ls hl
  have hw : xWd D A s V s.heap [] := ⟨hw0, va_S.rf⟩
  have hx := E.1
  have hb := E.2.1
  have hts := E.2.2.1
  have hown := E.2.2.2.1
  have hl : lv_has ls 2 [(0, .ref (g 4 a)), (1, .int (nI c_))] := hl
  have h16 := hI.r16
  have h10 := hI.l10
  have hv8 := hI.v8
  have hc8 := hI.c8
  have hk8 := hI.k8
  have hb8 := hI.b8
  have h1 := hR.car5 ha hk
  have h9 := hR.o9 hI ha
  have hz := cs1_b (err_b hI ha hc).1 (err_b hI ha hc).2
  refine lv_aload_n (pc := 0) hx hb dX7_points_0 rfl (lv_at hl 0 rfl) ?_
  refine x_rd (pc := 1) (v := .ref (g 0 0)) E hw.1 6 h1 (C := RX7) (T := TX7) (N := 7) rfl in_X7 (Nat.le_of_ble_eq_true rfl) q664 (fun _ h => h) rfl dX7_points_1 ?_
  obtain ⟨b7, b8, b9, hpx⟩ := hR.px hI
  replace hpx : V (g 0 0) = some (.inr (0, [.int (st 0 0), .int (st 0 42), .ref (g 0 2), .ref (g 0 3), .int (nI (cnt st 12)), .ref (g 0 5), .ref (g 0 6), .int b7, .long b8, .int b9, .int (st 0 14), .ref (g 0 11), .int (nI (cnt st 24)), .int (st 0 25), .ref (g 0 14), .ref (g 0 15), .int (nI (cnt st 27)), .ref (g 0 17), .ref (g 0 18), .ref (g 0 19)])) := hpx
  refine x_rdN (pc := 4) (v := .ref (g 0 17)) E hw.1 17 hpx (C := RX0) (T := TX0) (N := 20) rfl in_X0 (Nat.le_of_ble_eq_true rfl) q131 (fun _ h => h) rfl dX7_points_4 ?_
  refine lv_iload_n (pc := 7) hx hb dX7_points_7 rfl (lv_at hl 1 rfl) ?_
  obtain ⟨mc_17, hpl_17⟩ := hR.p17
  obtain ⟨cap_1, f1_1, hpe_1, hcap_1, hle_1, hel_1⟩ := hR.pe (j := 1) (by decide)
  replace hle_1 : cnt st 30 ≤ cap_1 := hle_1
  replace hel_1 : ∀ q, q < cnt st 30 → f1_1 q = some (g 3 q) := hel_1
  refine x_goR5 (x_runF (pc := 8) (As := [.int (nI c_)]) (rest := []) E hml hl.1 hw.2 hw.1 hpl_17 (C := RJ2) (T := TJ2) (N := 3) rfl (xtJ2_get l D A V (g 0 17) (g 1 1) (cnt st 30) cap_1 (g 3 c_) c_ mc_17 f1_1 hpl_17 hpe_1 (show c_ < cnt st 30 from (by omega)) hle_1 (by have := hcap_1; omega) (hel_1 _ (by omega))) E.2.2.2.2.1.2.1.2.2.2.2.2.2.1 q753 q340 q342 q51 q344 hdF_get ⟨Nat.le_of_ble_eq_true rfl, Nat.le_of_ble_eq_true rfl⟩ rfl rfl rfl (Nat.le_of_ble_eq_true rfl) dX7_points_8 ⟨Nat.le_of_ble_eq_true rfl, Nat.le_of_ble_eq_true rfl⟩) ?_
  obtain ⟨k_1a, k_1b, k_1c, k_1d, k_1h, k_1e⟩ := hR.ctl (j := c_) (by omega)
  refine x_castS (pc := 13) E hw.1 k_1h (C := RX6) (T := TX6) (N := 7) rfl q754 dX7_points_13 ?_
  refine x_rdN (pc := 16) (v := .int (st 32 c_)) E hw.1 1 k_1h (C := RX6) (T := TX6) (N := 7) rfl in_X6 (Nat.le_of_ble_eq_true rfl) q595 (fun _ h => h) rfl dX7_points_16 ?_
  refine lv_if_eq (pc := 19) (tgt := 24) hx hb dX7_points_19 (by decide) (fun c_2 => ?_) (fun c_2 => ?_)
  · refine lv_aload_n (pc := 24) hx hb dX7_points_24 rfl (lv_at hl 0 rfl) ?_
    refine lv_iload_n (pc := 25) hx hb dX7_points_25 rfl (lv_at hl 1 rfl) ?_
    refine x_goR (x_runV (pc := 26) (As := [.int (nI c_)]) (rest := []) E hml hl.1 hw.2 hw.1 h1 (C := RX7) (T := TX7) (N := 7) rfl (xtX7_isClocked_5 l D A V st g a c_ hI hR ha hk (by omega)) q782 q724 q725 q73 q729 hdX7_isClocked ⟨Nat.le_of_ble_eq_true rfl, Nat.le_of_ble_eq_true rfl⟩ rfl rfl rfl (Nat.le_of_ble_eq_true rfl) dX7_points_26 ⟨Nat.le_of_ble_eq_true rfl, Nat.le_of_ble_eq_true rfl⟩) ?_
    refine lb_ne (pc := 29) (tgt := 36) hx hb dX7_points_29 (by decide) (fun c_3 => ?_) (fun c_3 => ?_)
    · refine lv_aload_n (pc := 36) hx hb dX7_points_36 rfl (lv_at hl 0 rfl) ?_
      refine lv_iload_n (pc := 37) hx hb dX7_points_37 rfl (lv_at hl 1 rfl) ?_
      refine x_goR (x_runV (pc := 38) (As := [.int (nI c_)]) (rest := []) E hml hl.1 hw.2 hw.1 h1 (C := RX7) (T := TX7) (N := 7) rfl (xtX7_isOutOfOrder_5 l D A V st g a c_ hI hR ha hk hc) q783 q784 q785 q73 q789 hdX7_isOutOfOrder ⟨Nat.le_of_ble_eq_true rfl, Nat.le_of_ble_eq_true rfl⟩ rfl rfl rfl (Nat.le_of_ble_eq_true rfl) dX7_points_38 ⟨Nat.le_of_ble_eq_true rfl, Nat.le_of_ble_eq_true rfl⟩) ?_
      refine lv_if_eq (pc := 41) (tgt := 49) hx hb dX7_points_41 (by decide) (fun c_4 => ?_) (fun c_4 => ?_)
      · refine lv_aload_n (pc := 49) hx hb dX7_points_49 rfl (lv_at hl 0 rfl) ?_
        refine lv_aload_n (pc := 50) hx hb dX7_points_50 rfl (lv_at hl 0 rfl) ?_
        refine lv_iload_n (pc := 51) hx hb dX7_points_51 rfl (lv_at hl 1 rfl) ?_
        refine x_goR (x_runV (pc := 52) (As := [.int (nI c_)]) (rest := [.ref (g 4 a)]) E hml hl.1 hw.2 hw.1 h1 (C := RX7) (T := TX7) (N := 7) rfl (xtX7_error_5 l D A V st g a c_ hI hR ha hk hc hD) q790 q746 q747 q73 q751 hdX7_error ⟨Nat.le_of_ble_eq_true rfl, Nat.le_of_ble_eq_true rfl⟩ rfl rfl rfl (Nat.le_of_ble_eq_true rfl) dX7_points_52 ⟨Nat.le_of_ble_eq_true rfl, Nat.le_of_ble_eq_true rfl⟩) ?_
        refine x_goR (x_runV (pc := 55) (As := [.long (err st a c_)]) (rest := []) E hml hl.1 hw.2 hw.1 h1 (C := RX7) (T := TX7) (N := 7) rfl (xtX7_cost_5 l D A V st g a (err st a c_) hI hR ha hk) q791 q792 q793 q73 q804 hdX7_cost ⟨Nat.le_of_ble_eq_true rfl, Nat.le_of_ble_eq_true rfl⟩ rfl rfl rfl (Nat.le_of_ble_eq_true rfl) dX7_points_55 ⟨Nat.le_of_ble_eq_true rfl, Nat.le_of_ble_eq_true rfl⟩) ?_
        exact m_iretS hx hb hr hlk dX7_points_58 (by simp only [pts, if_pos c_2, if_neg c_3, if_pos c_4, hk, cs3_0])
      · refine lv_bipush (pc := 44) (v := 100) hx hb dX7_points_44 (by decide) ?_
        refine lv_goto (pc := 46) (tgt := 58) hx hb dX7_points_46 (by decide) ?_
        exact m_iretS hx hb hr hlk dX7_points_58 (by simp only [pts, if_pos c_2, if_neg c_3, if_neg c_4])
    · refine lv_sipush (pc := 32) (v := 300) hx hb dX7_points_32 (by decide) ?_
      exact m_iretS hx hb hr hlk dX7_points_35 (by simp only [pts, if_pos c_2, if_pos (Classical.not_not.mp c_3)])
  · refine lv_iconst (pc := 22) (v := 0) hx hb dX7_points_22 (by decide) ?_
    exact m_iretS hx hb hr hlk dX7_points_23 (by simp only [pts, if_neg c_2])
set_option maxHeartbeats 4000000 in
set_option maxRecDepth 100000 in
theorem xtX7_points_6 (l : Launch) (D : xD) (A : Nat → Prop) (V : xV) (st : mS) (g : xG) (a : Nat) (c_ : Nat) (hI : mI st) (hR : xR D st g V) (ha : a < cnt st 35) (hk : st 37 a = 1) (hc : c_ < cnt st 30) (hD : hasD st) : Met l yX7_points (ws_ yX7_points cX7_points 2 (some .int)) (xRm 6 0 0) (xP D A V [.ref (g 4 a), .int (nI c_)]) (k2_QcV (.int (pts st a c_))) 0 0 (fun _ => False) := by
  refine x_headR (own := RX7) (As := [.ref (g 4 a), .int (nI c_)]) (bytes := cX7_points) (maxL := 2) (ret := (some .int)) (by decide) rfl (Nat.le_of_ble_eq_true rfl) ?_
  intro p e s m below meth c E hml hr hlk hw0 ls hl
  have hw : xWd D A s V s.heap [] := ⟨hw0, va_S.rf⟩
  have hx := E.1
  have hb := E.2.1
  have hts := E.2.2.1
  have hown := E.2.2.2.1
  have hl : lv_has ls 2 [(0, .ref (g 4 a)), (1, .int (nI c_))] := hl
  have h16 := hI.r16
  have h10 := hI.l10
  have hv8 := hI.v8
  have hc8 := hI.c8
  have hk8 := hI.k8
  have hb8 := hI.b8
  have h1 := hR.car6 ha hk
  have h9 := hR.o9 hI ha
  have hz := cs1_b (err_b hI ha hc).1 (err_b hI ha hc).2
  refine lv_aload_n (pc := 0) hx hb dX7_points_0 rfl (lv_at hl 0 rfl) ?_
  refine x_rd (pc := 1) (v := .ref (g 0 0)) E hw.1 6 h1 (C := RX8) (T := TX8) (N := 8) rfl in_X8 (Nat.le_of_ble_eq_true rfl) q664 (fun _ h => h) rfl dX7_points_1 ?_
  obtain ⟨b7, b8, b9, hpx⟩ := hR.px hI
  replace hpx : V (g 0 0) = some (.inr (0, [.int (st 0 0), .int (st 0 42), .ref (g 0 2), .ref (g 0 3), .int (nI (cnt st 12)), .ref (g 0 5), .ref (g 0 6), .int b7, .long b8, .int b9, .int (st 0 14), .ref (g 0 11), .int (nI (cnt st 24)), .int (st 0 25), .ref (g 0 14), .ref (g 0 15), .int (nI (cnt st 27)), .ref (g 0 17), .ref (g 0 18), .ref (g 0 19)])) := hpx
  refine x_rdN (pc := 4) (v := .ref (g 0 17)) E hw.1 17 hpx (C := RX0) (T := TX0) (N := 20) rfl in_X0 (Nat.le_of_ble_eq_true rfl) q131 (fun _ h => h) rfl dX7_points_4 ?_
  refine lv_iload_n (pc := 7) hx hb dX7_points_7 rfl (lv_at hl 1 rfl) ?_
  obtain ⟨mc_17, hpl_17⟩ := hR.p17
  obtain ⟨cap_1, f1_1, hpe_1, hcap_1, hle_1, hel_1⟩ := hR.pe (j := 1) (by decide)
  replace hle_1 : cnt st 30 ≤ cap_1 := hle_1
  replace hel_1 : ∀ q, q < cnt st 30 → f1_1 q = some (g 3 q) := hel_1
  refine x_goR5 (x_runF (pc := 8) (As := [.int (nI c_)]) (rest := []) E hml hl.1 hw.2 hw.1 hpl_17 (C := RJ2) (T := TJ2) (N := 3) rfl (xtJ2_get l D A V (g 0 17) (g 1 1) (cnt st 30) cap_1 (g 3 c_) c_ mc_17 f1_1 hpl_17 hpe_1 (show c_ < cnt st 30 from (by omega)) hle_1 (by have := hcap_1; omega) (hel_1 _ (by omega))) E.2.2.2.2.1.2.1.2.2.2.2.2.2.1 q753 q340 q342 q51 q344 hdF_get ⟨Nat.le_of_ble_eq_true rfl, Nat.le_of_ble_eq_true rfl⟩ rfl rfl rfl (Nat.le_of_ble_eq_true rfl) dX7_points_8 ⟨Nat.le_of_ble_eq_true rfl, Nat.le_of_ble_eq_true rfl⟩) ?_
  obtain ⟨k_1a, k_1b, k_1c, k_1d, k_1h, k_1e⟩ := hR.ctl (j := c_) (by omega)
  refine x_castS (pc := 13) E hw.1 k_1h (C := RX6) (T := TX6) (N := 7) rfl q754 dX7_points_13 ?_
  refine x_rdN (pc := 16) (v := .int (st 32 c_)) E hw.1 1 k_1h (C := RX6) (T := TX6) (N := 7) rfl in_X6 (Nat.le_of_ble_eq_true rfl) q595 (fun _ h => h) rfl dX7_points_16 ?_
  refine lv_if_eq (pc := 19) (tgt := 24) hx hb dX7_points_19 (by decide) (fun c_2 => ?_) (fun c_2 => ?_)
  · refine lv_aload_n (pc := 24) hx hb dX7_points_24 rfl (lv_at hl 0 rfl) ?_
    refine lv_iload_n (pc := 25) hx hb dX7_points_25 rfl (lv_at hl 1 rfl) ?_
    refine x_goR (x_runU (pc := 26) (As := [.int (nI c_)]) (rest := []) E hml hl.1 hw.2 hw.1 h1 (C := RX8) (T := TX8) (N := 8) rfl (xtX7_isClocked_6 l D A V st g a c_ hI hR ha hk (by omega)) q782 q726 q728 q724 q73 q729 rfl hdX7_isClocked.2 ⟨Nat.le_of_ble_eq_true rfl, Nat.le_of_ble_eq_true rfl⟩ rfl rfl rfl (Nat.le_of_ble_eq_true rfl) dX7_points_26 ⟨Nat.le_of_ble_eq_true rfl, Nat.le_of_ble_eq_true rfl⟩) ?_
    refine lb_ne (pc := 29) (tgt := 36) hx hb dX7_points_29 (by decide) (fun c_3 => ?_) (fun c_3 => ?_)
    · refine lv_aload_n (pc := 36) hx hb dX7_points_36 rfl (lv_at hl 0 rfl) ?_
      refine lv_iload_n (pc := 37) hx hb dX7_points_37 rfl (lv_at hl 1 rfl) ?_
      refine x_goR (x_runU (pc := 38) (As := [.int (nI c_)]) (rest := []) E hml hl.1 hw.2 hw.1 h1 (C := RX8) (T := TX8) (N := 8) rfl (xtX7_isOutOfOrder_6 l D A V st g a c_ hI hR ha hk hc) q783 q786 q788 q784 q73 q789 rfl hdX7_isOutOfOrder.2 ⟨Nat.le_of_ble_eq_true rfl, Nat.le_of_ble_eq_true rfl⟩ rfl rfl rfl (Nat.le_of_ble_eq_true rfl) dX7_points_38 ⟨Nat.le_of_ble_eq_true rfl, Nat.le_of_ble_eq_true rfl⟩) ?_
      refine lv_if_eq (pc := 41) (tgt := 49) hx hb dX7_points_41 (by decide) (fun c_4 => ?_) (fun c_4 => ?_)
      · refine lv_aload_n (pc := 49) hx hb dX7_points_49 rfl (lv_at hl 0 rfl) ?_
        refine lv_aload_n (pc := 50) hx hb dX7_points_50 rfl (lv_at hl 0 rfl) ?_
        refine lv_iload_n (pc := 51) hx hb dX7_points_51 rfl (lv_at hl 1 rfl) ?_
        refine x_goR (x_runU (pc := 52) (As := [.int (nI c_)]) (rest := [.ref (g 4 a)]) E hml hl.1 hw.2 hw.1 h1 (C := RX8) (T := TX8) (N := 8) rfl (xtX7_error_6 l D A V st g a c_ hI hR ha hk hc hD) q790 q748 q750 q746 q73 q751 rfl hdX7_error.2 ⟨Nat.le_of_ble_eq_true rfl, Nat.le_of_ble_eq_true rfl⟩ rfl rfl rfl (Nat.le_of_ble_eq_true rfl) dX7_points_52 ⟨Nat.le_of_ble_eq_true rfl, Nat.le_of_ble_eq_true rfl⟩) ?_
        refine x_goR (x_runO (pc := 55) (As := [.long (err st a c_)]) (rest := []) (x := yX7_cost) E hml hl.1 hw.2 hw.1 h1 (C := RX8) (T := TX8) (N := 8) rfl (xtX8_cost_6 l D A V st g a (err st a c_) hI hR ha hk) q791 q794 q803 q799 q74 q800 q792 q804 hdX7_cost.2 ⟨Nat.le_of_ble_eq_true rfl, Nat.le_of_ble_eq_true rfl⟩ rfl rfl rfl (Nat.le_of_ble_eq_true rfl) dX7_points_55 ⟨Nat.le_of_ble_eq_true rfl, Nat.le_of_ble_eq_true rfl⟩) ?_
        exact m_iretS hx hb hr hlk dX7_points_58 (by simp only [pts, if_pos c_2, if_neg c_3, if_pos c_4, hk, cs3_1]; exact co2 hz.1 hz.2)
      · refine lv_bipush (pc := 44) (v := 100) hx hb dX7_points_44 (by decide) ?_
        refine lv_goto (pc := 46) (tgt := 58) hx hb dX7_points_46 (by decide) ?_
        exact m_iretS hx hb hr hlk dX7_points_58 (by simp only [pts, if_pos c_2, if_neg c_3, if_neg c_4])
    · refine lv_sipush (pc := 32) (v := 300) hx hb dX7_points_32 (by decide) ?_
      exact m_iretS hx hb hr hlk dX7_points_35 (by simp only [pts, if_pos c_2, if_pos (Classical.not_not.mp c_3)])
  · refine lv_iconst (pc := 22) (v := 0) hx hb dX7_points_22 (by decide) ?_
    exact m_iretS hx hb hr hlk dX7_points_23 (by simp only [pts, if_neg c_2])
set_option maxHeartbeats 4000000 in
set_option maxRecDepth 100000 in
theorem xtX7_points_7 (l : Launch) (D : xD) (A : Nat → Prop) (V : xV) (st : mS) (g : xG) (a : Nat) (c_ : Nat) (hI : mI st) (hR : xR D st g V) (ha : a < cnt st 35) (hk : st 37 a = 2) (hc : c_ < cnt st 30) (hD : hasD st) : Met l yX7_points (ws_ yX7_points cX7_points 2 (some .int)) (xRm 6 0 0) (xP D A V [.ref (g 4 a), .int (nI c_)]) (k2_QcV (.int (pts st a c_))) 0 0 (fun _ => False) := by
  refine x_headR (own := RX7) (As := [.ref (g 4 a), .int (nI c_)]) (bytes := cX7_points) (maxL := 2) (ret := (some .int)) (by decide) rfl (Nat.le_of_ble_eq_true rfl) ?_
  intro p e s m below meth c E hml hr hlk hw0 ls hl
  have hw : xWd D A s V s.heap [] := ⟨hw0, va_S.rf⟩
  have hx := E.1
  have hb := E.2.1
  have hts := E.2.2.1
  have hown := E.2.2.2.1
  have hl : lv_has ls 2 [(0, .ref (g 4 a)), (1, .int (nI c_))] := hl
  have h16 := hI.r16
  have h10 := hI.l10
  have hv8 := hI.v8
  have hc8 := hI.c8
  have hk8 := hI.k8
  have hb8 := hI.b8
  have h1 := hR.car7 ha hk
  have h9 := hR.o9 hI ha
  have hz := cs1_b (err_b hI ha hc).1 (err_b hI ha hc).2
  refine lv_aload_n (pc := 0) hx hb dX7_points_0 rfl (lv_at hl 0 rfl) ?_
  refine x_rd (pc := 1) (v := .ref (g 0 0)) E hw.1 6 h1 (C := RX9) (T := TX9) (N := 9) rfl in_X9 (Nat.le_of_ble_eq_true rfl) q664 (fun _ h => h) rfl dX7_points_1 ?_
  obtain ⟨b7, b8, b9, hpx⟩ := hR.px hI
  replace hpx : V (g 0 0) = some (.inr (0, [.int (st 0 0), .int (st 0 42), .ref (g 0 2), .ref (g 0 3), .int (nI (cnt st 12)), .ref (g 0 5), .ref (g 0 6), .int b7, .long b8, .int b9, .int (st 0 14), .ref (g 0 11), .int (nI (cnt st 24)), .int (st 0 25), .ref (g 0 14), .ref (g 0 15), .int (nI (cnt st 27)), .ref (g 0 17), .ref (g 0 18), .ref (g 0 19)])) := hpx
  refine x_rdN (pc := 4) (v := .ref (g 0 17)) E hw.1 17 hpx (C := RX0) (T := TX0) (N := 20) rfl in_X0 (Nat.le_of_ble_eq_true rfl) q131 (fun _ h => h) rfl dX7_points_4 ?_
  refine lv_iload_n (pc := 7) hx hb dX7_points_7 rfl (lv_at hl 1 rfl) ?_
  obtain ⟨mc_17, hpl_17⟩ := hR.p17
  obtain ⟨cap_1, f1_1, hpe_1, hcap_1, hle_1, hel_1⟩ := hR.pe (j := 1) (by decide)
  replace hle_1 : cnt st 30 ≤ cap_1 := hle_1
  replace hel_1 : ∀ q, q < cnt st 30 → f1_1 q = some (g 3 q) := hel_1
  refine x_goR5 (x_runF (pc := 8) (As := [.int (nI c_)]) (rest := []) E hml hl.1 hw.2 hw.1 hpl_17 (C := RJ2) (T := TJ2) (N := 3) rfl (xtJ2_get l D A V (g 0 17) (g 1 1) (cnt st 30) cap_1 (g 3 c_) c_ mc_17 f1_1 hpl_17 hpe_1 (show c_ < cnt st 30 from (by omega)) hle_1 (by have := hcap_1; omega) (hel_1 _ (by omega))) E.2.2.2.2.1.2.1.2.2.2.2.2.2.1 q753 q340 q342 q51 q344 hdF_get ⟨Nat.le_of_ble_eq_true rfl, Nat.le_of_ble_eq_true rfl⟩ rfl rfl rfl (Nat.le_of_ble_eq_true rfl) dX7_points_8 ⟨Nat.le_of_ble_eq_true rfl, Nat.le_of_ble_eq_true rfl⟩) ?_
  obtain ⟨k_1a, k_1b, k_1c, k_1d, k_1h, k_1e⟩ := hR.ctl (j := c_) (by omega)
  refine x_castS (pc := 13) E hw.1 k_1h (C := RX6) (T := TX6) (N := 7) rfl q754 dX7_points_13 ?_
  refine x_rdN (pc := 16) (v := .int (st 32 c_)) E hw.1 1 k_1h (C := RX6) (T := TX6) (N := 7) rfl in_X6 (Nat.le_of_ble_eq_true rfl) q595 (fun _ h => h) rfl dX7_points_16 ?_
  refine lv_if_eq (pc := 19) (tgt := 24) hx hb dX7_points_19 (by decide) (fun c_2 => ?_) (fun c_2 => ?_)
  · refine lv_aload_n (pc := 24) hx hb dX7_points_24 rfl (lv_at hl 0 rfl) ?_
    refine lv_iload_n (pc := 25) hx hb dX7_points_25 rfl (lv_at hl 1 rfl) ?_
    refine x_goR (x_runU (pc := 26) (As := [.int (nI c_)]) (rest := []) E hml hl.1 hw.2 hw.1 h1 (C := RX9) (T := TX9) (N := 9) rfl (xtX7_isClocked_7 l D A V st g a c_ hI hR ha hk (by omega)) q782 q726 q727 q724 q73 q729 rfl hdX7_isClocked.2 ⟨Nat.le_of_ble_eq_true rfl, Nat.le_of_ble_eq_true rfl⟩ rfl rfl rfl (Nat.le_of_ble_eq_true rfl) dX7_points_26 ⟨Nat.le_of_ble_eq_true rfl, Nat.le_of_ble_eq_true rfl⟩) ?_
    refine lb_ne (pc := 29) (tgt := 36) hx hb dX7_points_29 (by decide) (fun c_3 => ?_) (fun c_3 => ?_)
    · refine lv_aload_n (pc := 36) hx hb dX7_points_36 rfl (lv_at hl 0 rfl) ?_
      refine lv_iload_n (pc := 37) hx hb dX7_points_37 rfl (lv_at hl 1 rfl) ?_
      refine x_goR (x_runU (pc := 38) (As := [.int (nI c_)]) (rest := []) E hml hl.1 hw.2 hw.1 h1 (C := RX9) (T := TX9) (N := 9) rfl (xtX7_isOutOfOrder_7 l D A V st g a c_ hI hR ha hk hc) q783 q786 q787 q784 q73 q789 rfl hdX7_isOutOfOrder.2 ⟨Nat.le_of_ble_eq_true rfl, Nat.le_of_ble_eq_true rfl⟩ rfl rfl rfl (Nat.le_of_ble_eq_true rfl) dX7_points_38 ⟨Nat.le_of_ble_eq_true rfl, Nat.le_of_ble_eq_true rfl⟩) ?_
      refine lv_if_eq (pc := 41) (tgt := 49) hx hb dX7_points_41 (by decide) (fun c_4 => ?_) (fun c_4 => ?_)
      · refine lv_aload_n (pc := 49) hx hb dX7_points_49 rfl (lv_at hl 0 rfl) ?_
        refine lv_aload_n (pc := 50) hx hb dX7_points_50 rfl (lv_at hl 0 rfl) ?_
        refine lv_iload_n (pc := 51) hx hb dX7_points_51 rfl (lv_at hl 1 rfl) ?_
        refine x_goR (x_runU (pc := 52) (As := [.int (nI c_)]) (rest := [.ref (g 4 a)]) E hml hl.1 hw.2 hw.1 h1 (C := RX9) (T := TX9) (N := 9) rfl (xtX7_error_7 l D A V st g a c_ hI hR ha hk hc hD) q790 q748 q749 q746 q73 q751 rfl hdX7_error.2 ⟨Nat.le_of_ble_eq_true rfl, Nat.le_of_ble_eq_true rfl⟩ rfl rfl rfl (Nat.le_of_ble_eq_true rfl) dX7_points_52 ⟨Nat.le_of_ble_eq_true rfl, Nat.le_of_ble_eq_true rfl⟩) ?_
        refine x_goR (x_runO (pc := 55) (As := [.long (err st a c_)]) (rest := []) (x := yX7_cost) E hml hl.1 hw.2 hw.1 h1 (C := RX9) (T := TX9) (N := 9) rfl (xtX9_cost_7 l D A V st g a (err st a c_) hI hR ha hk) q791 q794 q795 q796 q75 q797 q792 q804 hdX7_cost.2 ⟨Nat.le_of_ble_eq_true rfl, Nat.le_of_ble_eq_true rfl⟩ rfl rfl rfl (Nat.le_of_ble_eq_true rfl) dX7_points_55 ⟨Nat.le_of_ble_eq_true rfl, Nat.le_of_ble_eq_true rfl⟩) ?_
        exact m_iretS hx hb hr hlk dX7_points_58 (by simp only [pts, if_pos c_2, if_neg c_3, if_pos c_4, hk, cs3_2]; exact co3 hz.1 hz.2)
      · refine lv_bipush (pc := 44) (v := 100) hx hb dX7_points_44 (by decide) ?_
        refine lv_goto (pc := 46) (tgt := 58) hx hb dX7_points_46 (by decide) ?_
        exact m_iretS hx hb hr hlk dX7_points_58 (by simp only [pts, if_pos c_2, if_neg c_3, if_neg c_4])
    · refine lv_sipush (pc := 32) (v := 300) hx hb dX7_points_32 (by decide) ?_
      exact m_iretS hx hb hr hlk dX7_points_35 (by simp only [pts, if_pos c_2, if_pos (Classical.not_not.mp c_3)])
  · refine lv_iconst (pc := 22) (v := 0) hx hb dX7_points_22 (by decide) ?_
    exact m_iretS hx hb hr hlk dX7_points_23 (by simp only [pts, if_neg c_2])
set_option maxHeartbeats 4000000 in
set_option maxRecDepth 100000 in
theorem xtX7_total_5 (l : Launch) (D : xD) (A : Nat → Prop) (V : xV) (st : mS) (g : xG) (a : Nat)  (hI : mI st) (hR : xR D st g V) (ha : a < cnt st 35) (hk : st 37 a = 0) (hD : hasD st) : Met l yX7_total (ws_ yX7_total cX7_total 3 (some .int)) (xRm 7 0 0) (xP D A V [.ref (g 4 a)]) (k2_QcV (.int (ttl st a))) 0 0 (fun _ => False) := by
  refine x_headR (own := RX7) (As := [.ref (g 4 a)]) (bytes := cX7_total) (maxL := 3) (ret := (some .int)) (by decide) rfl (Nat.le_of_ble_eq_true rfl) ?_
  intro p e s m below meth c E hml hr hlk hw0 ls hl
  have hw : xWd D A s V s.heap [] := ⟨hw0, va_S.rf⟩
  have hx := E.1
  have hb := E.2.1
  have hts := E.2.2.1
  have hown := E.2.2.2.1
  have hl : lv_has ls 3 [(0, .ref (g 4 a))] := hl
  have h16 := hI.r16
  have h10 := hI.l10
  have hv8 := hI.v8
  have hc8 := hI.c8
  have hk8 := hI.k8
  have hb8 := hI.b8
  have h1 := hR.car5 ha hk
  have h9 := hR.o9 hI ha
  refine lv_iconst (pc := 0) (v := 0) hx hb dX7_total_0 (by decide) ?_
  refine lv_istore_n (pc := 1) (lv' := [(1, .int 0), (0, .ref (g 4 a))]) hx hb dX7_total_1 rfl hl (by decide) rfl (fun ls hl => ?_)
  refine lv_iconst (pc := 2) (v := 0) hx hb dX7_total_2 (by decide) ?_
  refine lv_istore_n (pc := 3) (lv' := [(2, .int 0), (1, .int 0), (0, .ref (g 4 a))]) hx hb dX7_total_3 rfl hl (by decide) rfl (fun ls hl => ?_)
  have loop : ∀ (k : Nat) (i : Nat) (y : Int32), i + k = cnt st 30 → ∀ ls : Array Slot, lv_has ls 3 [(0, .ref (g 4 a)), (1, .int y), (2, .int (nI i))] → W p l e (xRm 7 0 0) s m ([.ref (g 4 a)] : List Value).toArray below meth c s.heap [] 0 0 (MQ below (k2_QcV (.int (tot st a k i y))) ([.ref (g 4 a)] : List Value).toArray s 0 0 (fun _ => False)) (F0 m 4 ls []) := by
    intro k
    induction k with
    | zero =>
      intro i y hi ls hl
      refine lv_iload_n (pc := 4) hx hb dX7_total_4 rfl (lv_at hl 2 rfl) ?_
      refine lv_aload_n (pc := 5) hx hb dX7_total_5 rfl (lv_at hl 0 rfl) ?_
      refine x_rd (pc := 6) (v := .ref (g 0 0)) E hw.1 6 h1 (C := RX7) (T := TX7) (N := 7) rfl in_X7 (Nat.le_of_ble_eq_true rfl) q664 (fun _ h => h) rfl dX7_total_6 ?_
      obtain ⟨b7, b8, b9, hpx⟩ := hR.px hI
      replace hpx : V (g 0 0) = some (.inr (0, [.int (st 0 0), .int (st 0 42), .ref (g 0 2), .ref (g 0 3), .int (nI (cnt st 12)), .ref (g 0 5), .ref (g 0 6), .int b7, .long b8, .int b9, .int (st 0 14), .ref (g 0 11), .int (nI (cnt st 24)), .int (st 0 25), .ref (g 0 14), .ref (g 0 15), .int (nI (cnt st 27)), .ref (g 0 17), .ref (g 0 18), .ref (g 0 19)])) := hpx
      refine x_rdN (pc := 9) (v := .ref (g 0 17)) E hw.1 17 hpx (C := RX0) (T := TX0) (N := 20) rfl in_X0 (Nat.le_of_ble_eq_true rfl) q131 (fun _ h => h) rfl dX7_total_9 ?_
      obtain ⟨mc_17, hpl_17⟩ := hR.p17
      refine x_goR5 (x_runF (pc := 12) (As := []) (rest := [.int (nI i)]) E hml hl.1 hw.2 hw.1 hpl_17 (C := RJ2) (T := TJ2) (N := 3) rfl (xtJ2_size l D A V (g 0 17) (g 1 1) (cnt st 30) mc_17 hpl_17) E.2.2.2.2.1.2.1.2.2.2.2.2.1 q762 q194 q196 q51 q198 hdF_size ⟨Nat.le_of_ble_eq_true rfl, Nat.le_of_ble_eq_true rfl⟩ rfl rfl rfl (Nat.le_of_ble_eq_true rfl) dX7_total_12 ⟨Nat.le_of_ble_eq_true rfl, Nat.le_of_ble_eq_true rfl⟩) ?_
      refine li_icmp_geN (pc := 17) (a := i) (b := cnt st 30) (tgt := 34) hx hb (by omega) (by omega) dX7_total_17 (by decide) (fun c_1 => ?_) (fun c_1 => absurd c_1 (by omega))
      refine lv_iload_n (pc := 34) hx hb dX7_total_34 rfl (lv_at hl 1 rfl) ?_
      exact m_iretS hx hb hr hlk dX7_total_35 rfl
    | succ k ih_loop =>
      intro i y hi ls hl
      refine lv_iload_n (pc := 4) hx hb dX7_total_4 rfl (lv_at hl 2 rfl) ?_
      refine lv_aload_n (pc := 5) hx hb dX7_total_5 rfl (lv_at hl 0 rfl) ?_
      refine x_rd (pc := 6) (v := .ref (g 0 0)) E hw.1 6 h1 (C := RX7) (T := TX7) (N := 7) rfl in_X7 (Nat.le_of_ble_eq_true rfl) q664 (fun _ h => h) rfl dX7_total_6 ?_
      obtain ⟨b7, b8, b9, hpx⟩ := hR.px hI
      replace hpx : V (g 0 0) = some (.inr (0, [.int (st 0 0), .int (st 0 42), .ref (g 0 2), .ref (g 0 3), .int (nI (cnt st 12)), .ref (g 0 5), .ref (g 0 6), .int b7, .long b8, .int b9, .int (st 0 14), .ref (g 0 11), .int (nI (cnt st 24)), .int (st 0 25), .ref (g 0 14), .ref (g 0 15), .int (nI (cnt st 27)), .ref (g 0 17), .ref (g 0 18), .ref (g 0 19)])) := hpx
      refine x_rdN (pc := 9) (v := .ref (g 0 17)) E hw.1 17 hpx (C := RX0) (T := TX0) (N := 20) rfl in_X0 (Nat.le_of_ble_eq_true rfl) q131 (fun _ h => h) rfl dX7_total_9 ?_
      obtain ⟨mc_17, hpl_17⟩ := hR.p17
      refine x_goR5 (x_runF (pc := 12) (As := []) (rest := [.int (nI i)]) E hml hl.1 hw.2 hw.1 hpl_17 (C := RJ2) (T := TJ2) (N := 3) rfl (xtJ2_size l D A V (g 0 17) (g 1 1) (cnt st 30) mc_17 hpl_17) E.2.2.2.2.1.2.1.2.2.2.2.2.1 q762 q194 q196 q51 q198 hdF_size ⟨Nat.le_of_ble_eq_true rfl, Nat.le_of_ble_eq_true rfl⟩ rfl rfl rfl (Nat.le_of_ble_eq_true rfl) dX7_total_12 ⟨Nat.le_of_ble_eq_true rfl, Nat.le_of_ble_eq_true rfl⟩) ?_
      refine li_icmp_geN (pc := 17) (a := i) (b := cnt st 30) (tgt := 34) hx hb (by omega) (by omega) dX7_total_17 (by decide) (fun c_2 => absurd c_2 (by omega)) (fun c_2 => ?_)
      refine lv_iload_n (pc := 20) hx hb dX7_total_20 rfl (lv_at hl 1 rfl) ?_
      refine lv_aload_n (pc := 21) hx hb dX7_total_21 rfl (lv_at hl 0 rfl) ?_
      refine lv_iload_n (pc := 22) hx hb dX7_total_22 rfl (lv_at hl 2 rfl) ?_
      refine x_goR (x_runV (pc := 23) (As := [.int (nI i)]) (rest := [.int y]) E hml hl.1 hw.2 hw.1 h1 (C := RX7) (T := TX7) (N := 7) rfl (xtX7_points_5 l D A V st g a i hI hR ha hk (by omega) hD) q821 q776 q777 q73 q781 hdX7_points ⟨Nat.le_of_ble_eq_true rfl, Nat.le_of_ble_eq_true rfl⟩ rfl rfl rfl (Nat.le_of_ble_eq_true rfl) dX7_total_23 ⟨Nat.le_of_ble_eq_true rfl, Nat.le_of_ble_eq_true rfl⟩) ?_
      refine lv_iadd (pc := 26) hx hb dX7_total_26 ?_
      refine lv_istore_n (pc := 27) (lv' := [(1, .int (y + (pts st a i))), (0, .ref (g 4 a)), (2, .int (nI i))]) hx hb dX7_total_27 rfl hl (by decide) rfl (fun ls hl => ?_)
      refine lv_iinc (pc := 28) (v := (nI (i + 1))) (lv' := [(2, .int (nI (i + 1))), (1, .int (y + (pts st a i))), (0, .ref (g 4 a))]) hx hb dX7_total_28 hl (k := 2) rfl (nI_1 _) (by decide) rfl (fun ls hl => ?_)
      refine lv_goto (pc := 31) (tgt := 4) hx hb dX7_total_31 (by decide) ?_
      exact x_toR (by simp only [tot]) (ih_loop (i + 1) (y + (pts st a i)) (by omega) _ (lv_sub hl [2, 1, 0] rfl))
  exact x_toR rfl (loop (cnt st 30) 0 0 (by omega) _ (lv_sub hl [2, 1, 0] rfl))
set_option maxHeartbeats 4000000 in
set_option maxRecDepth 100000 in
theorem xtX7_total_6 (l : Launch) (D : xD) (A : Nat → Prop) (V : xV) (st : mS) (g : xG) (a : Nat)  (hI : mI st) (hR : xR D st g V) (ha : a < cnt st 35) (hk : st 37 a = 1) (hD : hasD st) : Met l yX7_total (ws_ yX7_total cX7_total 3 (some .int)) (xRm 7 0 0) (xP D A V [.ref (g 4 a)]) (k2_QcV (.int (ttl st a))) 0 0 (fun _ => False) := by
  refine x_headR (own := RX7) (As := [.ref (g 4 a)]) (bytes := cX7_total) (maxL := 3) (ret := (some .int)) (by decide) rfl (Nat.le_of_ble_eq_true rfl) ?_
  intro p e s m below meth c E hml hr hlk hw0 ls hl
  have hw : xWd D A s V s.heap [] := ⟨hw0, va_S.rf⟩
  have hx := E.1
  have hb := E.2.1
  have hts := E.2.2.1
  have hown := E.2.2.2.1
  have hl : lv_has ls 3 [(0, .ref (g 4 a))] := hl
  have h16 := hI.r16
  have h10 := hI.l10
  have hv8 := hI.v8
  have hc8 := hI.c8
  have hk8 := hI.k8
  have hb8 := hI.b8
  have h1 := hR.car6 ha hk
  have h9 := hR.o9 hI ha
  refine lv_iconst (pc := 0) (v := 0) hx hb dX7_total_0 (by decide) ?_
  refine lv_istore_n (pc := 1) (lv' := [(1, .int 0), (0, .ref (g 4 a))]) hx hb dX7_total_1 rfl hl (by decide) rfl (fun ls hl => ?_)
  refine lv_iconst (pc := 2) (v := 0) hx hb dX7_total_2 (by decide) ?_
  refine lv_istore_n (pc := 3) (lv' := [(2, .int 0), (1, .int 0), (0, .ref (g 4 a))]) hx hb dX7_total_3 rfl hl (by decide) rfl (fun ls hl => ?_)
  have loop : ∀ (k : Nat) (i : Nat) (y : Int32), i + k = cnt st 30 → ∀ ls : Array Slot, lv_has ls 3 [(0, .ref (g 4 a)), (1, .int y), (2, .int (nI i))] → W p l e (xRm 7 0 0) s m ([.ref (g 4 a)] : List Value).toArray below meth c s.heap [] 0 0 (MQ below (k2_QcV (.int (tot st a k i y))) ([.ref (g 4 a)] : List Value).toArray s 0 0 (fun _ => False)) (F0 m 4 ls []) := by
    intro k
    induction k with
    | zero =>
      intro i y hi ls hl
      refine lv_iload_n (pc := 4) hx hb dX7_total_4 rfl (lv_at hl 2 rfl) ?_
      refine lv_aload_n (pc := 5) hx hb dX7_total_5 rfl (lv_at hl 0 rfl) ?_
      refine x_rd (pc := 6) (v := .ref (g 0 0)) E hw.1 6 h1 (C := RX8) (T := TX8) (N := 8) rfl in_X8 (Nat.le_of_ble_eq_true rfl) q664 (fun _ h => h) rfl dX7_total_6 ?_
      obtain ⟨b7, b8, b9, hpx⟩ := hR.px hI
      replace hpx : V (g 0 0) = some (.inr (0, [.int (st 0 0), .int (st 0 42), .ref (g 0 2), .ref (g 0 3), .int (nI (cnt st 12)), .ref (g 0 5), .ref (g 0 6), .int b7, .long b8, .int b9, .int (st 0 14), .ref (g 0 11), .int (nI (cnt st 24)), .int (st 0 25), .ref (g 0 14), .ref (g 0 15), .int (nI (cnt st 27)), .ref (g 0 17), .ref (g 0 18), .ref (g 0 19)])) := hpx
      refine x_rdN (pc := 9) (v := .ref (g 0 17)) E hw.1 17 hpx (C := RX0) (T := TX0) (N := 20) rfl in_X0 (Nat.le_of_ble_eq_true rfl) q131 (fun _ h => h) rfl dX7_total_9 ?_
      obtain ⟨mc_17, hpl_17⟩ := hR.p17
      refine x_goR5 (x_runF (pc := 12) (As := []) (rest := [.int (nI i)]) E hml hl.1 hw.2 hw.1 hpl_17 (C := RJ2) (T := TJ2) (N := 3) rfl (xtJ2_size l D A V (g 0 17) (g 1 1) (cnt st 30) mc_17 hpl_17) E.2.2.2.2.1.2.1.2.2.2.2.2.1 q762 q194 q196 q51 q198 hdF_size ⟨Nat.le_of_ble_eq_true rfl, Nat.le_of_ble_eq_true rfl⟩ rfl rfl rfl (Nat.le_of_ble_eq_true rfl) dX7_total_12 ⟨Nat.le_of_ble_eq_true rfl, Nat.le_of_ble_eq_true rfl⟩) ?_
      refine li_icmp_geN (pc := 17) (a := i) (b := cnt st 30) (tgt := 34) hx hb (by omega) (by omega) dX7_total_17 (by decide) (fun c_1 => ?_) (fun c_1 => absurd c_1 (by omega))
      refine lv_iload_n (pc := 34) hx hb dX7_total_34 rfl (lv_at hl 1 rfl) ?_
      exact m_iretS hx hb hr hlk dX7_total_35 rfl
    | succ k ih_loop =>
      intro i y hi ls hl
      refine lv_iload_n (pc := 4) hx hb dX7_total_4 rfl (lv_at hl 2 rfl) ?_
      refine lv_aload_n (pc := 5) hx hb dX7_total_5 rfl (lv_at hl 0 rfl) ?_
      refine x_rd (pc := 6) (v := .ref (g 0 0)) E hw.1 6 h1 (C := RX8) (T := TX8) (N := 8) rfl in_X8 (Nat.le_of_ble_eq_true rfl) q664 (fun _ h => h) rfl dX7_total_6 ?_
      obtain ⟨b7, b8, b9, hpx⟩ := hR.px hI
      replace hpx : V (g 0 0) = some (.inr (0, [.int (st 0 0), .int (st 0 42), .ref (g 0 2), .ref (g 0 3), .int (nI (cnt st 12)), .ref (g 0 5), .ref (g 0 6), .int b7, .long b8, .int b9, .int (st 0 14), .ref (g 0 11), .int (nI (cnt st 24)), .int (st 0 25), .ref (g 0 14), .ref (g 0 15), .int (nI (cnt st 27)), .ref (g 0 17), .ref (g 0 18), .ref (g 0 19)])) := hpx
      refine x_rdN (pc := 9) (v := .ref (g 0 17)) E hw.1 17 hpx (C := RX0) (T := TX0) (N := 20) rfl in_X0 (Nat.le_of_ble_eq_true rfl) q131 (fun _ h => h) rfl dX7_total_9 ?_
      obtain ⟨mc_17, hpl_17⟩ := hR.p17
      refine x_goR5 (x_runF (pc := 12) (As := []) (rest := [.int (nI i)]) E hml hl.1 hw.2 hw.1 hpl_17 (C := RJ2) (T := TJ2) (N := 3) rfl (xtJ2_size l D A V (g 0 17) (g 1 1) (cnt st 30) mc_17 hpl_17) E.2.2.2.2.1.2.1.2.2.2.2.2.1 q762 q194 q196 q51 q198 hdF_size ⟨Nat.le_of_ble_eq_true rfl, Nat.le_of_ble_eq_true rfl⟩ rfl rfl rfl (Nat.le_of_ble_eq_true rfl) dX7_total_12 ⟨Nat.le_of_ble_eq_true rfl, Nat.le_of_ble_eq_true rfl⟩) ?_
      refine li_icmp_geN (pc := 17) (a := i) (b := cnt st 30) (tgt := 34) hx hb (by omega) (by omega) dX7_total_17 (by decide) (fun c_2 => absurd c_2 (by omega)) (fun c_2 => ?_)
      refine lv_iload_n (pc := 20) hx hb dX7_total_20 rfl (lv_at hl 1 rfl) ?_
      refine lv_aload_n (pc := 21) hx hb dX7_total_21 rfl (lv_at hl 0 rfl) ?_
      refine lv_iload_n (pc := 22) hx hb dX7_total_22 rfl (lv_at hl 2 rfl) ?_
      refine x_goR (x_runU (pc := 23) (As := [.int (nI i)]) (rest := [.int y]) E hml hl.1 hw.2 hw.1 h1 (C := RX8) (T := TX8) (N := 8) rfl (xtX7_points_6 l D A V st g a i hI hR ha hk (by omega) hD) q821 q778 q780 q776 q73 q781 rfl hdX7_points.2 ⟨Nat.le_of_ble_eq_true rfl, Nat.le_of_ble_eq_true rfl⟩ rfl rfl rfl (Nat.le_of_ble_eq_true rfl) dX7_total_23 ⟨Nat.le_of_ble_eq_true rfl, Nat.le_of_ble_eq_true rfl⟩) ?_
      refine lv_iadd (pc := 26) hx hb dX7_total_26 ?_
      refine lv_istore_n (pc := 27) (lv' := [(1, .int (y + (pts st a i))), (0, .ref (g 4 a)), (2, .int (nI i))]) hx hb dX7_total_27 rfl hl (by decide) rfl (fun ls hl => ?_)
      refine lv_iinc (pc := 28) (v := (nI (i + 1))) (lv' := [(2, .int (nI (i + 1))), (1, .int (y + (pts st a i))), (0, .ref (g 4 a))]) hx hb dX7_total_28 hl (k := 2) rfl (nI_1 _) (by decide) rfl (fun ls hl => ?_)
      refine lv_goto (pc := 31) (tgt := 4) hx hb dX7_total_31 (by decide) ?_
      exact x_toR (by simp only [tot]) (ih_loop (i + 1) (y + (pts st a i)) (by omega) _ (lv_sub hl [2, 1, 0] rfl))
  exact x_toR rfl (loop (cnt st 30) 0 0 (by omega) _ (lv_sub hl [2, 1, 0] rfl))
set_option maxHeartbeats 4000000 in
set_option maxRecDepth 100000 in
theorem xtX7_total_7 (l : Launch) (D : xD) (A : Nat → Prop) (V : xV) (st : mS) (g : xG) (a : Nat)  (hI : mI st) (hR : xR D st g V) (ha : a < cnt st 35) (hk : st 37 a = 2) (hD : hasD st) : Met l yX7_total (ws_ yX7_total cX7_total 3 (some .int)) (xRm 7 0 0) (xP D A V [.ref (g 4 a)]) (k2_QcV (.int (ttl st a))) 0 0 (fun _ => False) := by
  refine x_headR (own := RX7) (As := [.ref (g 4 a)]) (bytes := cX7_total) (maxL := 3) (ret := (some .int)) (by decide) rfl (Nat.le_of_ble_eq_true rfl) ?_
  intro p e s m below meth c E hml hr hlk hw0 ls hl
  have hw : xWd D A s V s.heap [] := ⟨hw0, va_S.rf⟩
  have hx := E.1
  have hb := E.2.1
  have hts := E.2.2.1
  have hown := E.2.2.2.1
  have hl : lv_has ls 3 [(0, .ref (g 4 a))] := hl
  have h16 := hI.r16
  have h10 := hI.l10
  have hv8 := hI.v8
  have hc8 := hI.c8
  have hk8 := hI.k8
  have hb8 := hI.b8
  have h1 := hR.car7 ha hk
  have h9 := hR.o9 hI ha
  refine lv_iconst (pc := 0) (v := 0) hx hb dX7_total_0 (by decide) ?_
  refine lv_istore_n (pc := 1) (lv' := [(1, .int 0), (0, .ref (g 4 a))]) hx hb dX7_total_1 rfl hl (by decide) rfl (fun ls hl => ?_)
  refine lv_iconst (pc := 2) (v := 0) hx hb dX7_total_2 (by decide) ?_
  refine lv_istore_n (pc := 3) (lv' := [(2, .int 0), (1, .int 0), (0, .ref (g 4 a))]) hx hb dX7_total_3 rfl hl (by decide) rfl (fun ls hl => ?_)
  have loop : ∀ (k : Nat) (i : Nat) (y : Int32), i + k = cnt st 30 → ∀ ls : Array Slot, lv_has ls 3 [(0, .ref (g 4 a)), (1, .int y), (2, .int (nI i))] → W p l e (xRm 7 0 0) s m ([.ref (g 4 a)] : List Value).toArray below meth c s.heap [] 0 0 (MQ below (k2_QcV (.int (tot st a k i y))) ([.ref (g 4 a)] : List Value).toArray s 0 0 (fun _ => False)) (F0 m 4 ls []) := by
    intro k
    induction k with
    | zero =>
      intro i y hi ls hl
      refine lv_iload_n (pc := 4) hx hb dX7_total_4 rfl (lv_at hl 2 rfl) ?_
      refine lv_aload_n (pc := 5) hx hb dX7_total_5 rfl (lv_at hl 0 rfl) ?_
      refine x_rd (pc := 6) (v := .ref (g 0 0)) E hw.1 6 h1 (C := RX9) (T := TX9) (N := 9) rfl in_X9 (Nat.le_of_ble_eq_true rfl) q664 (fun _ h => h) rfl dX7_total_6 ?_
      obtain ⟨b7, b8, b9, hpx⟩ := hR.px hI
      replace hpx : V (g 0 0) = some (.inr (0, [.int (st 0 0), .int (st 0 42), .ref (g 0 2), .ref (g 0 3), .int (nI (cnt st 12)), .ref (g 0 5), .ref (g 0 6), .int b7, .long b8, .int b9, .int (st 0 14), .ref (g 0 11), .int (nI (cnt st 24)), .int (st 0 25), .ref (g 0 14), .ref (g 0 15), .int (nI (cnt st 27)), .ref (g 0 17), .ref (g 0 18), .ref (g 0 19)])) := hpx
      refine x_rdN (pc := 9) (v := .ref (g 0 17)) E hw.1 17 hpx (C := RX0) (T := TX0) (N := 20) rfl in_X0 (Nat.le_of_ble_eq_true rfl) q131 (fun _ h => h) rfl dX7_total_9 ?_
      obtain ⟨mc_17, hpl_17⟩ := hR.p17
      refine x_goR5 (x_runF (pc := 12) (As := []) (rest := [.int (nI i)]) E hml hl.1 hw.2 hw.1 hpl_17 (C := RJ2) (T := TJ2) (N := 3) rfl (xtJ2_size l D A V (g 0 17) (g 1 1) (cnt st 30) mc_17 hpl_17) E.2.2.2.2.1.2.1.2.2.2.2.2.1 q762 q194 q196 q51 q198 hdF_size ⟨Nat.le_of_ble_eq_true rfl, Nat.le_of_ble_eq_true rfl⟩ rfl rfl rfl (Nat.le_of_ble_eq_true rfl) dX7_total_12 ⟨Nat.le_of_ble_eq_true rfl, Nat.le_of_ble_eq_true rfl⟩) ?_
      refine li_icmp_geN (pc := 17) (a := i) (b := cnt st 30) (tgt := 34) hx hb (by omega) (by omega) dX7_total_17 (by decide) (fun c_1 => ?_) (fun c_1 => absurd c_1 (by omega))
      refine lv_iload_n (pc := 34) hx hb dX7_total_34 rfl (lv_at hl 1 rfl) ?_
      exact m_iretS hx hb hr hlk dX7_total_35 rfl
    | succ k ih_loop =>
      intro i y hi ls hl
      refine lv_iload_n (pc := 4) hx hb dX7_total_4 rfl (lv_at hl 2 rfl) ?_
      refine lv_aload_n (pc := 5) hx hb dX7_total_5 rfl (lv_at hl 0 rfl) ?_
      refine x_rd (pc := 6) (v := .ref (g 0 0)) E hw.1 6 h1 (C := RX9) (T := TX9) (N := 9) rfl in_X9 (Nat.le_of_ble_eq_true rfl) q664 (fun _ h => h) rfl dX7_total_6 ?_
      obtain ⟨b7, b8, b9, hpx⟩ := hR.px hI
      replace hpx : V (g 0 0) = some (.inr (0, [.int (st 0 0), .int (st 0 42), .ref (g 0 2), .ref (g 0 3), .int (nI (cnt st 12)), .ref (g 0 5), .ref (g 0 6), .int b7, .long b8, .int b9, .int (st 0 14), .ref (g 0 11), .int (nI (cnt st 24)), .int (st 0 25), .ref (g 0 14), .ref (g 0 15), .int (nI (cnt st 27)), .ref (g 0 17), .ref (g 0 18), .ref (g 0 19)])) := hpx
      refine x_rdN (pc := 9) (v := .ref (g 0 17)) E hw.1 17 hpx (C := RX0) (T := TX0) (N := 20) rfl in_X0 (Nat.le_of_ble_eq_true rfl) q131 (fun _ h => h) rfl dX7_total_9 ?_
      obtain ⟨mc_17, hpl_17⟩ := hR.p17
      refine x_goR5 (x_runF (pc := 12) (As := []) (rest := [.int (nI i)]) E hml hl.1 hw.2 hw.1 hpl_17 (C := RJ2) (T := TJ2) (N := 3) rfl (xtJ2_size l D A V (g 0 17) (g 1 1) (cnt st 30) mc_17 hpl_17) E.2.2.2.2.1.2.1.2.2.2.2.2.1 q762 q194 q196 q51 q198 hdF_size ⟨Nat.le_of_ble_eq_true rfl, Nat.le_of_ble_eq_true rfl⟩ rfl rfl rfl (Nat.le_of_ble_eq_true rfl) dX7_total_12 ⟨Nat.le_of_ble_eq_true rfl, Nat.le_of_ble_eq_true rfl⟩) ?_
      refine li_icmp_geN (pc := 17) (a := i) (b := cnt st 30) (tgt := 34) hx hb (by omega) (by omega) dX7_total_17 (by decide) (fun c_2 => absurd c_2 (by omega)) (fun c_2 => ?_)
      refine lv_iload_n (pc := 20) hx hb dX7_total_20 rfl (lv_at hl 1 rfl) ?_
      refine lv_aload_n (pc := 21) hx hb dX7_total_21 rfl (lv_at hl 0 rfl) ?_
      refine lv_iload_n (pc := 22) hx hb dX7_total_22 rfl (lv_at hl 2 rfl) ?_
      refine x_goR (x_runU (pc := 23) (As := [.int (nI i)]) (rest := [.int y]) E hml hl.1 hw.2 hw.1 h1 (C := RX9) (T := TX9) (N := 9) rfl (xtX7_points_7 l D A V st g a i hI hR ha hk (by omega) hD) q821 q778 q779 q776 q73 q781 rfl hdX7_points.2 ⟨Nat.le_of_ble_eq_true rfl, Nat.le_of_ble_eq_true rfl⟩ rfl rfl rfl (Nat.le_of_ble_eq_true rfl) dX7_total_23 ⟨Nat.le_of_ble_eq_true rfl, Nat.le_of_ble_eq_true rfl⟩) ?_
      refine lv_iadd (pc := 26) hx hb dX7_total_26 ?_
      refine lv_istore_n (pc := 27) (lv' := [(1, .int (y + (pts st a i))), (0, .ref (g 4 a)), (2, .int (nI i))]) hx hb dX7_total_27 rfl hl (by decide) rfl (fun ls hl => ?_)
      refine lv_iinc (pc := 28) (v := (nI (i + 1))) (lv' := [(2, .int (nI (i + 1))), (1, .int (y + (pts st a i))), (0, .ref (g 4 a))]) hx hb dX7_total_28 hl (k := 2) rfl (nI_1 _) (by decide) rfl (fun ls hl => ?_)
      refine lv_goto (pc := 31) (tgt := 4) hx hb dX7_total_31 (by decide) ?_
      exact x_toR (by simp only [tot]) (ih_loop (i + 1) (y + (pts st a i)) (by omega) _ (lv_sub hl [2, 1, 0] rfl))
  exact x_toR rfl (loop (cnt st 30) 0 0 (by omega) _ (lv_sub hl [2, 1, 0] rfl))
set_option maxHeartbeats 4000000 in
set_option maxRecDepth 100000 in
theorem xtX7_kind_5 (l : Launch) (D : xD) (A : Nat → Prop) (V : xV) (st : mS) (g : xG) (a : Nat)  (hI : mI st) (hR : xR D st g V) (ha : a < cnt st 35) (hk : st 37 a = 0)  : Met l yX7_kind (ws_ yX7_kind cX7_kind 1 (some .int)) (xRm 1 0 0) (xP D A V [.ref (g 4 a)]) (k2_QcV (.int 0)) 0 0 (fun _ => False) := by
  refine x_headR (own := RX7) (As := [.ref (g 4 a)]) (bytes := cX7_kind) (maxL := 1) (ret := (some .int)) (by decide) rfl (Nat.le_of_ble_eq_true rfl) ?_
  intro p e s m below meth c E hml hr hlk hw0 ls hl
  have hw : xWd D A s V s.heap [] := ⟨hw0, va_S.rf⟩
  have hx := E.1
  have hb := E.2.1
  have hts := E.2.2.1
  have hown := E.2.2.2.1
  have hl : lv_has ls 1 [(0, .ref (g 4 a))] := hl
  have h16 := hI.r16
  have h10 := hI.l10
  have hv8 := hI.v8
  have hc8 := hI.c8
  have hk8 := hI.k8
  have hb8 := hI.b8
  have h1 := hR.car5 ha hk
  have h9 := hR.o9 hI ha
  refine lv_iconst (pc := 0) (v := 0) hx hb dX7_kind_0 (by decide) ?_
  exact m_iretS hx hb hr hlk dX7_kind_1 rfl
set_option maxHeartbeats 4000000 in
set_option maxRecDepth 100000 in
theorem xtX8_kind_6 (l : Launch) (D : xD) (A : Nat → Prop) (V : xV) (st : mS) (g : xG) (a : Nat)  (hI : mI st) (hR : xR D st g V) (ha : a < cnt st 35) (hk : st 37 a = 1)  : Met l yX8_kind (ws_ yX8_kind cX8_kind 1 (some .int)) (xRm 1 0 0) (xP D A V [.ref (g 4 a)]) (k2_QcV (.int 1)) 0 0 (fun _ => False) := by
  refine x_headR (own := RX8) (As := [.ref (g 4 a)]) (bytes := cX8_kind) (maxL := 1) (ret := (some .int)) (by decide) rfl (Nat.le_of_ble_eq_true rfl) ?_
  intro p e s m below meth c E hml hr hlk hw0 ls hl
  have hw : xWd D A s V s.heap [] := ⟨hw0, va_S.rf⟩
  have hx := E.1
  have hb := E.2.1
  have hts := E.2.2.1
  have hown := E.2.2.2.1
  have hl : lv_has ls 1 [(0, .ref (g 4 a))] := hl
  have h16 := hI.r16
  have h10 := hI.l10
  have hv8 := hI.v8
  have hc8 := hI.c8
  have hk8 := hI.k8
  have hb8 := hI.b8
  have h1 := hR.car6 ha hk
  have h9 := hR.o9 hI ha
  refine lv_iconst (pc := 0) (v := 1) hx hb dX8_kind_0 (by decide) ?_
  exact m_iretS hx hb hr hlk dX8_kind_1 rfl
set_option maxHeartbeats 4000000 in
set_option maxRecDepth 100000 in
theorem xtX9_kind_7 (l : Launch) (D : xD) (A : Nat → Prop) (V : xV) (st : mS) (g : xG) (a : Nat)  (hI : mI st) (hR : xR D st g V) (ha : a < cnt st 35) (hk : st 37 a = 2)  : Met l yX9_kind (ws_ yX9_kind cX9_kind 1 (some .int)) (xRm 1 0 0) (xP D A V [.ref (g 4 a)]) (k2_QcV (.int 2)) 0 0 (fun _ => False) := by
  refine x_headR (own := RX9) (As := [.ref (g 4 a)]) (bytes := cX9_kind) (maxL := 1) (ret := (some .int)) (by decide) rfl (Nat.le_of_ble_eq_true rfl) ?_
  intro p e s m below meth c E hml hr hlk hw0 ls hl
  have hw : xWd D A s V s.heap [] := ⟨hw0, va_S.rf⟩
  have hx := E.1
  have hb := E.2.1
  have hts := E.2.2.1
  have hown := E.2.2.2.1
  have hl : lv_has ls 1 [(0, .ref (g 4 a))] := hl
  have h16 := hI.r16
  have h10 := hI.l10
  have hv8 := hI.v8
  have hc8 := hI.c8
  have hk8 := hI.k8
  have hb8 := hI.b8
  have h1 := hR.car7 ha hk
  have h9 := hR.o9 hI ha
  refine lv_iconst (pc := 0) (v := 2) hx hb dX9_kind_0 (by decide) ?_
  exact m_iretS hx hb hr hlk dX9_kind_1 rfl
set_option maxHeartbeats 4000000 in
set_option maxRecDepth 100000 in
theorem xtX7_number_5 (l : Launch) (D : xD) (A : Nat → Prop) (V : xV) (st : mS) (g : xG) (a : Nat)  (hI : mI st) (hR : xR D st g V) (ha : a < cnt st 35) (hk : st 37 a = 0)  : Met l yX7_number (ws_ yX7_number cX7_number 1 (some .int)) (xRm 1 0 0) (xP D A V [.ref (g 4 a)]) (k2_QcV (.int (nI a))) 0 0 (fun _ => False) := by
  refine x_headR (own := RX7) (As := [.ref (g 4 a)]) (bytes := cX7_number) (maxL := 1) (ret := (some .int)) (by decide) rfl (Nat.le_of_ble_eq_true rfl) ?_
  intro p e s m below meth c E hml hr hlk hw0 ls hl
  have hw : xWd D A s V s.heap [] := ⟨hw0, va_S.rf⟩
  have hx := E.1
  have hb := E.2.1
  have hts := E.2.2.1
  have hown := E.2.2.2.1
  have hl : lv_has ls 1 [(0, .ref (g 4 a))] := hl
  have h16 := hI.r16
  have h10 := hI.l10
  have hv8 := hI.v8
  have hc8 := hI.c8
  have hk8 := hI.k8
  have hb8 := hI.b8
  have h1 := hR.car5 ha hk
  have h9 := hR.o9 hI ha
  refine lv_aload_n (pc := 0) hx hb dX7_number_0 rfl (lv_at hl 0 rfl) ?_
  refine x_rd (pc := 1) (v := .int (nI a)) E hw.1 0 h1 (C := RX7) (T := TX7) (N := 7) rfl in_X7 (Nat.le_of_ble_eq_true rfl) q656 (fun _ h => h) rfl dX7_number_1 ?_
  exact m_iretS hx hb hr hlk dX7_number_4 rfl
set_option maxHeartbeats 4000000 in
set_option maxRecDepth 100000 in
theorem xtX7_rally_5 (l : Launch) (D : xD) (A : Nat → Prop) (V : xV) (st : mS) (g : xG) (a : Nat)  (hI : mI st) (hR : xR D st g V) (ha : a < cnt st 35) (hk : st 37 a = 0)  : Met l yX7_rally (ws_ yX7_rally cX7_rally 1 (some (.object "RegularRally"))) (xRm 1 0 0) (xP D A V [.ref (g 4 a)]) (k2_QcV (.ref (g 0 0))) 0 0 (fun _ => False) := by
  refine x_headR (own := RX7) (As := [.ref (g 4 a)]) (bytes := cX7_rally) (maxL := 1) (ret := (some (.object "RegularRally"))) (by decide) rfl (Nat.le_of_ble_eq_true rfl) ?_
  intro p e s m below meth c E hml hr hlk hw0 ls hl
  have hw : xWd D A s V s.heap [] := ⟨hw0, va_S.rf⟩
  have hx := E.1
  have hb := E.2.1
  have hts := E.2.2.1
  have hown := E.2.2.2.1
  have hl : lv_has ls 1 [(0, .ref (g 4 a))] := hl
  have h16 := hI.r16
  have h10 := hI.l10
  have hv8 := hI.v8
  have hc8 := hI.c8
  have hk8 := hI.k8
  have hb8 := hI.b8
  have h1 := hR.car5 ha hk
  have h9 := hR.o9 hI ha
  refine lv_aload_n (pc := 0) hx hb dX7_rally_0 rfl (lv_at hl 0 rfl) ?_
  refine x_rd (pc := 1) (v := .ref (g 0 0)) E hw.1 6 h1 (C := RX7) (T := TX7) (N := 7) rfl in_X7 (Nat.le_of_ble_eq_true rfl) q664 (fun _ h => h) rfl dX7_rally_1 ?_
  exact x_aretS hx hb hr (Or.inl ⟨_, rfl⟩) (Or.inr ⟨_, rfl⟩) hlk dX7_rally_4
theorem x_cCa_isClocked {p : Program} {l : Launch} {e : Env} {R : Room} {s : State} {m : MethodId} {args : Array Value} {below : List Frame} {meth : Method} {c : Code} {H : Heap} {locs : List Loc} {cells slots : Nat} {Q : State → Prop} {cc : ByteArray} {pc nL : Nat} {ls : Array Slot} {rest : List Value} {D : xD} {A : Nat → Prop} {V : xV} {lv : List (Nat × Value)} (st : mS) (g : xG) (a : Nat) (E : xE "RegularRally" p c cc s m args D A) (hw : xWd D A s V H locs) (hI : mI st) (hR : xR D st g V) (ha : a < cnt st 35) {c_ : Nat} (hc : c_ < 8) (hd : decode cc pc = .ok (.invokevirtual 259, 3)) (hRf : 2 ≤ R.frames ∧ 120 ≤ R.locals)
    (hf : cells ≤ R.cells ∧ slots ≤ R.slots) (hW : (rest.map fun v => v.category).sum ≤ 8) (hml : c.maxLocals = nL) (hl : lv_has ls nL lv)
    (kk : W p l e R s m args below meth c H locs cells slots Q (F0 m (pc + 3) ls (.int (bI (¬ st 39 (8 * a + c_) = 0)) :: rest))) : W p l e R s m args below meth c H locs cells slots Q (F0 m pc ls (.int (nI c_) :: .ref (g 4 a) :: rest)) := by
  rcases (hI.2.2.2.1.1 a ha).2 with hk | hk | hk
  · have h1 := hR.car5 ha hk
    exact x_goR (x_runV (As := [.int (nI c_)]) (rest := rest) E hml hl.1 hw.2 hw.1 h1 (C := RX7) (T := TX7) (N := 7) rfl (xtX7_isClocked_5 l D A V st g a c_ hI hR ha hk hc) q723 q724 q725 q73 q729 hdX7_isClocked ⟨Nat.le_trans (Nat.le_of_ble_eq_true rfl) hRf.1, Nat.le_trans (Nat.le_of_ble_eq_true rfl) hRf.2⟩ rfl rfl rfl hW hd ⟨hf.1, hf.2⟩) kk
  · have h1 := hR.car6 ha hk
    exact x_goR (x_runU (As := [.int (nI c_)]) (rest := rest) E hml hl.1 hw.2 hw.1 h1 (C := RX8) (T := TX8) (N := 8) rfl (xtX7_isClocked_6 l D A V st g a c_ hI hR ha hk hc) q723 q726 q728 q724 q73 q729 rfl hdX7_isClocked.2 ⟨Nat.le_trans (Nat.le_of_ble_eq_true rfl) hRf.1, Nat.le_trans (Nat.le_of_ble_eq_true rfl) hRf.2⟩ rfl rfl rfl hW hd ⟨hf.1, hf.2⟩) kk
  · have h1 := hR.car7 ha hk
    exact x_goR (x_runU (As := [.int (nI c_)]) (rest := rest) E hml hl.1 hw.2 hw.1 h1 (C := RX9) (T := TX9) (N := 9) rfl (xtX7_isClocked_7 l D A V st g a c_ hI hR ha hk hc) q723 q726 q727 q724 q73 q729 rfl hdX7_isClocked.2 ⟨Nat.le_trans (Nat.le_of_ble_eq_true rfl) hRf.1, Nat.le_trans (Nat.le_of_ble_eq_true rfl) hRf.2⟩ rfl rfl rfl hW hd ⟨hf.1, hf.2⟩) kk
theorem x_cCa_error {p : Program} {l : Launch} {e : Env} {R : Room} {s : State} {m : MethodId} {args : Array Value} {below : List Frame} {meth : Method} {c : Code} {H : Heap} {locs : List Loc} {cells slots : Nat} {Q : State → Prop} {cc : ByteArray} {pc nL : Nat} {ls : Array Slot} {rest : List Value} {D : xD} {A : Nat → Prop} {V : xV} {lv : List (Nat × Value)} (st : mS) (g : xG) (a : Nat) (E : xE "RegularRally" p c cc s m args D A) (hw : xWd D A s V H locs) (hI : mI st) (hR : xR D st g V) (ha : a < cnt st 35) {c_ : Nat} (hc : c_ < cnt st 30) (hD : hasD st) (hd : decode cc pc = .ok (.invokevirtual 269, 3)) (hRf : 6 ≤ R.frames ∧ 360 ≤ R.locals)
    (hf : cells ≤ R.cells ∧ slots ≤ R.slots) (hW : (rest.map fun v => v.category).sum ≤ 8) (hml : c.maxLocals = nL) (hl : lv_has ls nL lv)
    (kk : W p l e R s m args below meth c H locs cells slots Q (F0 m (pc + 3) ls (.long (err st a c_) :: rest))) : W p l e R s m args below meth c H locs cells slots Q (F0 m pc ls (.int (nI c_) :: .ref (g 4 a) :: rest)) := by
  rcases (hI.2.2.2.1.1 a ha).2 with hk | hk | hk
  · have h1 := hR.car5 ha hk
    exact x_goR (x_runV (As := [.int (nI c_)]) (rest := rest) E hml hl.1 hw.2 hw.1 h1 (C := RX7) (T := TX7) (N := 7) rfl (xtX7_error_5 l D A V st g a c_ hI hR ha hk hc hD) q745 q746 q747 q73 q751 hdX7_error ⟨Nat.le_trans (Nat.le_of_ble_eq_true rfl) hRf.1, Nat.le_trans (Nat.le_of_ble_eq_true rfl) hRf.2⟩ rfl rfl rfl hW hd ⟨hf.1, hf.2⟩) kk
  · have h1 := hR.car6 ha hk
    exact x_goR (x_runU (As := [.int (nI c_)]) (rest := rest) E hml hl.1 hw.2 hw.1 h1 (C := RX8) (T := TX8) (N := 8) rfl (xtX7_error_6 l D A V st g a c_ hI hR ha hk hc hD) q745 q748 q750 q746 q73 q751 rfl hdX7_error.2 ⟨Nat.le_trans (Nat.le_of_ble_eq_true rfl) hRf.1, Nat.le_trans (Nat.le_of_ble_eq_true rfl) hRf.2⟩ rfl rfl rfl hW hd ⟨hf.1, hf.2⟩) kk
  · have h1 := hR.car7 ha hk
    exact x_goR (x_runU (As := [.int (nI c_)]) (rest := rest) E hml hl.1 hw.2 hw.1 h1 (C := RX9) (T := TX9) (N := 9) rfl (xtX7_error_7 l D A V st g a c_ hI hR ha hk hc hD) q745 q748 q749 q746 q73 q751 rfl hdX7_error.2 ⟨Nat.le_trans (Nat.le_of_ble_eq_true rfl) hRf.1, Nat.le_trans (Nat.le_of_ble_eq_true rfl) hRf.2⟩ rfl rfl rfl hW hd ⟨hf.1, hf.2⟩) kk
theorem x_cCa_points {p : Program} {l : Launch} {e : Env} {R : Room} {s : State} {m : MethodId} {args : Array Value} {below : List Frame} {meth : Method} {c : Code} {H : Heap} {locs : List Loc} {cells slots : Nat} {Q : State → Prop} {cc : ByteArray} {pc nL : Nat} {ls : Array Slot} {rest : List Value} {D : xD} {A : Nat → Prop} {V : xV} {lv : List (Nat × Value)} (st : mS) (g : xG) (a : Nat) (E : xE "RegularRally" p c cc s m args D A) (hw : xWd D A s V H locs) (hI : mI st) (hR : xR D st g V) (ha : a < cnt st 35) {c_ : Nat} (hc : c_ < cnt st 30) (hD : hasD st) (hd : decode cc pc = .ok (.invokevirtual 272, 3)) (hRf : 7 ≤ R.frames ∧ 420 ≤ R.locals)
    (hf : cells ≤ R.cells ∧ slots ≤ R.slots) (hW : (rest.map fun v => v.category).sum ≤ 8) (hml : c.maxLocals = nL) (hl : lv_has ls nL lv)
    (kk : W p l e R s m args below meth c H locs cells slots Q (F0 m (pc + 3) ls (.int (pts st a c_) :: rest))) : W p l e R s m args below meth c H locs cells slots Q (F0 m pc ls (.int (nI c_) :: .ref (g 4 a) :: rest)) := by
  rcases (hI.2.2.2.1.1 a ha).2 with hk | hk | hk
  · have h1 := hR.car5 ha hk
    exact x_goR (x_runV (As := [.int (nI c_)]) (rest := rest) E hml hl.1 hw.2 hw.1 h1 (C := RX7) (T := TX7) (N := 7) rfl (xtX7_points_5 l D A V st g a c_ hI hR ha hk hc hD) q775 q776 q777 q73 q781 hdX7_points ⟨Nat.le_trans (Nat.le_of_ble_eq_true rfl) hRf.1, Nat.le_trans (Nat.le_of_ble_eq_true rfl) hRf.2⟩ rfl rfl rfl hW hd ⟨hf.1, hf.2⟩) kk
  · have h1 := hR.car6 ha hk
    exact x_goR (x_runU (As := [.int (nI c_)]) (rest := rest) E hml hl.1 hw.2 hw.1 h1 (C := RX8) (T := TX8) (N := 8) rfl (xtX7_points_6 l D A V st g a c_ hI hR ha hk hc hD) q775 q778 q780 q776 q73 q781 rfl hdX7_points.2 ⟨Nat.le_trans (Nat.le_of_ble_eq_true rfl) hRf.1, Nat.le_trans (Nat.le_of_ble_eq_true rfl) hRf.2⟩ rfl rfl rfl hW hd ⟨hf.1, hf.2⟩) kk
  · have h1 := hR.car7 ha hk
    exact x_goR (x_runU (As := [.int (nI c_)]) (rest := rest) E hml hl.1 hw.2 hw.1 h1 (C := RX9) (T := TX9) (N := 9) rfl (xtX7_points_7 l D A V st g a c_ hI hR ha hk hc hD) q775 q778 q779 q776 q73 q781 rfl hdX7_points.2 ⟨Nat.le_trans (Nat.le_of_ble_eq_true rfl) hRf.1, Nat.le_trans (Nat.le_of_ble_eq_true rfl) hRf.2⟩ rfl rfl rfl hW hd ⟨hf.1, hf.2⟩) kk
theorem x_cCa_isOutOfOrder {p : Program} {l : Launch} {e : Env} {R : Room} {s : State} {m : MethodId} {args : Array Value} {below : List Frame} {meth : Method} {c : Code} {H : Heap} {locs : List Loc} {cells slots : Nat} {Q : State → Prop} {cc : ByteArray} {pc nL : Nat} {ls : Array Slot} {rest : List Value} {D : xD} {A : Nat → Prop} {V : xV} {lv : List (Nat × Value)} (st : mS) (g : xG) (a : Nat) (E : xE "RegularRally" p c cc s m args D A) (hw : xWd D A s V H locs) (hI : mI st) (hR : xR D st g V) (ha : a < cnt st 35) {c_ : Nat} (hc : c_ < cnt st 30) (hd : decode cc pc = .ok (.invokevirtual 290, 3)) (hRf : 5 ≤ R.frames ∧ 300 ≤ R.locals)
    (hf : cells ≤ R.cells ∧ slots ≤ R.slots) (hW : (rest.map fun v => v.category).sum ≤ 8) (hml : c.maxLocals = nL) (hl : lv_has ls nL lv)
    (kk : W p l e R s m args below meth c H locs cells slots Q (F0 m (pc + 3) ls (.int (oor st a c_) :: rest))) : W p l e R s m args below meth c H locs cells slots Q (F0 m pc ls (.int (nI c_) :: .ref (g 4 a) :: rest)) := by
  rcases (hI.2.2.2.1.1 a ha).2 with hk | hk | hk
  · have h1 := hR.car5 ha hk
    exact x_goR (x_runV (As := [.int (nI c_)]) (rest := rest) E hml hl.1 hw.2 hw.1 h1 (C := RX7) (T := TX7) (N := 7) rfl (xtX7_isOutOfOrder_5 l D A V st g a c_ hI hR ha hk hc) q830 q784 q785 q73 q789 hdX7_isOutOfOrder ⟨Nat.le_trans (Nat.le_of_ble_eq_true rfl) hRf.1, Nat.le_trans (Nat.le_of_ble_eq_true rfl) hRf.2⟩ rfl rfl rfl hW hd ⟨hf.1, hf.2⟩) kk
  · have h1 := hR.car6 ha hk
    exact x_goR (x_runU (As := [.int (nI c_)]) (rest := rest) E hml hl.1 hw.2 hw.1 h1 (C := RX8) (T := TX8) (N := 8) rfl (xtX7_isOutOfOrder_6 l D A V st g a c_ hI hR ha hk hc) q830 q786 q788 q784 q73 q789 rfl hdX7_isOutOfOrder.2 ⟨Nat.le_trans (Nat.le_of_ble_eq_true rfl) hRf.1, Nat.le_trans (Nat.le_of_ble_eq_true rfl) hRf.2⟩ rfl rfl rfl hW hd ⟨hf.1, hf.2⟩) kk
  · have h1 := hR.car7 ha hk
    exact x_goR (x_runU (As := [.int (nI c_)]) (rest := rest) E hml hl.1 hw.2 hw.1 h1 (C := RX9) (T := TX9) (N := 9) rfl (xtX7_isOutOfOrder_7 l D A V st g a c_ hI hR ha hk hc) q830 q786 q787 q784 q73 q789 rfl hdX7_isOutOfOrder.2 ⟨Nat.le_trans (Nat.le_of_ble_eq_true rfl) hRf.1, Nat.le_trans (Nat.le_of_ble_eq_true rfl) hRf.2⟩ rfl rfl rfl hW hd ⟨hf.1, hf.2⟩) kk
theorem x_cCa_total {p : Program} {l : Launch} {e : Env} {R : Room} {s : State} {m : MethodId} {args : Array Value} {below : List Frame} {meth : Method} {c : Code} {H : Heap} {locs : List Loc} {cells slots : Nat} {Q : State → Prop} {cc : ByteArray} {pc nL : Nat} {ls : Array Slot} {rest : List Value} {D : xD} {A : Nat → Prop} {V : xV} {lv : List (Nat × Value)} (st : mS) (g : xG) (a : Nat) (E : xE "RegularRally" p c cc s m args D A) (hw : xWd D A s V H locs) (hI : mI st) (hR : xR D st g V) (ha : a < cnt st 35) (hD : hasD st) (hd : decode cc pc = .ok (.invokevirtual 275, 3)) (hRf : 8 ≤ R.frames ∧ 480 ≤ R.locals)
    (hf : cells ≤ R.cells ∧ slots ≤ R.slots) (hW : (rest.map fun v => v.category).sum ≤ 8) (hml : c.maxLocals = nL) (hl : lv_has ls nL lv)
    (kk : W p l e R s m args below meth c H locs cells slots Q (F0 m (pc + 3) ls (.int (ttl st a) :: rest))) : W p l e R s m args below meth c H locs cells slots Q (F0 m pc ls (.ref (g 4 a) :: rest)) := by
  rcases (hI.2.2.2.1.1 a ha).2 with hk | hk | hk
  · have h1 := hR.car5 ha hk
    exact x_goR (x_runV (As := []) (rest := rest) E hml hl.1 hw.2 hw.1 h1 (C := RX7) (T := TX7) (N := 7) rfl (xtX7_total_5 l D A V st g a hI hR ha hk hD) q814 q815 q816 q73 q820 hdX7_total ⟨Nat.le_trans (Nat.le_of_ble_eq_true rfl) hRf.1, Nat.le_trans (Nat.le_of_ble_eq_true rfl) hRf.2⟩ rfl rfl rfl hW hd ⟨hf.1, hf.2⟩) kk
  · have h1 := hR.car6 ha hk
    exact x_goR (x_runU (As := []) (rest := rest) E hml hl.1 hw.2 hw.1 h1 (C := RX8) (T := TX8) (N := 8) rfl (xtX7_total_6 l D A V st g a hI hR ha hk hD) q814 q817 q819 q815 q73 q820 rfl hdX7_total.2 ⟨Nat.le_trans (Nat.le_of_ble_eq_true rfl) hRf.1, Nat.le_trans (Nat.le_of_ble_eq_true rfl) hRf.2⟩ rfl rfl rfl hW hd ⟨hf.1, hf.2⟩) kk
  · have h1 := hR.car7 ha hk
    exact x_goR (x_runU (As := []) (rest := rest) E hml hl.1 hw.2 hw.1 h1 (C := RX9) (T := TX9) (N := 9) rfl (xtX7_total_7 l D A V st g a hI hR ha hk hD) q814 q817 q818 q815 q73 q820 rfl hdX7_total.2 ⟨Nat.le_trans (Nat.le_of_ble_eq_true rfl) hRf.1, Nat.le_trans (Nat.le_of_ble_eq_true rfl) hRf.2⟩ rfl rfl rfl hW hd ⟨hf.1, hf.2⟩) kk
theorem x_cCa_kind {p : Program} {l : Launch} {e : Env} {R : Room} {s : State} {m : MethodId} {args : Array Value} {below : List Frame} {meth : Method} {c : Code} {H : Heap} {locs : List Loc} {cells slots : Nat} {Q : State → Prop} {cc : ByteArray} {pc nL : Nat} {ls : Array Slot} {rest : List Value} {D : xD} {A : Nat → Prop} {V : xV} {lv : List (Nat × Value)} (st : mS) (g : xG) (a : Nat) (E : xE "RegularRally" p c cc s m args D A) (hw : xWd D A s V H locs) (hI : mI st) (hR : xR D st g V) (ha : a < cnt st 35)  (hd : decode cc pc = .ok (.invokevirtual 354, 3)) (hRf : 2 ≤ R.frames ∧ 120 ≤ R.locals)
    (hf : cells ≤ R.cells ∧ slots ≤ R.slots) (hW : (rest.map fun v => v.category).sum ≤ 8) (hml : c.maxLocals = nL) (hl : lv_has ls nL lv)
    (kk : W p l e R s m args below meth c H locs cells slots Q (F0 m (pc + 3) ls (.int (st 37 a) :: rest))) : W p l e R s m args below meth c H locs cells slots Q (F0 m pc ls (.ref (g 4 a) :: rest)) := by
  rcases (hI.2.2.2.1.1 a ha).2 with hk | hk | hk
  · have h1 := hR.car5 ha hk
    exact x_goR (x_runV (As := []) (rest := rest) E hml hl.1 hw.2 hw.1 h1 (C := RX7) (T := TX7) (N := 7) rfl (xtX7_kind_5 l D A V st g a hI hR ha hk) q1073 q1053 q1495 q73 q1055 hdX7_kind ⟨Nat.le_trans (Nat.le_of_ble_eq_true rfl) hRf.1, Nat.le_trans (Nat.le_of_ble_eq_true rfl) hRf.2⟩ rfl rfl rfl hW hd ⟨hf.1, hf.2⟩) (by rw [hk] at kk; exact kk)
  · have h1 := hR.car6 ha hk
    exact x_goR (x_runO (As := []) (rest := rest) (x := yX7_kind) E hml hl.1 hw.2 hw.1 h1 (C := RX8) (T := TX8) (N := 8) rfl (xtX8_kind_6 l D A V st g a hI hR ha hk) q1073 q1494 q1497 q1063 q74 q1065 q1053 q1055 hdX7_kind.2 ⟨Nat.le_trans (Nat.le_of_ble_eq_true rfl) hRf.1, Nat.le_trans (Nat.le_of_ble_eq_true rfl) hRf.2⟩ rfl rfl rfl hW hd ⟨hf.1, hf.2⟩) (by rw [hk] at kk; exact kk)
  · have h1 := hR.car7 ha hk
    exact x_goR (x_runO (As := []) (rest := rest) (x := yX7_kind) E hml hl.1 hw.2 hw.1 h1 (C := RX9) (T := TX9) (N := 9) rfl (xtX9_kind_7 l D A V st g a hI hR ha hk) q1073 q1494 q1496 q1058 q75 q1060 q1053 q1055 hdX7_kind.2 ⟨Nat.le_trans (Nat.le_of_ble_eq_true rfl) hRf.1, Nat.le_trans (Nat.le_of_ble_eq_true rfl) hRf.2⟩ rfl rfl rfl hW hd ⟨hf.1, hf.2⟩) (by rw [hk] at kk; exact kk)
