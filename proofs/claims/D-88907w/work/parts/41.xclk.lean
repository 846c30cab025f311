/-! a car is clocked -/
set_option maxHeartbeats 4000000 in
set_option maxRecDepth 100000 in
theorem xtX7_clock_5 (l : Launch) (D : xD) (A : Nat → Prop) (V : xV) (st : mS) (g : xG) (a : Nat) (tf of : Nat → Int32) (c_ : Nat) (t : Int32) (hI : mI st) (hR : xR D st g V) (ha : a < cnt st 35) (hk : st 37 a = 0) (hc : c_ < 8) (h5 : V (g 5 a) = some (.inl (D.2.1, 8, .inl tf))) (h6 : V (g 6 a) = some (.inl (D.2.1, 8, .inl of))) : Met l yX7_clock (ws_ yX7_clock cX7_clock 3 none) (xRm 1 0 0) (xP D A V [.ref (g 4 a), .int (nI c_), .int t]) (xQ D A (fun ρ V' => ρ = none ∧ V' = xu (xu (xu V (g 5 a) (.inl (D.2.1, 8, .inl (upd tf c_ t)))) (g 4 a) (xCaE (st 37 a) (nI a) (st 36 a) (g 5 a) (g 6 a) (g 7 a) (g 9 a + 1) (g 0 0))) (g 6 a) (.inl (D.2.1, 8, .inl (upd of c_ (nI (g 9 a + 1))))))) 0 0 A := by
  refine x_headW (own := RX7) (As := [.ref (g 4 a), .int (nI c_), .int t]) (bytes := cX7_clock) (maxL := 3) (ret := none) (by decide) rfl (Nat.le_of_ble_eq_true rfl) ?_
  intro p e s m below meth c E hml hr hlk hin2 hw ls hl
  have hx := E.1
  have hb := E.2.1
  have hts := E.2.2.1
  have hown := E.2.2.2.1
  have hl : lv_has ls 3 [(0, .ref (g 4 a)), (1, .int (nI c_)), (2, .int t)] := hl
  have h16 := hI.r16
  have h10 := hI.l10
  have hv8 := hI.v8
  have hc8 := hI.c8
  have hk8 := hI.k8
  have hb8 := hI.b8
  have h1 := hR.car5 ha hk
  have h9 := hR.o9 hI ha
  refine lv_aload_n (pc := 0) hx hb dX7_clock_0 rfl (lv_at hl 0 rfl) ?_
  refine x_rd (pc := 1) (v := .ref (g 5 a)) E hw.1 2 h1 (C := RX7) (T := TX7) (N := 7) rfl in_X7 (Nat.le_of_ble_eq_true rfl) q659 (fun _ h => h) rfl dX7_clock_1 ?_
  refine lv_iload_n (pc := 4) hx hb dX7_clock_4 rfl (lv_at hl 1 rfl) ?_
  refine lv_iload_n (pc := 5) hx hb dX7_clock_5 rfl (lv_at hl 2 rfl) ?_
  refine x_istN (pc := 6) (x := t) E hw (c_) h5 (show c_ < 8 from (by omega)) (Nat.le_of_ble_eq_true rfl) dX7_clock_6 (fun V_1 H locs hV_2 hw => ?_)
  have hp_3 : V_1 (g 5 a) = some (.inl (D.2.1, 8, .inl (upd tf c_ t))) := by rw [hV_2]; exact xu_s _ _ _
  refine lv_aload_n (pc := 7) hx hb dX7_clock_7 rfl (lv_at hl 0 rfl) ?_
  refine lv_dup (pc := 8) hx hb dX7_clock_8 rfl ?_
  have hp_4 : V_1 (g 4 a) = some (.inr (5, [.int (nI a), .int (st 36 a), .ref (g 5 a), .ref (g 6 a), .ref (g 7 a), .int (nI (g 9 a)), .ref (g 0 0)])) := by rw [hV_2, xu_n (hR.ne (i := 4) (j := a) (i' := 5) (j' := a) (by unfold xVal; omega) (by unfold xVal; omega) (by omega) (by omega))]; exact h1
  refine x_rd (pc := 9) (v := .int (nI (g 9 a))) E hw.1 5 hp_4 (C := RX7) (T := TX7) (N := 7) rfl in_X7 (Nat.le_of_ble_eq_true rfl) q663 (fun _ h => h) rfl dX7_clock_9 ?_
  refine lv_iconst (pc := 12) (v := 1) hx hb dX7_clock_12 (by decide) ?_
  refine li_addN (pc := 13) (a := g 9 a) (b := 1) hx hb dX7_clock_13 ?_
  refine x_put1 (pc := 14) (v := .int (nI ((g 9 a) + 1))) E hw 5 hp_4 (C := RX7) (T := TX7) (N := 7) rfl in_X7 tyX7 tyX7_ok (Nat.le_of_ble_eq_true rfl) q663 (fun _ h => h) rfl (tyX7_ok 5 (Nat.le_of_ble_eq_true rfl)) rfl rfl (Nat.le_of_ble_eq_true rfl) (fun j hj hne => Or.inl (nmX7 j hj 5 (Nat.le_of_ble_eq_true rfl) hne)) dX7_clock_14 (fun V_5 H locs hV_6 hw => ?_)
  replace hV_6 : V_5 = xu V_1 (g 4 a) (.inr (5, [.int (nI a), .int (st 36 a), .ref (g 5 a), .ref (g 6 a), .ref (g 7 a), .int (nI ((g 9 a) + 1)), .ref (g 0 0)])) := hV_6
  have hp_7 : V_5 (g 4 a) = some (.inr (5, [.int (nI a), .int (st 36 a), .ref (g 5 a), .ref (g 6 a), .ref (g 7 a), .int (nI ((g 9 a) + 1)), .ref (g 0 0)])) := by rw [hV_6]; exact xu_s _ _ _
  refine lv_aload_n (pc := 17) hx hb dX7_clock_17 rfl (lv_at hl 0 rfl) ?_
  refine x_rd (pc := 18) (v := .ref (g 6 a)) E hw.1 3 hp_7 (C := RX7) (T := TX7) (N := 7) rfl in_X7 (Nat.le_of_ble_eq_true rfl) q660 (fun _ h => h) rfl dX7_clock_18 ?_
  refine lv_iload_n (pc := 21) hx hb dX7_clock_21 rfl (lv_at hl 1 rfl) ?_
  refine lv_aload_n (pc := 22) hx hb dX7_clock_22 rfl (lv_at hl 0 rfl) ?_
  refine x_rd (pc := 23) (v := .int (nI ((g 9 a) + 1))) E hw.1 5 hp_7 (C := RX7) (T := TX7) (N := 7) rfl in_X7 (Nat.le_of_ble_eq_true rfl) q663 (fun _ h => h) rfl dX7_clock_23 ?_
  have hp_8 : V_1 (g 6 a) = some (.inl (D.2.1, 8, .inl of)) := by rw [hV_2, xu_n (hR.ne (i := 6) (j := a) (i' := 5) (j' := a) (by unfold xVal; omega) (by unfold xVal; omega) (by omega) (by omega))]; exact h6
  have hp_9 : V_5 (g 6 a) = some (.inl (D.2.1, 8, .inl of)) := by rw [hV_6, xu_n (hR.ne (i := 6) (j := a) (i' := 4) (j' := a) (by unfold xVal; omega) (by unfold xVal; omega) (by omega) (by omega))]; exact hp_8
  refine x_istN (pc := 26) (x := (nI ((g 9 a) + 1))) E hw (c_) hp_9 (show c_ < 8 from (by omega)) (Nat.le_of_ble_eq_true rfl) dX7_clock_26 (fun V_10 H locs hV_11 hw => ?_)
  have hp_12 : V_10 (g 6 a) = some (.inl (D.2.1, 8, .inl (upd of c_ (nI ((g 9 a) + 1))))) := by rw [hV_11]; exact xu_s _ _ _
  exact x_vret E hr hlk hw dX7_clock_27 ⟨rfl, by rw [hV_11, hV_6, hV_2, show xCaE (st 37 a) (nI a) (st 36 a) (g 5 a) (g 6 a) (g 7 a) (g 9 a + 1) (g 0 0) = .inr (5, [.int (nI a), .int (st 36 a), .ref (g 5 a), .ref (g 6 a), .ref (g 7 a), .int (nI (g 9 a + 1)), .ref (g 0 0)]) by rw [hk]; rfl]⟩
set_option maxHeartbeats 4000000 in
set_option maxRecDepth 100000 in
theorem xtX7_clock_6 (l : Launch) (D : xD) (A : Nat → Prop) (V : xV) (st : mS) (g : xG) (a : Nat) (tf of : Nat → Int32) (c_ : Nat) (t : Int32) (hI : mI st) (hR : xR D st g V) (ha : a < cnt st 35) (hk : st 37 a = 1) (hc : c_ < 8) (h5 : V (g 5 a) = some (.inl (D.2.1, 8, .inl tf))) (h6 : V (g 6 a) = some (.inl (D.2.1, 8, .inl of))) : Met l yX7_clock (ws_ yX7_clock cX7_clock 3 none) (xRm 1 0 0) (xP D A V [.ref (g 4 a), .int (nI c_), .int t]) (xQ D A (fun ρ V' => ρ = none ∧ V' = xu (xu (xu V (g 5 a) (.inl (D.2.1, 8, .inl (upd tf c_ t)))) (g 4 a) (xCaE (st 37 a) (nI a) (st 36 a) (g 5 a) (g 6 a) (g 7 a) (g 9 a + 1) (g 0 0))) (g 6 a) (.inl (D.2.1, 8, .inl (upd of c_ (nI (g 9 a + 1))))))) 0 0 A := by
  refine x_headW (own := RX7) (As := [.ref (g 4 a), .int (nI c_), .int t]) (bytes := cX7_clock) (maxL := 3) (ret := none) (by decide) rfl (Nat.le_of_ble_eq_true rfl) ?_
  intro p e s m below meth c E hml hr hlk hin2 hw ls hl
  have hx := E.1
  have hb := E.2.1
  have hts := E.2.2.1
  have hown := E.2.2.2.1
  have hl : lv_has ls 3 [(0, .ref (g 4 a)), (1, .int (nI c_)), (2, .int t)] := hl
  have h16 := hI.r16
  have h10 := hI.l10
  have hv8 := hI.v8
  have hc8 := hI.c8
  have hk8 := hI.k8
  have hb8 := hI.b8
  have h1 := hR.car6 ha hk
  have h9 := hR.o9 hI ha
  refine lv_aload_n (pc := 0) hx hb dX7_clock_0 rfl (lv_at hl 0 rfl) ?_
  refine x_rd (pc := 1) (v := .ref (g 5 a)) E hw.1 2 h1 (C := RX8) (T := TX8) (N := 8) rfl in_X8 (Nat.le_of_ble_eq_true rfl) q659 (fun _ h => h) rfl dX7_clock_1 ?_
  refine lv_iload_n (pc := 4) hx hb dX7_clock_4 rfl (lv_at hl 1 rfl) ?_
  refine lv_iload_n (pc := 5) hx hb dX7_clock_5 rfl (lv_at hl 2 rfl) ?_
  refine x_istN (pc := 6) (x := t) E hw (c_) h5 (show c_ < 8 from (by omega)) (Nat.le_of_ble_eq_true rfl) dX7_clock_6 (fun V_1 H locs hV_2 hw => ?_)
  have hp_3 : V_1 (g 5 a) = some (.inl (D.2.1, 8, .inl (upd tf c_ t))) := by rw [hV_2]; exact xu_s _ _ _
  refine lv_aload_n (pc := 7) hx hb dX7_clock_7 rfl (lv_at hl 0 rfl) ?_
  refine lv_dup (pc := 8) hx hb dX7_clock_8 rfl ?_
  have hp_4 : V_1 (g 4 a) = some (.inr (6, [.int (nI a), .int (st 36 a), .ref (g 5 a), .ref (g 6 a), .ref (g 7 a), .int (nI (g 9 a)), .ref (g 0 0), .ref (g 0 0)])) := by rw [hV_2, xu_n (hR.ne (i := 4) (j := a) (i' := 5) (j' := a) (by unfold xVal; omega) (by unfold xVal; omega) (by omega) (by omega))]; exact h1
  refine x_rd (pc := 9) (v := .int (nI (g 9 a))) E hw.1 5 hp_4 (C := RX8) (T := TX8) (N := 8) rfl in_X8 (Nat.le_of_ble_eq_true rfl) q663 (fun _ h => h) rfl dX7_clock_9 ?_
  refine lv_iconst (pc := 12) (v := 1) hx hb dX7_clock_12 (by decide) ?_
  refine li_addN (pc := 13) (a := g 9 a) (b := 1) hx hb dX7_clock_13 ?_
  refine x_put1 (pc := 14) (v := .int (nI ((g 9 a) + 1))) E hw 5 hp_4 (C := RX8) (T := TX8) (N := 8) rfl in_X8 tyX8 tyX8_ok (Nat.le_of_ble_eq_true rfl) q663 (fun _ h => h) rfl (tyX8_ok 5 (Nat.le_of_ble_eq_true rfl)) rfl rfl (Nat.le_of_ble_eq_true rfl) (fun j hj hne => Or.inl ((by decide : ∀ j, j < 8 → j ≠ 5 → (TX8 j).2.1 ≠ (TX8 5).2.1) j hj hne)) dX7_clock_14 (fun V_5 H locs hV_6 hw => ?_)
  replace hV_6 : V_5 = xu V_1 (g 4 a) (.inr (6, [.int (nI a), .int (st 36 a), .ref (g 5 a), .ref (g 6 a), .ref (g 7 a), .int (nI ((g 9 a) + 1)), .ref (g 0 0), .ref (g 0 0)])) := hV_6
  have hp_7 : V_5 (g 4 a) = some (.inr (6, [.int (nI a), .int (st 36 a), .ref (g 5 a), .ref (g 6 a), .ref (g 7 a), .int (nI ((g 9 a) + 1)), .ref (g 0 0), .ref (g 0 0)])) := by rw [hV_6]; exact xu_s _ _ _
  refine lv_aload_n (pc := 17) hx hb dX7_clock_17 rfl (lv_at hl 0 rfl) ?_
  refine x_rd (pc := 18) (v := .ref (g 6 a)) E hw.1 3 hp_7 (C := RX8) (T := TX8) (N := 8) rfl in_X8 (Nat.le_of_ble_eq_true rfl) q660 (fun _ h => h) rfl dX7_clock_18 ?_
  refine lv_iload_n (pc := 21) hx hb dX7_clock_21 rfl (lv_at hl 1 rfl) ?_
  refine lv_aload_n (pc := 22) hx hb dX7_clock_22 rfl (lv_at hl 0 rfl) ?_
  refine x_rd (pc := 23) (v := .int (nI ((g 9 a) + 1))) E hw.1 5 hp_7 (C := RX8) (T := TX8) (N := 8) rfl in_X8 (Nat.le_of_ble_eq_true rfl) q663 (fun _ h => h) rfl dX7_clock_23 ?_
  have hp_8 : V_1 (g 6 a) = some (.inl (D.2.1, 8, .inl of)) := by rw [hV_2, xu_n (hR.ne (i := 6) (j := a) (i' := 5) (j' := a) (by unfold xVal; omega) (by unfold xVal; omega) (by omega) (by omega))]; exact h6
  have hp_9 : V_5 (g 6 a) = some (.inl (D.2.1, 8, .inl of)) := by rw [hV_6, xu_n (hR.ne (i := 6) (j := a) (i' := 4) (j' := a) (by unfold xVal; omega) (by unfold xVal; omega) (by omega) (by omega))]; exact hp_8
  refine x_istN (pc := 26) (x := (nI ((g 9 a) + 1))) E hw (c_) hp_9 (show c_ < 8 from (by omega)) (Nat.le_of_ble_eq_true rfl) dX7_clock_26 (fun V_10 H locs hV_11 hw => ?_)
  have hp_12 : V_10 (g 6 a) = some (.inl (D.2.1, 8, .inl (upd of c_ (nI ((g 9 a) + 1))))) := by rw [hV_11]; exact xu_s _ _ _
  exact x_vret E hr hlk hw dX7_clock_27 ⟨rfl, by rw [hV_11, hV_6, hV_2, show xCaE (st 37 a) (nI a) (st 36 a) (g 5 a) (g 6 a) (g 7 a) (g 9 a + 1) (g 0 0) = .inr (6, [.int (nI a), .int (st 36 a), .ref (g 5 a), .ref (g 6 a), .ref (g 7 a), .int (nI (g 9 a + 1)), .ref (g 0 0), .ref (g 0 0)]) by rw [hk]; rfl]⟩
set_option maxHeartbeats 4000000 in
set_option maxRecDepth 100000 in
theorem xtX7_clock_7 (l : Launch) (D : xD) (A : Nat → Prop) (V : xV) (st : mS) (g : xG) (a : Nat) (tf of : Nat → Int32) (c_ : Nat) (t : Int32) (hI : mI st) (hR : xR D st g V) (ha : a < cnt st 35) (hk : st 37 a = 2) (hc : c_ < 8) (h5 : V (g 5 a) = some (.inl (D.2.1, 8, .inl tf))) (h6 : V (g 6 a) = some (.inl (D.2.1, 8, .inl of))) : Met l yX7_clock (ws_ yX7_clock cX7_clock 3 none) (xRm 1 0 0) (xP D A V [.ref (g 4 a), .int (nI c_), .int t]) (xQ D A (fun ρ V' => ρ = none ∧ V' = xu (xu (xu V (g 5 a) (.inl (D.2.1, 8, .inl (upd tf c_ t)))) (g 4 a) (xCaE (st 37 a) (nI a) (st 36 a) (g 5 a) (g 6 a) (g 7 a) (g 9 a + 1) (g 0 0))) (g 6 a) (.inl (D.2.1, 8, .inl (upd of c_ (nI (g 9 a + 1))))))) 0 0 A := by
  refine x_headW (own := RX7) (As := [.ref (g 4 a), .int (nI c_), .int t]) (bytes := cX7_clock) (maxL := 3) (ret := none) (by decide) rfl (Nat.le_of_ble_eq_true rfl) ?_
  intro p e s m below meth c E hml hr hlk hin2 hw ls hl
  have hx := E.1
  have hb := E.2.1
  have hts := E.2.2.1
  have hown := E.2.2.2.1
  have hl : lv_has ls 3 [(0, .ref (g 4 a)), (1, .int (nI c_)), (2, .int t)] := hl
  have h16 := hI.r16
  have h10 := hI.l10
  have hv8 := hI.v8
  have hc8 := hI.c8
  have hk8 := hI.k8
  have hb8 := hI.b8
  have h1 := hR.car7 ha hk
  have h9 := hR.o9 hI ha
  refine lv_aload_n (pc := 0) hx hb dX7_clock_0 rfl (lv_at hl 0 rfl) ?_
  refine x_rd (pc := 1) (v := .ref (g 5 a)) E hw.1 2 h1 (C := RX9) (T := TX9) (N := 9) rfl in_X9 (Nat.le_of_ble_eq_true rfl) q659 (fun _ h => h) rfl dX7_clock_1 ?_
  refine lv_iload_n (pc := 4) hx hb dX7_clock_4 rfl (lv_at hl 1 rfl) ?_
  refine lv_iload_n (pc := 5) hx hb dX7_clock_5 rfl (lv_at hl 2 rfl) ?_
  refine x_istN (pc := 6) (x := t) E hw (c_) h5 (show c_ < 8 from (by omega)) (Nat.le_of_ble_eq_true rfl) dX7_clock_6 (fun V_1 H locs hV_2 hw => ?_)
  have hp_3 : V_1 (g 5 a) = some (.inl (D.2.1, 8, .inl (upd tf c_ t))) := by rw [hV_2]; exact xu_s _ _ _
  refine lv_aload_n (pc := 7) hx hb dX7_clock_7 rfl (lv_at hl 0 rfl) ?_
  refine lv_dup (pc := 8) hx hb dX7_clock_8 rfl ?_
  have hp_4 : V_1 (g 4 a) = some (.inr (7, [.int (nI a), .int (st 36 a), .ref (g 5 a), .ref (g 6 a), .ref (g 7 a), .int (nI (g 9 a)), .ref (g 0 0), .ref (g 0 0), .ref (g 0 0)])) := by rw [hV_2, xu_n (hR.ne (i := 4) (j := a) (i' := 5) (j' := a) (by unfold xVal; omega) (by unfold xVal; omega) (by omega) (by omega))]; exact h1
  refine x_rd (pc := 9) (v := .int (nI (g 9 a))) E hw.1 5 hp_4 (C := RX9) (T := TX9) (N := 9) rfl in_X9 (Nat.le_of_ble_eq_true rfl) q663 (fun _ h => h) rfl dX7_clock_9 ?_
  refine lv_iconst (pc := 12) (v := 1) hx hb dX7_clock_12 (by decide) ?_
  refine li_addN (pc := 13) (a := g 9 a) (b := 1) hx hb dX7_clock_13 ?_
  refine x_put1 (pc := 14) (v := .int (nI ((g 9 a) + 1))) E hw 5 hp_4 (C := RX9) (T := TX9) (N := 9) rfl in_X9 tyX9 tyX9_ok (Nat.le_of_ble_eq_true rfl) q663 (fun _ h => h) rfl (tyX9_ok 5 (Nat.le_of_ble_eq_true rfl)) rfl rfl (Nat.le_of_ble_eq_true rfl) (fun j hj hne => Or.inl ((by decide : ∀ j, j < 9 → j ≠ 5 → (TX9 j).2.1 ≠ (TX9 5).2.1) j hj hne)) dX7_clock_14 (fun V_5 H locs hV_6 hw => ?_)
  replace hV_6 : V_5 = xu V_1 (g 4 a) (.inr (7, [.int (nI a), .int (st 36 a), .ref (g 5 a), .ref (g 6 a), .ref (g 7 a), .int (nI ((g 9 a) + 1)), .ref (g 0 0), .ref (g 0 0), .ref (g 0 0)])) := hV_6
  have hp_7 : V_5 (g 4 a) = some (.inr (7, [.int (nI a), .int (st 36 a), .ref (g 5 a), .ref (g 6 a), .ref (g 7 a), .int (nI ((g 9 a) + 1)), .ref (g 0 0), .ref (g 0 0), .ref (g 0 0)])) := by rw [hV_6]; exact xu_s _ _ _
  refine lv_aload_n (pc := 17) hx hb dX7_clock_17 rfl (lv_at hl 0 rfl) ?_
  refine x_rd (pc := 18) (v := .ref (g 6 a)) E hw.1 3 hp_7 (C := RX9) (T := TX9) (N := 9) rfl in_X9 (Nat.le_of_ble_eq_true rfl) q660 (fun _ h => h) rfl dX7_clock_18 ?_
  refine lv_iload_n (pc := 21) hx hb dX7_clock_21 rfl (lv_at hl 1 rfl) ?_
  refine lv_aload_n (pc := 22) hx hb dX7_clock_22 rfl (lv_at hl 0 rfl) ?_
  refine x_rd (pc := 23) (v := .int (nI ((g 9 a) + 1))) E hw.1 5 hp_7 (C := RX9) (T := TX9) (N := 9) rfl in_X9 (Nat.le_of_ble_eq_true rfl) q663 (fun _ h => h) rfl dX7_clock_23 ?_
  have hp_8 : V_1 (g 6 a) = some (.inl (D.2.1, 8, .inl of)) := by rw [hV_2, xu_n (hR.ne (i := 6) (j := a) (i' := 5) (j' := a) (by unfold xVal; omega) (by unfold xVal; omega) (by omega) (by omega))]; exact h6
  have hp_9 : V_5 (g 6 a) = some (.inl (D.2.1, 8, .inl of)) := by rw [hV_6, xu_n (hR.ne (i := 6) (j := a) (i' := 4) (j' := a) (by unfold xVal; omega) (by unfold xVal; omega) (by omega) (by omega))]; exact hp_8
  refine x_istN (pc := 26) (x := (nI ((g 9 a) + 1))) E hw (c_) hp_9 (show c_ < 8 from (by omega)) (Nat.le_of_ble_eq_true rfl) dX7_clock_26 (fun V_10 H locs hV_11 hw => ?_)
  have hp_12 : V_10 (g 6 a) = some (.inl (D.2.1, 8, .inl (upd of c_ (nI ((g 9 a) + 1))))) := by rw [hV_11]; exact xu_s _ _ _
  exact x_vret E hr hlk hw dX7_clock_27 ⟨rfl, by rw [hV_11, hV_6, hV_2, show xCaE (st 37 a) (nI a) (st 36 a) (g 5 a) (g 6 a) (g 7 a) (g 9 a + 1) (g 0 0) = .inr (7, [.int (nI a), .int (st 36 a), .ref (g 5 a), .ref (g 6 a), .ref (g 7 a), .int (nI (g 9 a + 1)), .ref (g 0 0), .ref (g 0 0), .ref (g 0 0)]) by rw [hk]; rfl]⟩
theorem x_cCa_clock {p : Program} {l : Launch} {e : Env} {R : Room} {s : State} {m : MethodId} {args : Array Value} {below : List Frame} {meth : Method} {c : Code} {H : Heap} {locs : List Loc} {cells slots : Nat} {Q : State → Prop} {cc : ByteArray} {pc nL : Nat} {ls : Array Slot} {rest : List Value} {D : xD} {A : Nat → Prop} {V : xV} {lv : List (Nat × Value)} (st : mS) (g : xG) (a : Nat) (E : xE "RegularRally" p c cc s m args D A) (hw : xWd D A s V H locs) (hI : mI st) (hR : xR D st g V) (ha : a < cnt st 35) {c_ : Nat} {t : Int32} (hc : c_ < 8) {tf of : Nat → Int32} (h5 : V (g 5 a) = some (.inl (D.2.1, 8, .inl tf))) (h6 : V (g 6 a) = some (.inl (D.2.1, 8, .inl of))) (hd : decode cc pc = .ok (.invokevirtual 262, 3)) (hRf : 2 ≤ R.frames ∧ 120 ≤ R.locals)
    (hf : cells ≤ R.cells ∧ slots ≤ R.slots) (hW : (rest.map fun v => v.category).sum ≤ 8) (hml : c.maxLocals = nL) (hl : lv_has ls nL lv)
    (kk : ∀ (V1 : xV) (H : Heap) (locs : List Loc), V1 = xu (xu (xu V (g 5 a) (.inl (D.2.1, 8, .inl (upd tf c_ t)))) (g 4 a) (xCaE (st 37 a) (nI a) (st 36 a) (g 5 a) (g 6 a) (g 7 a) (g 9 a + 1) (g 0 0))) (g 6 a) (.inl (D.2.1, 8, .inl (upd of c_ (nI (g 9 a + 1))))) → xWd D A s V1 H locs → W p l e R s m args below meth c H locs cells slots Q (F0 m (pc + 3) ls rest)) : W p l e R s m args below meth c H locs cells slots Q (F0 m pc ls (.int t :: .int (nI c_) :: .ref (g 4 a) :: rest)) := by
  rcases (hI.2.2.2.1.1 a ha).2 with hk | hk | hk
  · have h1 := hR.car5 ha hk
    exact x_goWn hw (x_runV (As := [.int (nI c_), .int t]) (rest := rest) E hml hl.1 hw.2 hw.1 h1 (C := RX7) (T := TX7) (N := 7) rfl (xtX7_clock_5 l D A V st g a tf of c_ t hI hR ha hk hc h5 h6) q730 q731 q732 q73 q736 hdX7_clock ⟨Nat.le_trans (Nat.le_of_ble_eq_true rfl) hRf.1, Nat.le_trans (Nat.le_of_ble_eq_true rfl) hRf.2⟩ rfl rfl rfl hW hd ⟨hf.1, hf.2⟩) (fun V1 H locs h hw => kk V1 H locs h hw)
  · have h1 := hR.car6 ha hk
    exact x_goWn hw (x_runU (As := [.int (nI c_), .int t]) (rest := rest) E hml hl.1 hw.2 hw.1 h1 (C := RX8) (T := TX8) (N := 8) rfl (xtX7_clock_6 l D A V st g a tf of c_ t hI hR ha hk hc h5 h6) q730 q733 q735 q731 q73 q736 rfl hdX7_clock.2 ⟨Nat.le_trans (Nat.le_of_ble_eq_true rfl) hRf.1, Nat.le_trans (Nat.le_of_ble_eq_true rfl) hRf.2⟩ rfl rfl rfl hW hd ⟨hf.1, hf.2⟩) (fun V1 H locs h hw => kk V1 H locs h hw)
  · have h1 := hR.car7 ha hk
    exact x_goWn hw (x_runU (As := [.int (nI c_), .int t]) (rest := rest) E hml hl.1 hw.2 hw.1 h1 (C := RX9) (T := TX9) (N := 9) rfl (xtX7_clock_7 l D A V st g a tf of c_ t hI hR ha hk hc h5 h6) q730 q733 q734 q731 q73 q736 rfl hdX7_clock.2 ⟨Nat.le_trans (Nat.le_of_ble_eq_true rfl) hRf.1, Nat.le_trans (Nat.le_of_ble_eq_true rfl) hRf.2⟩ rfl rfl rfl hW hd ⟨hf.1, hf.2⟩) (fun V1 H locs h hw => kk V1 H locs h hw)
/-- addresses and numbers behind a clocking -/
def ckg (g : xG) (a c : Nat) : xG := fun i j => if i = 9 ∧ j = a then g 9 a + 1 else if i = 10 + a ∧ j = c then g 9 a + 1 else g i j
theorem clock_R {D : xD} {st : mS} {g : xG} {V V' : xV} (h : xR D st g V) (hI : mI st) {a c : Nat} (ha : a < cnt st 35) (hc : c < 8) {t : Int32} {tf of : Nat → Int32} (h5 : V (g 5 a) = some (.inl (D.2.1, 8, .inl tf))) (h6 : V (g 6 a) = some (.inl (D.2.1, 8, .inl of)))
    (f5 : ∀ c, c < 8 → tf c = st 40 (8 * a + c)) (f6 : ∀ c, c < 8 → of c = nI (g (10 + a) c)) (hz : st 39 (8 * a + c) = 0)
    (hV : V' = xu (xu (xu V (g 5 a) (.inl (D.2.1, 8, .inl (upd tf c t)))) (g 4 a) (xCaE (st 37 a) (nI a) (st 36 a) (g 5 a) (g 6 a) (g 7 a) (g 9 a + 1) (g 0 0))) (g 6 a) (.inl (D.2.1, 8, .inl (upd of c (nI (g 9 a + 1)))))) :
    xR D (mu (mu (mu st 0 38 (nI (cnt st 38 + 1))) 39 (8 * a + c) (nI (cnt st 38 + 1))) 40 (8 * a + c) t) (ckg g a c) V' := by
  have k8 := hI.k8
  have hT := cnt_le hI.T
  have v5 : xVal st 5 a := by unfold xVal; omega
  have v4 : xVal st 4 a := by unfold xVal; omega
  have v6 : xVal st 6 a := by unfold xVal; omega
  have hg : ∀ i j, i < 9 → ckg g a c i j = g i j := fun i j hi => by
    unfold ckg
    rw [if_neg (by omega), if_neg (by omega)]
  have h10 : ∀ q, ckg g a c (10 + a) q = if q = c then g 9 a + 1 else g (10 + a) q := fun q => by
    unfold ckg
    rw [if_neg (by omega)]
    by_cases hq : q = c
    · rw [if_pos ⟨rfl, hq⟩, if_pos hq]
    · rw [if_neg (fun e => hq e.2), if_neg hq]
  have h10n : ∀ j q, j ≠ a → ckg g a c (10 + j) q = g (10 + j) q := fun j q hj => by
    unfold ckg
    rw [if_neg (by omega), if_neg (by omega)]
  have h9 : ckg g a c 9 a = g 9 a + 1 := if_pos ⟨rfl, rfl⟩
  have h9n : ∀ j, j ≠ a → ckg g a c 9 j = g 9 j := fun j hj => by
    unfold ckg
    rw [if_neg (fun e => hj e.2), if_neg (by omega)]
  have n45 : g 4 a ≠ g 5 a := h.ne v4 v5 (by omega) (by omega)
  have n65 : g 6 a ≠ g 5 a := h.ne v6 v5 (by omega) (by omega)
  have n64 : g 6 a ≠ g 4 a := h.ne v6 v4 (by omega) (by omega)
  refine h.keep [(5, a), (4, a), (6, a)] hg (fun i j hv => hv) ?_ ?_ ?_ ?_ ?_
  · intro r hr
    simp only [List.mem_cons, List.not_mem_nil, or_false] at hr
    rcases hr with rfl | rfl | rfl
    · exact ⟨v5, fun h => absurd (show (5 : Nat) = 1 from h) (by decide)⟩
    · exact ⟨v4, fun h => absurd (show (4 : Nat) = 1 from h) (by decide)⟩
    · exact ⟨v6, fun h => absurd (show (6 : Nat) = 1 from h) (by decide)⟩
  · intro b hb
    rw [hV, xu_n (hb (6, a) (by simp)), xu_n (hb (4, a) (by simp)), xu_n (hb (5, a) (by simp))]
  · intro i j e hv hn hs
    simp only [List.mem_cons, List.not_mem_nil, or_false, Prod.mk.injEq, not_or] at hn
    refine xSh.same hv hI.2.2.2.2.1 (fun k q hq => ?_) hg (fun e4 => h9n j (fun q => hn.2.1 ⟨e4, q⟩)) (fun e6 q _ => h10n j q (fun q => hn.2.2 ⟨e6, q⟩)) hs
    rw [mu_k (fun e => by obtain ⟨e1, e2⟩ := e; subst e1; exact absurd (xd_40 hq) (by omega)), mu_k (fun e => by obtain ⟨e1, e2⟩ := e; subst e1; exact xd_39 hq), mu_k (fun e => by obtain ⟨e1, e2⟩ := e; subst e1; subst e2; exact xd0_38 hq)]
  · intro r hr hv
    simp only [List.mem_cons, List.not_mem_nil, or_false] at hr
    rcases hr with rfl | rfl | rfl
    · refine ⟨_, by rw [hV, xu_n (Ne.symm n65), xu_n (Ne.symm n45)]; exact xu_s _ _ _, _, rfl, fun i hi => ?_⟩
      show upd tf c t i = mu _ 40 (8 * a + c) t 40 (8 * a + i)
      by_cases hq : i = c
      · rw [hq, mu_s]; simp [upd]
      · rw [mu_k (by omega), mu_r (by decide), mu_r (by decide)]
        simp only [upd, hq, if_false]
        exact f5 i hi
    · refine ⟨_, by rw [hV, xu_n (Ne.symm n64)]; exact xu_s _ _ _, ?_⟩
      show _ = xCaE _ _ _ _ _ _ _ _
      rw [mu_r (by decide), mu_r (by decide), mu_r (by decide), mu_r (by decide), mu_r (by decide), mu_r (by decide), hg 5 a (by decide), hg 6 a (by decide), hg 7 a (by decide), hg 0 0 (by decide), h9]
    · refine ⟨_, by rw [hV]; exact xu_s _ _ _, _, rfl, fun i hi => ?_⟩
      show upd of c _ i = nI (ckg g a c (10 + a) i)
      rw [h10]
      by_cases hq : i = c
      · rw [if_pos hq, hq]; simp [upd]
      · rw [if_neg hq]
        simp only [upd, hq, if_false]
        exact f6 i hi
  · intro j hj
    have hj : j < cnt st 35 := hj
    have e38 : cnt (mu (mu (mu st 0 38 (nI (cnt st 38 + 1))) 39 (8 * a + c) (nI (cnt st 38 + 1))) 40 (8 * a + c) t) 38 = cnt st 38 + 1 := by
      unfold cnt
      rw [mu_r (by decide), mu_r (by decide), mu_s]
      exact nI_clamp (by show cnt st 38 + 1 < _; omega)
    have o := h.2.2 j hj
    rw [e38]
    have m39 : ∀ q, mu (mu (mu st 0 38 (nI (cnt st 38 + 1))) 39 (8 * a + c) (nI (cnt st 38 + 1))) 40 (8 * a + c) t 39 q = if q = 8 * a + c then nI (cnt st 38 + 1) else st 39 q := fun q => by
      rw [mu_r (by decide)]
      by_cases hq : q = 8 * a + c
      · rw [if_pos hq, hq, mu_s]
      · rw [if_neg hq, mu_c hq, mu_r (by decide)]
    have hnn : (nI (cnt st 38 + 1)).toInt = (cnt st 38 + 1 : Nat) := nI_toInt (by omega)
    by_cases hja : j = a
    · subst hja
      rw [h9]
      refine ⟨by omega, fun q hq => ?_⟩
      obtain ⟨o1, o2, o3⟩ := o.2 q hq
      have lt38 : ∀ d, d < 8 → (st 39 (8 * j + d)).toInt ≤ (cnt st 38 : Int) := fun d hd => by
        have := (hI.2.2.2.1.2 (8 * j + d) (by omega)).1.2
        have := cnt_i hI.T.1
        omega
      rw [h10 q, m39]
      by_cases hqc : q = c
      · subst hqc
        rw [if_pos rfl, if_pos rfl]
        refine ⟨⟨fun e => by omega, fun e => ?_⟩, Nat.le_refl _, fun d hd => ?_⟩
        · rw [e] at hnn
          have e0 : (0 : Int32).toInt = 0 := rfl
          omega
        · rw [h10 d, m39]
          by_cases hdc : d = q
          · subst hdc
            rw [if_pos rfl, if_pos rfl]
            exact ⟨fun q => absurd q (Nat.lt_irrefl _), fun q => absurd q (Int.lt_irrefl _)⟩
          · rw [if_neg hdc, if_neg (by omega)]
            have := (o.2 d hd).2.1
            have := lt38 d hd
            refine ⟨fun q => by omega, fun q => by omega⟩
      · rw [if_neg hqc, if_neg (by omega)]
        refine ⟨o1, by omega, fun d hd => ?_⟩
        rw [h10 d, m39]
        by_cases hdc : d = c
        · subst hdc
          rw [if_pos rfl, if_pos rfl]
          have := lt38 q hq
          exact ⟨fun _ => by omega, fun _ => by omega⟩
        · rw [if_neg hdc, if_neg (by omega)]
          exact o3 d hd
    · rw [h9n j hja]
      refine ⟨by have := o.1; omega, fun q hq => ?_⟩
      rw [h10n j q hja, m39, if_neg (by omega)]
      obtain ⟨o1, o2, o3⟩ := o.2 q hq
      refine ⟨o1, o2, fun d hd => ?_⟩
      rw [h10n j d hja, m39, if_neg (by omega)]
      exact o3 d hd
set_option maxHeartbeats 4000000 in
set_option maxRecDepth 100000 in
theorem xtX0_clock (l : Launch) (D : xD) (A : Nat → Prop) (V : xV) (st : mS) (g : xG)  (a : Int32) (c_ : Int32) (t : Int32) (hI : mI st) (hR : xR D st g V)  : Met l yX0_clock (ws_ yX0_clock cX0_clock 4 (some .int)) (xRm 6 0 0) (xP D A V [.ref (g 0 0), .int a, .int c_, .int t]) (xQ D A (fun ρ V' => ρ = some (.int (sp_clock st a c_ t).1) ∧ xF D g ((sp_clock st a c_ t).2) V')) 0 0 A := by
  refine x_headW (own := RX0) (As := [.ref (g 0 0), .int a, .int c_, .int t]) (bytes := cX0_clock) (maxL := 4) (ret := (some .int)) (by decide) rfl (Nat.le_of_ble_eq_true rfl) ?_
  intro p e s m below meth c E hml hr hlk hin2 hw ls hl
  have hx := E.1
  have hb := E.2.1
  have hts := E.2.2.1
  have hown := E.2.2.2.1
  have hl : lv_has ls 4 [(0, .ref (g 0 0)), (1, .int a), (2, .int c_), (3, .int t)] := hl
  have h16 := hI.r16
  have h10 := hI.l10
  have hv8 := hI.v8
  have hc8 := hI.c8
  have hk8 := hI.k8
  have hb8 := hI.b8
  refine lv_aload_n (pc := 0) hx hb dX0_clock_0 rfl (lv_at hl 0 rfl) ?_
  refine lv_iload_n (pc := 1) hx hb dX0_clock_1 rfl (lv_at hl 1 rfl) ?_
  obtain ⟨b7, b8, b9, hpx⟩ := hR.px hI
  replace hpx : V (g 0 0) = some (.inr (0, [.int (st 0 0), .int (st 0 42), .ref (g 0 2), .ref (g 0 3), .int (nI (cnt st 12)), .ref (g 0 5), .ref (g 0 6), .int b7, .long b8, .int b9, .int (st 0 14), .ref (g 0 11), .int (nI (cnt st 24)), .int (st 0 25), .ref (g 0 14), .ref (g 0 15), .int (nI (cnt st 27)), .ref (g 0 17), .ref (g 0 18), .ref (g 0 19)])) := hpx
  refine x_goR (x_runV (pc := 2) (As := [.int a]) (rest := []) E hml hl.1 hw.2 hw.1 hpx (C := RX0) (T := TX0) (N := 20) rfl (xtX0_isCar l D A V st g a hI hR) q719 q721 qs15 q48 q722 hdX0_isCar ⟨Nat.le_of_ble_eq_true rfl, Nat.le_of_ble_eq_true rfl⟩ rfl rfl rfl (Nat.le_of_ble_eq_true rfl) dX0_clock_2 ⟨Nat.le_of_ble_eq_true rfl, Nat.le_of_ble_eq_true rfl⟩) ?_
  refine lb_eq (pc := 5) (tgt := 16) hx hb dX0_clock_5 (by decide) (fun c_1 => ?_) (fun c_1 => ?_)
  · refine lv_iconst (pc := 16) (v := (-1)) hx hb dX0_clock_16 (by decide) ?_
    exact x_iret E hr hlk hw dX0_clock_17 ⟨by simp only [sp_clock, if_neg c_1], by simp only [sp_clock, if_neg c_1]; exact xF.of hR⟩
  · have han := clamp_n (x := a) c_1.1
    have hai := clamp_i (x := a) c_1.1
    have hal : a.toNatClampNeg < cnt st 35 := by have := cnt_i (st := st) (k := 35) (by omega); omega
    refine lv_aload_n (pc := 8) hx hb dX0_clock_8 rfl (lv_at hl 0 rfl) ?_
    refine lv_iload_n (pc := 9) hx hb dX0_clock_9 rfl (lv_at hl 2 rfl) ?_
    refine x_goR (x_runV (pc := 10) (As := [.int c_]) (rest := []) E hml hl.1 hw.2 hw.1 hpx (C := RX0) (T := TX0) (N := 20) rfl (xtX0_isControl l D A V st g c_ hI hR) q626 q628 qs14 q48 q629 hdX0_isControl ⟨Nat.le_of_ble_eq_true rfl, Nat.le_of_ble_eq_true rfl⟩ rfl rfl rfl (Nat.le_of_ble_eq_true rfl) dX0_clock_10 ⟨Nat.le_of_ble_eq_true rfl, Nat.le_of_ble_eq_true rfl⟩) ?_
    refine lb_ne (pc := 13) (tgt := 18) hx hb dX0_clock_13 (by decide) (fun c_2 => ?_) (fun c_2 => ?_)
    · have hc_n := clamp_n (x := c_) c_2.1
      have hc_i := clamp_i (x := c_) c_2.1
      have hc_l : c_.toNatClampNeg < cnt st 30 := by have := cnt_i (st := st) (k := 30) (by omega); omega
      refine lv_iload_n (pc := 18) hx hb dX0_clock_18 rfl (lv_at hl 3 rfl) ?_
      refine x_goR (x_runS (pc := 19) (As := [.int t]) (rest := []) E hml hl.1 (x_preE) (xtX0_isTime l t) q630 q631 q48 q632 hdX0_isTime.2 ⟨Nat.le_of_ble_eq_true rfl, Nat.le_of_ble_eq_true rfl⟩ rfl rfl rfl (Nat.le_of_ble_eq_true rfl) dX0_clock_19 ⟨Nat.le_of_ble_eq_true rfl, Nat.le_of_ble_eq_true rfl⟩) ?_
      refine lb_ne (pc := 22) (tgt := 28) hx hb dX0_clock_22 (by decide) (fun c_3 => ?_) (fun c_3 => ?_)
      · refine lv_aload_n (pc := 28) hx hb dX0_clock_28 rfl (lv_at hl 0 rfl) ?_
        refine x_rd (pc := 29) (v := .ref (g 0 18)) E hw.1 18 hpx (C := RX0) (T := TX0) (N := 20) rfl in_X0 (Nat.le_of_ble_eq_true rfl) q132 (fun _ h => h) rfl dX0_clock_29 ?_
        refine lv_iload_n (pc := 32) hx hb dX0_clock_32 rfl (lv_at hl 1 rfl) ?_
        refine li_top (v' := .int (nI a.toNatClampNeg)) (congrArg Value.int han) ?_
        obtain ⟨mc_18, hpl_18⟩ := hR.p18
        obtain ⟨cap_2, f1_2, hpe_2, hcap_2, hle_2, hel_2⟩ := hR.pe (j := 2) (by decide)
        replace hle_2 : cnt st 35 ≤ cap_2 := hle_2
        replace hel_2 : ∀ q, q < cnt st 35 → f1_2 q = some (g 4 q) := hel_2
        refine x_goR5 (x_runF (pc := 33) (As := [.int (nI a.toNatClampNeg)]) (rest := []) E hml hl.1 hw.2 hw.1 hpl_18 (C := RJ2) (T := TJ2) (N := 3) rfl (xtJ2_get l D A V (g 0 18) (g 1 2) (cnt st 35) cap_2 (g 4 a.toNatClampNeg) a.toNatClampNeg mc_18 f1_2 hpl_18 hpe_2 (show a.toNatClampNeg < cnt st 35 from (by omega)) hle_2 (by have := hcap_2; omega) (hel_2 _ (by omega))) E.2.2.2.2.1.2.1.2.2.2.2.2.2.1 q337 q340 q342 q51 q344 hdF_get ⟨Nat.le_of_ble_eq_true rfl, Nat.le_of_ble_eq_true rfl⟩ rfl rfl rfl (Nat.le_of_ble_eq_true rfl) dX0_clock_33 ⟨Nat.le_of_ble_eq_true rfl, Nat.le_of_ble_eq_true rfl⟩) ?_
        have hpc_4 := hR.car (j := a.toNatClampNeg) (by omega)
        refine x_castCa (pc := 38) E hw.1 hpc_4 q538 dX0_clock_38 ?_
        refine lv_iload_n (pc := 41) hx hb dX0_clock_41 rfl (lv_at hl 2 rfl) ?_
        refine li_top (v' := .int (nI c_.toNatClampNeg)) (congrArg Value.int hc_n) ?_
        refine x_cCa_isClocked (pc := 42) (rest := []) st g a.toNatClampNeg E hw hI hR (by omega) (by omega) dX0_clock_42 ⟨Nat.le_of_ble_eq_true rfl, Nat.le_of_ble_eq_true rfl⟩ ⟨Nat.le_of_ble_eq_true rfl, Nat.le_of_ble_eq_true rfl⟩ (Nat.le_of_ble_eq_true rfl) hml hl ?_
        refine lb_eq (pc := 45) (tgt := 51) hx hb dX0_clock_45 (by decide) (fun c_5 => ?_) (fun c_5 => ?_)
        · refine lv_aload_n (pc := 51) hx hb dX0_clock_51 rfl (lv_at hl 0 rfl) ?_
          refine x_rd (pc := 52) (v := .ref (g 0 18)) E hw.1 18 hpx (C := RX0) (T := TX0) (N := 20) rfl in_X0 (Nat.le_of_ble_eq_true rfl) q132 (fun _ h => h) rfl dX0_clock_52 ?_
          refine lv_iload_n (pc := 55) hx hb dX0_clock_55 rfl (lv_at hl 1 rfl) ?_
          refine li_top (v' := .int (nI a.toNatClampNeg)) (congrArg Value.int han) ?_
          refine x_goR5 (x_runF (pc := 56) (As := [.int (nI a.toNatClampNeg)]) (rest := []) E hml hl.1 hw.2 hw.1 hpl_18 (C := RJ2) (T := TJ2) (N := 3) rfl (xtJ2_get l D A V (g 0 18) (g 1 2) (cnt st 35) cap_2 (g 4 a.toNatClampNeg) a.toNatClampNeg mc_18 f1_2 hpl_18 hpe_2 (show a.toNatClampNeg < cnt st 35 from (by omega)) hle_2 (by have := hcap_2; omega) (hel_2 _ (by omega))) E.2.2.2.2.1.2.1.2.2.2.2.2.2.1 q337 q340 q342 q51 q344 hdF_get ⟨Nat.le_of_ble_eq_true rfl, Nat.le_of_ble_eq_true rfl⟩ rfl rfl rfl (Nat.le_of_ble_eq_true rfl) dX0_clock_56 ⟨Nat.le_of_ble_eq_true rfl, Nat.le_of_ble_eq_true rfl⟩) ?_
          refine x_castCa (pc := 61) E hw.1 hpc_4 q538 dX0_clock_61 ?_
          refine lv_iload_n (pc := 64) hx hb dX0_clock_64 rfl (lv_at hl 2 rfl) ?_
          refine li_top (v' := .int (nI c_.toNatClampNeg)) (congrArg Value.int hc_n) ?_
          refine lv_iload_n (pc := 65) hx hb dX0_clock_65 rfl (lv_at hl 3 rfl) ?_
          obtain ⟨v_6f, v_6p, v_6h⟩ := hR.tim (j := a.toNatClampNeg) (by omega)
          obtain ⟨v_7f, v_7p, v_7h⟩ := hR.ord (j := a.toNatClampNeg) (by omega)
          refine x_cCa_clock (pc := 66) (rest := []) st g a.toNatClampNeg E hw hI hR (by omega) (c_ := c_.toNatClampNeg) (by omega) v_6p v_7p dX0_clock_66 ⟨Nat.le_of_ble_eq_true rfl, Nat.le_of_ble_eq_true rfl⟩ ⟨Nat.le_of_ble_eq_true rfl, Nat.le_of_ble_eq_true rfl⟩ (Nat.le_of_ble_eq_true rfl) hml hl (fun V_8 H locs hV_9 hw => ?_)
          refine lv_iconst (pc := 69) (v := 1) hx hb dX0_clock_69 (by decide) ?_
          exact x_iret E hr hlk hw dX0_clock_70 ⟨by simp only [sp_clock, if_pos c_1, if_pos c_2, if_pos c_3, if_neg (fun q => c_5 ((pos39 hI (by omega)).mp q))], by simp only [sp_clock, if_pos c_1, if_pos c_2, if_pos c_3, if_neg (fun q => c_5 ((pos39 hI (by omega)).mp q))]; exact ⟨ckg g a.toNatClampNeg c_.toNatClampNeg, (if_neg (by omega)).trans (if_neg (by omega)), clock_R hR hI (by omega) (by omega) v_6p v_7p v_6h v_7h (Classical.not_not.mp c_5) hV_9⟩⟩
        · refine lv_bipush (pc := 48) (v := (-3)) hx hb dX0_clock_48 (by decide) ?_
          exact x_iret E hr hlk hw dX0_clock_50 ⟨by simp only [sp_clock, if_pos c_1, if_pos c_2, if_pos c_3, if_pos ((pos39 hI (by omega)).mpr c_5)], by simp only [sp_clock, if_pos c_1, if_pos c_2, if_pos c_3, if_pos ((pos39 hI (by omega)).mpr c_5)]; exact xF.of hR⟩
      · refine lv_bipush (pc := 25) (v := (-2)) hx hb dX0_clock_25 (by decide) ?_
        exact x_iret E hr hlk hw dX0_clock_27 ⟨by simp only [sp_clock, if_pos c_1, if_pos c_2, if_neg c_3], by simp only [sp_clock, if_pos c_1, if_pos c_2, if_neg c_3]; exact xF.of hR⟩
    · refine lv_iconst (pc := 16) (v := (-1)) hx hb dX0_clock_16 (by decide) ?_
      exact x_iret E hr hlk hw dX0_clock_17 ⟨by simp only [sp_clock, if_pos c_1, if_neg c_2], by simp only [sp_clock, if_pos c_1, if_neg c_2]; exact xF.of hR⟩
