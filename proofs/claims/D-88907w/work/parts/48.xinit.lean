/-! RegularRally.<init> -/
set_option maxHeartbeats 4000000 in
set_option maxRecDepth 100000 in
theorem xtX0_init (l : Launch) (D : xD) (A : Nat → Prop) (V : xV) (x : Nat) (f0 : Nat → Option Nat)  (h1 : V x = some (.inr (0, [.int 0, .int 0, .null, .null, .int 0, .null, .null, .int 0, .long 0, .int 0, .int 0, .null, .int 0, .int 0, .null, .null, .int 0, .null, .null, .null]))) (hE0 : V D.1.2.1 = some (.inl (D.2.2.2.2, 0, .inr (.inr (.inr (.inr f0)))))) (hxE : x ≠ D.1.2.1) : Met l yX0_init (ws_ yX0_init cX0_init 1 none) (xRm 6 10 67) (xP D A V [.ref x]) (xQ D A (fun ρ V' => ρ = none ∧ ∃ g : xG, g 0 0 = x ∧ xR D m0 g V')) 10 67 A := by
  refine x_headW (own := RX0) (As := [.ref x]) (bytes := cX0_init) (maxL := 1) (ret := none) (by decide) rfl (Nat.le_of_ble_eq_true rfl) ?_
  intro p e s m below meth c E hml hr hlk hin2 hw ls hl
  have hx := E.1
  have hb := E.2.1
  have hts := E.2.2.1
  have hown := E.2.2.2.1
  have hl : lv_has ls 1 [(0, .ref x)] := hl
  refine lv_aload_n (pc := 0) hx hb dX0_init_0 rfl (lv_at hl 0 rfl) ?_
  refine W.objInit (g := F0 m 1 ls [.ref x]) hx hb hown (hts _ q82) (hts _ q83) (hts _ q84) rfl (by rw [hml]; exact hl.1) rfl dX0_init_1 (Nat.le_of_ble_eq_true rfl) (Nat.le_of_ble_eq_true rfl) ?_
  refine lv_aload_n (pc := 4) hx hb dX0_init_4 rfl (lv_at hl 0 rfl) ?_
  refine x_new1 (pc := 5) (fs := [.int 0, .null, .int 0]) E hw (ci := 8) (C := RJ2) (T := TJ2) (N := 3) rfl in_J2 tyJ2 tyJ2_ok q85 q86 q51 (by decide) (Nat.le_of_ble_eq_true rfl) (Nat.le_of_ble_eq_true rfl) dX0_init_5 (fun a_1 V_2 H hf_4 hV_3 hw => ?_)
  have nn_x_a_1 : x ≠ a_1 := hf_4 _ _ h1
  have nn_D121_a_1 : D.1.2.1 ≠ a_1 := hf_4 _ _ hE0
  have hp_5 : V_2 a_1 = some (.inr (8, [.int 0, .null, .int 0])) := by rw [hV_3]; exact xu_s _ _ _
  refine lv_dup (pc := 8) hx hb dX0_init_8 rfl ?_
  refine x_goWn hw (x_runI (pc := 9) (As := []) (rest := [.ref a_1, .ref x]) (b := a_1) E hml hl.1 (x_preS E hw.2 hw.1) (xtJ2_init l D A V_2 a_1 hp_5) q87 q88 q51 q89 rfl hdJ2_init.2 ⟨Nat.le_of_ble_eq_true rfl, Nat.le_of_ble_eq_true rfl⟩ rfl rfl rfl (Nat.le_of_ble_eq_true rfl) dX0_init_9 ⟨Nat.le_of_ble_eq_true rfl, Nat.le_of_ble_eq_true rfl⟩) (fun V_6 H locs hF_7 hw => ?_)
  have hp_8 : V_6 a_1 = some (.inr (8, [.int 0, .ref D.1.2.1, .int 0])) := by rw [hF_7]; exact xu_s _ _ _
  have hp_9 : V_2 x = some (.inr (0, [.int 0, .int 0, .null, .null, .int 0, .null, .null, .int 0, .long 0, .int 0, .int 0, .null, .int 0, .int 0, .null, .null, .int 0, .null, .null, .null])) := by rw [hV_3, xu_n (hf_4 _ _ h1)]; exact h1
  have hp_10 : V_6 x = some (.inr (0, [.int 0, .int 0, .null, .null, .int 0, .null, .null, .int 0, .long 0, .int 0, .int 0, .null, .int 0, .int 0, .null, .null, .int 0, .null, .null, .null])) := by rw [hF_7, xu_n (hf_4 _ _ h1)]; exact hp_9
  refine x_putF1 (pc := 12) (v := .ref a_1) E hw 2 hp_10 (C := RX0) (T := TX0) (N := 20) rfl in_X0 tyX0 tyX0_ok (Nat.le_of_ble_eq_true rfl) q115 (fun _ h => h) rfl hin2 rfl (tyX0_ok 2 (Nat.le_of_ble_eq_true rfl)) rfl rfl (Nat.le_of_ble_eq_true rfl) (fun j hj hne => Or.inl (nmX0 j hj 2 (Nat.le_of_ble_eq_true rfl) hne)) dX0_init_12 (fun V_11 H locs hV_12 hw => ?_)
  replace hV_12 : V_11 = xu V_6 x (.inr (0, [.int 0, .int 0, .ref a_1, .null, .int 0, .null, .null, .int 0, .long 0, .int 0, .int 0, .null, .int 0, .int 0, .null, .null, .int 0, .null, .null, .null])) := hV_12
  have hp_13 : V_11 x = some (.inr (0, [.int 0, .int 0, .ref a_1, .null, .int 0, .null, .null, .int 0, .long 0, .int 0, .int 0, .null, .int 0, .int 0, .null, .null, .int 0, .null, .null, .null])) := by rw [hV_12]; exact xu_s _ _ _
  refine lv_aload_n (pc := 15) hx hb dX0_init_15 rfl (lv_at hl 0 rfl) ?_
  refine lv_bipush (pc := 16) (v := 8) hx hb dX0_init_16 (by decide) ?_
  have hp_14 : V_2 D.1.2.1 = some (.inl (D.2.2.2.2, 0, .inr (.inr (.inr (.inr f0))))) := by rw [hV_3, xu_n (hf_4 _ _ hE0)]; exact hE0
  have hp_15 : V_6 D.1.2.1 = some (.inl (D.2.2.2.2, 0, .inr (.inr (.inr (.inr f0))))) := by rw [hF_7, xu_n (hf_4 _ _ hE0)]; exact hp_14
  have hp_16 : V_11 D.1.2.1 = some (.inl (D.2.2.2.2, 0, .inr (.inr (.inr (.inr f0))))) := by rw [hV_12, xu_n (Ne.symm hxE)]; exact hp_15
  have hp_17 : V_11 a_1 = some (.inr (8, [.int 0, .ref D.1.2.1, .int 0])) := by rw [hV_12, xu_n (Ne.symm (hf_4 _ _ h1))]; exact hp_8
  refine x_newa1 (pc := 18) (N := 8) E hw (ty := .int) (t0 := 0) (cA := D.2.1) rfl rfl (x_nm0 E.2.2.2.2.1) rfl q175 (by decide) rfl (Nat.le_of_ble_eq_true rfl) (Nat.le_of_ble_eq_true rfl) (Nat.le_of_ble_eq_true rfl) dX0_init_18 (fun a_18 V_19 H hf_21 hV_20 hw => ?_)
  have nn_x_a_18 : x ≠ a_18 := hf_21 _ _ hp_13
  have nn_D121_a_18 : D.1.2.1 ≠ a_18 := hf_21 _ _ hp_16
  have nn_a_1_a_18 : a_1 ≠ a_18 := hf_21 _ _ hp_17
  have hp_22 : V_19 a_18 = some (.inl (D.2.1, 8, .inl (fun _ => 0))) := by rw [hV_20]; exact xu_s _ _ _
  have hp_23 : V_19 x = some (.inr (0, [.int 0, .int 0, .ref a_1, .null, .int 0, .null, .null, .int 0, .long 0, .int 0, .int 0, .null, .int 0, .int 0, .null, .null, .int 0, .null, .null, .null])) := by rw [hV_20, xu_n (hf_21 _ _ hp_13)]; exact hp_13
  refine x_putF1 (pc := 20) (v := .ref a_18) E hw 3 hp_23 (C := RX0) (T := TX0) (N := 20) rfl in_X0 tyX0 tyX0_ok (Nat.le_of_ble_eq_true rfl) q116 (fun _ h => h) rfl hin2 rfl (tyX0_ok 3 (Nat.le_of_ble_eq_true rfl)) rfl rfl (Nat.le_of_ble_eq_true rfl) (fun j hj hne => Or.inl (nmX0 j hj 3 (Nat.le_of_ble_eq_true rfl) hne)) dX0_init_20 (fun V_24 H locs hV_25 hw => ?_)
  replace hV_25 : V_24 = xu V_19 x (.inr (0, [.int 0, .int 0, .ref a_1, .ref a_18, .int 0, .null, .null, .int 0, .long 0, .int 0, .int 0, .null, .int 0, .int 0, .null, .null, .int 0, .null, .null, .null])) := hV_25
  have hp_26 : V_24 x = some (.inr (0, [.int 0, .int 0, .ref a_1, .ref a_18, .int 0, .null, .null, .int 0, .long 0, .int 0, .int 0, .null, .int 0, .int 0, .null, .null, .int 0, .null, .null, .null])) := by rw [hV_25]; exact xu_s _ _ _
  refine lv_aload_n (pc := 23) hx hb dX0_init_23 rfl (lv_at hl 0 rfl) ?_
  refine lv_bipush (pc := 24) (v := 10) hx hb dX0_init_24 (by decide) ?_
  have hp_27 : V_19 D.1.2.1 = some (.inl (D.2.2.2.2, 0, .inr (.inr (.inr (.inr f0))))) := by rw [hV_20, xu_n (hf_21 _ _ hp_16)]; exact hp_16
  have hp_28 : V_24 D.1.2.1 = some (.inl (D.2.2.2.2, 0, .inr (.inr (.inr (.inr f0))))) := by rw [hV_25, xu_n (Ne.symm hxE)]; exact hp_27
  have hp_29 : V_19 a_1 = some (.inr (8, [.int 0, .ref D.1.2.1, .int 0])) := by rw [hV_20, xu_n (hf_21 _ _ hp_17)]; exact hp_17
  have hp_30 : V_24 a_1 = some (.inr (8, [.int 0, .ref D.1.2.1, .int 0])) := by rw [hV_25, xu_n (Ne.symm (hf_4 _ _ h1))]; exact hp_29
  have hp_31 : V_24 a_18 = some (.inl (D.2.1, 8, .inl (fun _ => 0))) := by rw [hV_25, xu_n (Ne.symm (hf_21 _ _ hp_13))]; exact hp_22
  refine x_newa1 (pc := 26) (N := 10) E hw (ty := .int) (t0 := 0) (cA := D.2.1) rfl rfl (x_nm0 E.2.2.2.2.1) rfl q175 (by decide) rfl (Nat.le_of_ble_eq_true rfl) (Nat.le_of_ble_eq_true rfl) (Nat.le_of_ble_eq_true rfl) dX0_init_26 (fun a_32 V_33 H hf_35 hV_34 hw => ?_)
  have nn_x_a_32 : x ≠ a_32 := hf_35 _ _ hp_26
  have nn_D121_a_32 : D.1.2.1 ≠ a_32 := hf_35 _ _ hp_28
  have nn_a_1_a_32 : a_1 ≠ a_32 := hf_35 _ _ hp_30
  have nn_a_18_a_32 : a_18 ≠ a_32 := hf_35 _ _ hp_31
  have hp_36 : V_33 a_32 = some (.inl (D.2.1, 10, .inl (fun _ => 0))) := by rw [hV_34]; exact xu_s _ _ _
  have hp_37 : V_33 x = some (.inr (0, [.int 0, .int 0, .ref a_1, .ref a_18, .int 0, .null, .null, .int 0, .long 0, .int 0, .int 0, .null, .int 0, .int 0, .null, .null, .int 0, .null, .null, .null])) := by rw [hV_34, xu_n (hf_35 _ _ hp_26)]; exact hp_26
  refine x_putF1 (pc := 28) (v := .ref a_32) E hw 5 hp_37 (C := RX0) (T := TX0) (N := 20) rfl in_X0 tyX0 tyX0_ok (Nat.le_of_ble_eq_true rfl) q118 (fun _ h => h) rfl hin2 rfl (tyX0_ok 5 (Nat.le_of_ble_eq_true rfl)) rfl rfl (Nat.le_of_ble_eq_true rfl) (fun j hj hne => Or.inl (nmX0 j hj 5 (Nat.le_of_ble_eq_true rfl) hne)) dX0_init_28 (fun V_38 H locs hV_39 hw => ?_)
  replace hV_39 : V_38 = xu V_33 x (.inr (0, [.int 0, .int 0, .ref a_1, .ref a_18, .int 0, .ref a_32, .null, .int 0, .long 0, .int 0, .int 0, .null, .int 0, .int 0, .null, .null, .int 0, .null, .null, .null])) := hV_39
  have hp_40 : V_38 x = some (.inr (0, [.int 0, .int 0, .ref a_1, .ref a_18, .int 0, .ref a_32, .null, .int 0, .long 0, .int 0, .int 0, .null, .int 0, .int 0, .null, .null, .int 0, .null, .null, .null])) := by rw [hV_39]; exact xu_s _ _ _
  refine lv_aload_n (pc := 31) hx hb dX0_init_31 rfl (lv_at hl 0 rfl) ?_
  refine lv_bipush (pc := 32) (v := 10) hx hb dX0_init_32 (by decide) ?_
  have hp_41 : V_33 D.1.2.1 = some (.inl (D.2.2.2.2, 0, .inr (.inr (.inr (.inr f0))))) := by rw [hV_34, xu_n (hf_35 _ _ hp_28)]; exact hp_28
  have hp_42 : V_38 D.1.2.1 = some (.inl (D.2.2.2.2, 0, .inr (.inr (.inr (.inr f0))))) := by rw [hV_39, xu_n (Ne.symm hxE)]; exact hp_41
  have hp_43 : V_33 a_1 = some (.inr (8, [.int 0, .ref D.1.2.1, .int 0])) := by rw [hV_34, xu_n (hf_35 _ _ hp_30)]; exact hp_30
  have hp_44 : V_38 a_1 = some (.inr (8, [.int 0, .ref D.1.2.1, .int 0])) := by rw [hV_39, xu_n (Ne.symm (hf_4 _ _ h1))]; exact hp_43
  have hp_45 : V_33 a_18 = some (.inl (D.2.1, 8, .inl (fun _ => 0))) := by rw [hV_34, xu_n (hf_35 _ _ hp_31)]; exact hp_31
  have hp_46 : V_38 a_18 = some (.inl (D.2.1, 8, .inl (fun _ => 0))) := by rw [hV_39, xu_n (Ne.symm (hf_21 _ _ hp_13))]; exact hp_45
  have hp_47 : V_38 a_32 = some (.inl (D.2.1, 10, .inl (fun _ => 0))) := by rw [hV_39, xu_n (Ne.symm (hf_35 _ _ hp_26))]; exact hp_36
  refine x_newa1 (pc := 34) (N := 10) E hw (ty := .int) (t0 := 0) (cA := D.2.1) rfl rfl (x_nm0 E.2.2.2.2.1) rfl q175 (by decide) rfl (Nat.le_of_ble_eq_true rfl) (Nat.le_of_ble_eq_true rfl) (Nat.le_of_ble_eq_true rfl) dX0_init_34 (fun a_48 V_49 H hf_51 hV_50 hw => ?_)
  have nn_x_a_48 : x ≠ a_48 := hf_51 _ _ hp_40
  have nn_D121_a_48 : D.1.2.1 ≠ a_48 := hf_51 _ _ hp_42
  have nn_a_1_a_48 : a_1 ≠ a_48 := hf_51 _ _ hp_44
  have nn_a_18_a_48 : a_18 ≠ a_48 := hf_51 _ _ hp_46
  have nn_a_32_a_48 : a_32 ≠ a_48 := hf_51 _ _ hp_47
  have hp_52 : V_49 a_48 = some (.inl (D.2.1, 10, .inl (fun _ => 0))) := by rw [hV_50]; exact xu_s _ _ _
  have hp_53 : V_49 x = some (.inr (0, [.int 0, .int 0, .ref a_1, .ref a_18, .int 0, .ref a_32, .null, .int 0, .long 0, .int 0, .int 0, .null, .int 0, .int 0, .null, .null, .int 0, .null, .null, .null])) := by rw [hV_50, xu_n (hf_51 _ _ hp_40)]; exact hp_40
  refine x_putF1 (pc := 36) (v := .ref a_48) E hw 6 hp_53 (C := RX0) (T := TX0) (N := 20) rfl in_X0 tyX0 tyX0_ok (Nat.le_of_ble_eq_true rfl) q119 (fun _ h => h) rfl hin2 rfl (tyX0_ok 6 (Nat.le_of_ble_eq_true rfl)) rfl rfl (Nat.le_of_ble_eq_true rfl) (fun j hj hne => Or.inl (nmX0 j hj 6 (Nat.le_of_ble_eq_true rfl) hne)) dX0_init_36 (fun V_54 H locs hV_55 hw => ?_)
  replace hV_55 : V_54 = xu V_49 x (.inr (0, [.int 0, .int 0, .ref a_1, .ref a_18, .int 0, .ref a_32, .ref a_48, .int 0, .long 0, .int 0, .int 0, .null, .int 0, .int 0, .null, .null, .int 0, .null, .null, .null])) := hV_55
  have hp_56 : V_54 x = some (.inr (0, [.int 0, .int 0, .ref a_1, .ref a_18, .int 0, .ref a_32, .ref a_48, .int 0, .long 0, .int 0, .int 0, .null, .int 0, .int 0, .null, .null, .int 0, .null, .null, .null])) := by rw [hV_55]; exact xu_s _ _ _
  refine lv_aload_n (pc := 39) hx hb dX0_init_39 rfl (lv_at hl 0 rfl) ?_
  refine lv_bipush (pc := 40) (v := 10) hx hb dX0_init_40 (by decide) ?_
  have hp_57 : V_49 D.1.2.1 = some (.inl (D.2.2.2.2, 0, .inr (.inr (.inr (.inr f0))))) := by rw [hV_50, xu_n (hf_51 _ _ hp_42)]; exact hp_42
  have hp_58 : V_54 D.1.2.1 = some (.inl (D.2.2.2.2, 0, .inr (.inr (.inr (.inr f0))))) := by rw [hV_55, xu_n (Ne.symm hxE)]; exact hp_57
  have hp_59 : V_49 a_1 = some (.inr (8, [.int 0, .ref D.1.2.1, .int 0])) := by rw [hV_50, xu_n (hf_51 _ _ hp_44)]; exact hp_44
  have hp_60 : V_54 a_1 = some (.inr (8, [.int 0, .ref D.1.2.1, .int 0])) := by rw [hV_55, xu_n (Ne.symm (hf_4 _ _ h1))]; exact hp_59
  have hp_61 : V_49 a_18 = some (.inl (D.2.1, 8, .inl (fun _ => 0))) := by rw [hV_50, xu_n (hf_51 _ _ hp_46)]; exact hp_46
  have hp_62 : V_54 a_18 = some (.inl (D.2.1, 8, .inl (fun _ => 0))) := by rw [hV_55, xu_n (Ne.symm (hf_21 _ _ hp_13))]; exact hp_61
  have hp_63 : V_49 a_32 = some (.inl (D.2.1, 10, .inl (fun _ => 0))) := by rw [hV_50, xu_n (hf_51 _ _ hp_47)]; exact hp_47
  have hp_64 : V_54 a_32 = some (.inl (D.2.1, 10, .inl (fun _ => 0))) := by rw [hV_55, xu_n (Ne.symm (hf_35 _ _ hp_26))]; exact hp_63
  have hp_65 : V_54 a_48 = some (.inl (D.2.1, 10, .inl (fun _ => 0))) := by rw [hV_55, xu_n (Ne.symm (hf_51 _ _ hp_40))]; exact hp_52
  refine x_newa1 (pc := 42) (N := 10) E hw (ty := .int) (t0 := 0) (cA := D.2.1) rfl rfl (x_nm0 E.2.2.2.2.1) rfl q175 (by decide) rfl (Nat.le_of_ble_eq_true rfl) (Nat.le_of_ble_eq_true rfl) (Nat.le_of_ble_eq_true rfl) dX0_init_42 (fun a_66 V_67 H hf_69 hV_68 hw => ?_)
  have nn_x_a_66 : x ≠ a_66 := hf_69 _ _ hp_56
  have nn_D121_a_66 : D.1.2.1 ≠ a_66 := hf_69 _ _ hp_58
  have nn_a_1_a_66 : a_1 ≠ a_66 := hf_69 _ _ hp_60
  have nn_a_18_a_66 : a_18 ≠ a_66 := hf_69 _ _ hp_62
  have nn_a_32_a_66 : a_32 ≠ a_66 := hf_69 _ _ hp_64
  have nn_a_48_a_66 : a_48 ≠ a_66 := hf_69 _ _ hp_65
  have hp_70 : V_67 a_66 = some (.inl (D.2.1, 10, .inl (fun _ => 0))) := by rw [hV_68]; exact xu_s _ _ _
  have hp_71 : V_67 x = some (.inr (0, [.int 0, .int 0, .ref a_1, .ref a_18, .int 0, .ref a_32, .ref a_48, .int 0, .long 0, .int 0, .int 0, .null, .int 0, .int 0, .null, .null, .int 0, .null, .null, .null])) := by rw [hV_68, xu_n (hf_69 _ _ hp_56)]; exact hp_56
  refine x_putF1 (pc := 44) (v := .ref a_66) E hw 11 hp_71 (C := RX0) (T := TX0) (N := 20) rfl in_X0 tyX0 tyX0_ok (Nat.le_of_ble_eq_true rfl) q124 (fun _ h => h) rfl hin2 rfl (tyX0_ok 11 (Nat.le_of_ble_eq_true rfl)) rfl rfl (Nat.le_of_ble_eq_true rfl) (fun j hj hne => Or.inl (nmX0 j hj 11 (Nat.le_of_ble_eq_true rfl) hne)) dX0_init_44 (fun V_72 H locs hV_73 hw => ?_)
  replace hV_73 : V_72 = xu V_67 x (.inr (0, [.int 0, .int 0, .ref a_1, .ref a_18, .int 0, .ref a_32, .ref a_48, .int 0, .long 0, .int 0, .int 0, .ref a_66, .int 0, .int 0, .null, .null, .int 0, .null, .null, .null])) := hV_73
  have hp_74 : V_72 x = some (.inr (0, [.int 0, .int 0, .ref a_1, .ref a_18, .int 0, .ref a_32, .ref a_48, .int 0, .long 0, .int 0, .int 0, .ref a_66, .int 0, .int 0, .null, .null, .int 0, .null, .null, .null])) := by rw [hV_73]; exact xu_s _ _ _
  refine lv_aload_n (pc := 47) hx hb dX0_init_47 rfl (lv_at hl 0 rfl) ?_
  refine lv_bipush (pc := 48) (v := 8) hx hb dX0_init_48 (by decide) ?_
  have hp_75 : V_67 D.1.2.1 = some (.inl (D.2.2.2.2, 0, .inr (.inr (.inr (.inr f0))))) := by rw [hV_68, xu_n (hf_69 _ _ hp_58)]; exact hp_58
  have hp_76 : V_72 D.1.2.1 = some (.inl (D.2.2.2.2, 0, .inr (.inr (.inr (.inr f0))))) := by rw [hV_73, xu_n (Ne.symm hxE)]; exact hp_75
  have hp_77 : V_67 a_1 = some (.inr (8, [.int 0, .ref D.1.2.1, .int 0])) := by rw [hV_68, xu_n (hf_69 _ _ hp_60)]; exact hp_60
  have hp_78 : V_72 a_1 = some (.inr (8, [.int 0, .ref D.1.2.1, .int 0])) := by rw [hV_73, xu_n (Ne.symm (hf_4 _ _ h1))]; exact hp_77
  have hp_79 : V_67 a_18 = some (.inl (D.2.1, 8, .inl (fun _ => 0))) := by rw [hV_68, xu_n (hf_69 _ _ hp_62)]; exact hp_62
  have hp_80 : V_72 a_18 = some (.inl (D.2.1, 8, .inl (fun _ => 0))) := by rw [hV_73, xu_n (Ne.symm (hf_21 _ _ hp_13))]; exact hp_79
  have hp_81 : V_67 a_32 = some (.inl (D.2.1, 10, .inl (fun _ => 0))) := by rw [hV_68, xu_n (hf_69 _ _ hp_64)]; exact hp_64
  have hp_82 : V_72 a_32 = some (.inl (D.2.1, 10, .inl (fun _ => 0))) := by rw [hV_73, xu_n (Ne.symm (hf_35 _ _ hp_26))]; exact hp_81
  have hp_83 : V_67 a_48 = some (.inl (D.2.1, 10, .inl (fun _ => 0))) := by rw [hV_68, xu_n (hf_69 _ _ hp_65)]; exact hp_65
  have hp_84 : V_72 a_48 = some (.inl (D.2.1, 10, .inl (fun _ => 0))) := by rw [hV_73, xu_n (Ne.symm (hf_51 _ _ hp_40))]; exact hp_83
  have hp_85 : V_72 a_66 = some (.inl (D.2.1, 10, .inl (fun _ => 0))) := by rw [hV_73, xu_n (Ne.symm (hf_69 _ _ hp_56))]; exact hp_70
  refine x_newa1 (pc := 50) (N := 8) E hw (ty := .int) (t0 := 0) (cA := D.2.1) rfl rfl (x_nm0 E.2.2.2.2.1) rfl q175 (by decide) rfl (Nat.le_of_ble_eq_true rfl) (Nat.le_of_ble_eq_true rfl) (Nat.le_of_ble_eq_true rfl) dX0_init_50 (fun a_86 V_87 H hf_89 hV_88 hw => ?_)
  have nn_x_a_86 : x ≠ a_86 := hf_89 _ _ hp_74
  have nn_D121_a_86 : D.1.2.1 ≠ a_86 := hf_89 _ _ hp_76
  have nn_a_1_a_86 : a_1 ≠ a_86 := hf_89 _ _ hp_78
  have nn_a_18_a_86 : a_18 ≠ a_86 := hf_89 _ _ hp_80
  have nn_a_32_a_86 : a_32 ≠ a_86 := hf_89 _ _ hp_82
  have nn_a_48_a_86 : a_48 ≠ a_86 := hf_89 _ _ hp_84
  have nn_a_66_a_86 : a_66 ≠ a_86 := hf_89 _ _ hp_85
  have hp_90 : V_87 a_86 = some (.inl (D.2.1, 8, .inl (fun _ => 0))) := by rw [hV_88]; exact xu_s _ _ _
  have hp_91 : V_87 x = some (.inr (0, [.int 0, .int 0, .ref a_1, .ref a_18, .int 0, .ref a_32, .ref a_48, .int 0, .long 0, .int 0, .int 0, .ref a_66, .int 0, .int 0, .null, .null, .int 0, .null, .null, .null])) := by rw [hV_88, xu_n (hf_89 _ _ hp_74)]; exact hp_74
  refine x_putF1 (pc := 52) (v := .ref a_86) E hw 14 hp_91 (C := RX0) (T := TX0) (N := 20) rfl in_X0 tyX0 tyX0_ok (Nat.le_of_ble_eq_true rfl) q127 (fun _ h => h) rfl hin2 rfl (tyX0_ok 14 (Nat.le_of_ble_eq_true rfl)) rfl rfl (Nat.le_of_ble_eq_true rfl) (fun j hj hne => Or.inl (nmX0 j hj 14 (Nat.le_of_ble_eq_true rfl) hne)) dX0_init_52 (fun V_92 H locs hV_93 hw => ?_)
  replace hV_93 : V_92 = xu V_87 x (.inr (0, [.int 0, .int 0, .ref a_1, .ref a_18, .int 0, .ref a_32, .ref a_48, .int 0, .long 0, .int 0, .int 0, .ref a_66, .int 0, .int 0, .ref a_86, .null, .int 0, .null, .null, .null])) := hV_93
  have hp_94 : V_92 x = some (.inr (0, [.int 0, .int 0, .ref a_1, .ref a_18, .int 0, .ref a_32, .ref a_48, .int 0, .long 0, .int 0, .int 0, .ref a_66, .int 0, .int 0, .ref a_86, .null, .int 0, .null, .null, .null])) := by rw [hV_93]; exact xu_s _ _ _
  refine lv_aload_n (pc := 55) hx hb dX0_init_55 rfl (lv_at hl 0 rfl) ?_
  refine lv_bipush (pc := 56) (v := 8) hx hb dX0_init_56 (by decide) ?_
  have hp_95 : V_87 D.1.2.1 = some (.inl (D.2.2.2.2, 0, .inr (.inr (.inr (.inr f0))))) := by rw [hV_88, xu_n (hf_89 _ _ hp_76)]; exact hp_76
  have hp_96 : V_92 D.1.2.1 = some (.inl (D.2.2.2.2, 0, .inr (.inr (.inr (.inr f0))))) := by rw [hV_93, xu_n (Ne.symm hxE)]; exact hp_95
  have hp_97 : V_87 a_1 = some (.inr (8, [.int 0, .ref D.1.2.1, .int 0])) := by rw [hV_88, xu_n (hf_89 _ _ hp_78)]; exact hp_78
  have hp_98 : V_92 a_1 = some (.inr (8, [.int 0, .ref D.1.2.1, .int 0])) := by rw [hV_93, xu_n (Ne.symm (hf_4 _ _ h1))]; exact hp_97
  have hp_99 : V_87 a_18 = some (.inl (D.2.1, 8, .inl (fun _ => 0))) := by rw [hV_88, xu_n (hf_89 _ _ hp_80)]; exact hp_80
  have hp_100 : V_92 a_18 = some (.inl (D.2.1, 8, .inl (fun _ => 0))) := by rw [hV_93, xu_n (Ne.symm (hf_21 _ _ hp_13))]; exact hp_99
  have hp_101 : V_87 a_32 = some (.inl (D.2.1, 10, .inl (fun _ => 0))) := by rw [hV_88, xu_n (hf_89 _ _ hp_82)]; exact hp_82
  have hp_102 : V_92 a_32 = some (.inl (D.2.1, 10, .inl (fun _ => 0))) := by rw [hV_93, xu_n (Ne.symm (hf_35 _ _ hp_26))]; exact hp_101
  have hp_103 : V_87 a_48 = some (.inl (D.2.1, 10, .inl (fun _ => 0))) := by rw [hV_88, xu_n (hf_89 _ _ hp_84)]; exact hp_84
  have hp_104 : V_92 a_48 = some (.inl (D.2.1, 10, .inl (fun _ => 0))) := by rw [hV_93, xu_n (Ne.symm (hf_51 _ _ hp_40))]; exact hp_103
  have hp_105 : V_87 a_66 = some (.inl (D.2.1, 10, .inl (fun _ => 0))) := by rw [hV_88, xu_n (hf_89 _ _ hp_85)]; exact hp_85
  have hp_106 : V_92 a_66 = some (.inl (D.2.1, 10, .inl (fun _ => 0))) := by rw [hV_93, xu_n (Ne.symm (hf_69 _ _ hp_56))]; exact hp_105
  have hp_107 : V_92 a_86 = some (.inl (D.2.1, 8, .inl (fun _ => 0))) := by rw [hV_93, xu_n (Ne.symm (hf_89 _ _ hp_74))]; exact hp_90
  refine x_newa1 (pc := 58) (N := 8) E hw (ty := .int) (t0 := 0) (cA := D.2.1) rfl rfl (x_nm0 E.2.2.2.2.1) rfl q175 (by decide) rfl (Nat.le_of_ble_eq_true rfl) (Nat.le_of_ble_eq_true rfl) (Nat.le_of_ble_eq_true rfl) dX0_init_58 (fun a_108 V_109 H hf_111 hV_110 hw => ?_)
  have nn_x_a_108 : x ≠ a_108 := hf_111 _ _ hp_94
  have nn_D121_a_108 : D.1.2.1 ≠ a_108 := hf_111 _ _ hp_96
  have nn_a_1_a_108 : a_1 ≠ a_108 := hf_111 _ _ hp_98
  have nn_a_18_a_108 : a_18 ≠ a_108 := hf_111 _ _ hp_100
  have nn_a_32_a_108 : a_32 ≠ a_108 := hf_111 _ _ hp_102
  have nn_a_48_a_108 : a_48 ≠ a_108 := hf_111 _ _ hp_104
  have nn_a_66_a_108 : a_66 ≠ a_108 := hf_111 _ _ hp_106
  have nn_a_86_a_108 : a_86 ≠ a_108 := hf_111 _ _ hp_107
  have hp_112 : V_109 a_108 = some (.inl (D.2.1, 8, .inl (fun _ => 0))) := by rw [hV_110]; exact xu_s _ _ _
  have hp_113 : V_109 x = some (.inr (0, [.int 0, .int 0, .ref a_1, .ref a_18, .int 0, .ref a_32, .ref a_48, .int 0, .long 0, .int 0, .int 0, .ref a_66, .int 0, .int 0, .ref a_86, .null, .int 0, .null, .null, .null])) := by rw [hV_110, xu_n (hf_111 _ _ hp_94)]; exact hp_94
  refine x_putF1 (pc := 60) (v := .ref a_108) E hw 15 hp_113 (C := RX0) (T := TX0) (N := 20) rfl in_X0 tyX0 tyX0_ok (Nat.le_of_ble_eq_true rfl) q128 (fun _ h => h) rfl hin2 rfl (tyX0_ok 15 (Nat.le_of_ble_eq_true rfl)) rfl rfl (Nat.le_of_ble_eq_true rfl) (fun j hj hne => Or.inl (nmX0 j hj 15 (Nat.le_of_ble_eq_true rfl) hne)) dX0_init_60 (fun V_114 H locs hV_115 hw => ?_)
  replace hV_115 : V_114 = xu V_109 x (.inr (0, [.int 0, .int 0, .ref a_1, .ref a_18, .int 0, .ref a_32, .ref a_48, .int 0, .long 0, .int 0, .int 0, .ref a_66, .int 0, .int 0, .ref a_86, .ref a_108, .int 0, .null, .null, .null])) := hV_115
  have hp_116 : V_114 x = some (.inr (0, [.int 0, .int 0, .ref a_1, .ref a_18, .int 0, .ref a_32, .ref a_48, .int 0, .long 0, .int 0, .int 0, .ref a_66, .int 0, .int 0, .ref a_86, .ref a_108, .int 0, .null, .null, .null])) := by rw [hV_115]; exact xu_s _ _ _
  refine lv_aload_n (pc := 63) hx hb dX0_init_63 rfl (lv_at hl 0 rfl) ?_
  have hp_117 : V_109 D.1.2.1 = some (.inl (D.2.2.2.2, 0, .inr (.inr (.inr (.inr f0))))) := by rw [hV_110, xu_n (hf_111 _ _ hp_96)]; exact hp_96
  have hp_118 : V_114 D.1.2.1 = some (.inl (D.2.2.2.2, 0, .inr (.inr (.inr (.inr f0))))) := by rw [hV_115, xu_n (Ne.symm hxE)]; exact hp_117
  have hp_119 : V_109 a_1 = some (.inr (8, [.int 0, .ref D.1.2.1, .int 0])) := by rw [hV_110, xu_n (hf_111 _ _ hp_98)]; exact hp_98
  have hp_120 : V_114 a_1 = some (.inr (8, [.int 0, .ref D.1.2.1, .int 0])) := by rw [hV_115, xu_n (Ne.symm (hf_4 _ _ h1))]; exact hp_119
  have hp_121 : V_109 a_18 = some (.inl (D.2.1, 8, .inl (fun _ => 0))) := by rw [hV_110, xu_n (hf_111 _ _ hp_100)]; exact hp_100
  have hp_122 : V_114 a_18 = some (.inl (D.2.1, 8, .inl (fun _ => 0))) := by rw [hV_115, xu_n (Ne.symm (hf_21 _ _ hp_13))]; exact hp_121
  have hp_123 : V_109 a_32 = some (.inl (D.2.1, 10, .inl (fun _ => 0))) := by rw [hV_110, xu_n (hf_111 _ _ hp_102)]; exact hp_102
  have hp_124 : V_114 a_32 = some (.inl (D.2.1, 10, .inl (fun _ => 0))) := by rw [hV_115, xu_n (Ne.symm (hf_35 _ _ hp_26))]; exact hp_123
  have hp_125 : V_109 a_48 = some (.inl (D.2.1, 10, .inl (fun _ => 0))) := by rw [hV_110, xu_n (hf_111 _ _ hp_104)]; exact hp_104
  have hp_126 : V_114 a_48 = some (.inl (D.2.1, 10, .inl (fun _ => 0))) := by rw [hV_115, xu_n (Ne.symm (hf_51 _ _ hp_40))]; exact hp_125
  have hp_127 : V_109 a_66 = some (.inl (D.2.1, 10, .inl (fun _ => 0))) := by rw [hV_110, xu_n (hf_111 _ _ hp_106)]; exact hp_106
  have hp_128 : V_114 a_66 = some (.inl (D.2.1, 10, .inl (fun _ => 0))) := by rw [hV_115, xu_n (Ne.symm (hf_69 _ _ hp_56))]; exact hp_127
  have hp_129 : V_109 a_86 = some (.inl (D.2.1, 8, .inl (fun _ => 0))) := by rw [hV_110, xu_n (hf_111 _ _ hp_107)]; exact hp_107
  have hp_130 : V_114 a_86 = some (.inl (D.2.1, 8, .inl (fun _ => 0))) := by rw [hV_115, xu_n (Ne.symm (hf_89 _ _ hp_74))]; exact hp_129
  have hp_131 : V_114 a_108 = some (.inl (D.2.1, 8, .inl (fun _ => 0))) := by rw [hV_115, xu_n (Ne.symm (hf_111 _ _ hp_94))]; exact hp_112
  refine x_new1 (pc := 64) (fs := [.int 0, .null, .int 0]) E hw (ci := 8) (C := RJ2) (T := TJ2) (N := 3) rfl in_J2 tyJ2 tyJ2_ok q85 q86 q51 (by decide) (Nat.le_of_ble_eq_true rfl) (Nat.le_of_ble_eq_true rfl) dX0_init_64 (fun a_132 V_133 H hf_135 hV_134 hw => ?_)
  have nn_x_a_132 : x ≠ a_132 := hf_135 _ _ hp_116
  have nn_D121_a_132 : D.1.2.1 ≠ a_132 := hf_135 _ _ hp_118
  have nn_a_1_a_132 : a_1 ≠ a_132 := hf_135 _ _ hp_120
  have nn_a_18_a_132 : a_18 ≠ a_132 := hf_135 _ _ hp_122
  have nn_a_32_a_132 : a_32 ≠ a_132 := hf_135 _ _ hp_124
  have nn_a_48_a_132 : a_48 ≠ a_132 := hf_135 _ _ hp_126
  have nn_a_66_a_132 : a_66 ≠ a_132 := hf_135 _ _ hp_128
  have nn_a_86_a_132 : a_86 ≠ a_132 := hf_135 _ _ hp_130
  have nn_a_108_a_132 : a_108 ≠ a_132 := hf_135 _ _ hp_131
  have hp_136 : V_133 a_132 = some (.inr (8, [.int 0, .null, .int 0])) := by rw [hV_134]; exact xu_s _ _ _
  refine lv_dup (pc := 67) hx hb dX0_init_67 rfl ?_
  refine x_goWn hw (x_runI (pc := 68) (As := []) (rest := [.ref a_132, .ref x]) (b := a_132) E hml hl.1 (x_preS E hw.2 hw.1) (xtJ2_init l D A V_133 a_132 hp_136) q87 q88 q51 q89 rfl hdJ2_init.2 ⟨Nat.le_of_ble_eq_true rfl, Nat.le_of_ble_eq_true rfl⟩ rfl rfl rfl (Nat.le_of_ble_eq_true rfl) dX0_init_68 ⟨Nat.le_of_ble_eq_true rfl, Nat.le_of_ble_eq_true rfl⟩) (fun V_137 H locs hF_138 hw => ?_)
  have hp_139 : V_137 a_132 = some (.inr (8, [.int 0, .ref D.1.2.1, .int 0])) := by rw [hF_138]; exact xu_s _ _ _
  have hp_140 : V_133 x = some (.inr (0, [.int 0, .int 0, .ref a_1, .ref a_18, .int 0, .ref a_32, .ref a_48, .int 0, .long 0, .int 0, .int 0, .ref a_66, .int 0, .int 0, .ref a_86, .ref a_108, .int 0, .null, .null, .null])) := by rw [hV_134, xu_n (hf_135 _ _ hp_116)]; exact hp_116
  have hp_141 : V_137 x = some (.inr (0, [.int 0, .int 0, .ref a_1, .ref a_18, .int 0, .ref a_32, .ref a_48, .int 0, .long 0, .int 0, .int 0, .ref a_66, .int 0, .int 0, .ref a_86, .ref a_108, .int 0, .null, .null, .null])) := by rw [hF_138, xu_n (hf_135 _ _ hp_116)]; exact hp_140
  refine x_putF1 (pc := 71) (v := .ref a_132) E hw 17 hp_141 (C := RX0) (T := TX0) (N := 20) rfl in_X0 tyX0 tyX0_ok (Nat.le_of_ble_eq_true rfl) q130 (fun _ h => h) rfl hin2 rfl (tyX0_ok 17 (Nat.le_of_ble_eq_true rfl)) rfl rfl (Nat.le_of_ble_eq_true rfl) (fun j hj hne => Or.inl (nmX0 j hj 17 (Nat.le_of_ble_eq_true rfl) hne)) dX0_init_71 (fun V_142 H locs hV_143 hw => ?_)
  replace hV_143 : V_142 = xu V_137 x (.inr (0, [.int 0, .int 0, .ref a_1, .ref a_18, .int 0, .ref a_32, .ref a_48, .int 0, .long 0, .int 0, .int 0, .ref a_66, .int 0, .int 0, .ref a_86, .ref a_108, .int 0, .ref a_132, .null, .null])) := hV_143
  have hp_144 : V_142 x = some (.inr (0, [.int 0, .int 0, .ref a_1, .ref a_18, .int 0, .ref a_32, .ref a_48, .int 0, .long 0, .int 0, .int 0, .ref a_66, .int 0, .int 0, .ref a_86, .ref a_108, .int 0, .ref a_132, .null, .null])) := by rw [hV_143]; exact xu_s _ _ _
  refine lv_aload_n (pc := 74) hx hb dX0_init_74 rfl (lv_at hl 0 rfl) ?_
  have hp_145 : V_133 D.1.2.1 = some (.inl (D.2.2.2.2, 0, .inr (.inr (.inr (.inr f0))))) := by rw [hV_134, xu_n (hf_135 _ _ hp_118)]; exact hp_118
  have hp_146 : V_137 D.1.2.1 = some (.inl (D.2.2.2.2, 0, .inr (.inr (.inr (.inr f0))))) := by rw [hF_138, xu_n (hf_135 _ _ hp_118)]; exact hp_145
  have hp_147 : V_142 D.1.2.1 = some (.inl (D.2.2.2.2, 0, .inr (.inr (.inr (.inr f0))))) := by rw [hV_143, xu_n (Ne.symm hxE)]; exact hp_146
  have hp_148 : V_133 a_1 = some (.inr (8, [.int 0, .ref D.1.2.1, .int 0])) := by rw [hV_134, xu_n (hf_135 _ _ hp_120)]; exact hp_120
  have hp_149 : V_137 a_1 = some (.inr (8, [.int 0, .ref D.1.2.1, .int 0])) := by rw [hF_138, xu_n (hf_135 _ _ hp_120)]; exact hp_148
  have hp_150 : V_142 a_1 = some (.inr (8, [.int 0, .ref D.1.2.1, .int 0])) := by rw [hV_143, xu_n (Ne.symm (hf_4 _ _ h1))]; exact hp_149
  have hp_151 : V_133 a_18 = some (.inl (D.2.1, 8, .inl (fun _ => 0))) := by rw [hV_134, xu_n (hf_135 _ _ hp_122)]; exact hp_122
  have hp_152 : V_137 a_18 = some (.inl (D.2.1, 8, .inl (fun _ => 0))) := by rw [hF_138, xu_n (hf_135 _ _ hp_122)]; exact hp_151
  have hp_153 : V_142 a_18 = some (.inl (D.2.1, 8, .inl (fun _ => 0))) := by rw [hV_143, xu_n (Ne.symm (hf_21 _ _ hp_13))]; exact hp_152
  have hp_154 : V_133 a_32 = some (.inl (D.2.1, 10, .inl (fun _ => 0))) := by rw [hV_134, xu_n (hf_135 _ _ hp_124)]; exact hp_124
  have hp_155 : V_137 a_32 = some (.inl (D.2.1, 10, .inl (fun _ => 0))) := by rw [hF_138, xu_n (hf_135 _ _ hp_124)]; exact hp_154
  have hp_156 : V_142 a_32 = some (.inl (D.2.1, 10, .inl (fun _ => 0))) := by rw [hV_143, xu_n (Ne.symm (hf_35 _ _ hp_26))]; exact hp_155
  have hp_157 : V_133 a_48 = some (.inl (D.2.1, 10, .inl (fun _ => 0))) := by rw [hV_134, xu_n (hf_135 _ _ hp_126)]; exact hp_126
  have hp_158 : V_137 a_48 = some (.inl (D.2.1, 10, .inl (fun _ => 0))) := by rw [hF_138, xu_n (hf_135 _ _ hp_126)]; exact hp_157
  have hp_159 : V_142 a_48 = some (.inl (D.2.1, 10, .inl (fun _ => 0))) := by rw [hV_143, xu_n (Ne.symm (hf_51 _ _ hp_40))]; exact hp_158
  have hp_160 : V_133 a_66 = some (.inl (D.2.1, 10, .inl (fun _ => 0))) := by rw [hV_134, xu_n (hf_135 _ _ hp_128)]; exact hp_128
  have hp_161 : V_137 a_66 = some (.inl (D.2.1, 10, .inl (fun _ => 0))) := by rw [hF_138, xu_n (hf_135 _ _ hp_128)]; exact hp_160
  have hp_162 : V_142 a_66 = some (.inl (D.2.1, 10, .inl (fun _ => 0))) := by rw [hV_143, xu_n (Ne.symm (hf_69 _ _ hp_56))]; exact hp_161
  have hp_163 : V_133 a_86 = some (.inl (D.2.1, 8, .inl (fun _ => 0))) := by rw [hV_134, xu_n (hf_135 _ _ hp_130)]; exact hp_130
  have hp_164 : V_137 a_86 = some (.inl (D.2.1, 8, .inl (fun _ => 0))) := by rw [hF_138, xu_n (hf_135 _ _ hp_130)]; exact hp_163
  have hp_165 : V_142 a_86 = some (.inl (D.2.1, 8, .inl (fun _ => 0))) := by rw [hV_143, xu_n (Ne.symm (hf_89 _ _ hp_74))]; exact hp_164
  have hp_166 : V_133 a_108 = some (.inl (D.2.1, 8, .inl (fun _ => 0))) := by rw [hV_134, xu_n (hf_135 _ _ hp_131)]; exact hp_131
  have hp_167 : V_137 a_108 = some (.inl (D.2.1, 8, .inl (fun _ => 0))) := by rw [hF_138, xu_n (hf_135 _ _ hp_131)]; exact hp_166
  have hp_168 : V_142 a_108 = some (.inl (D.2.1, 8, .inl (fun _ => 0))) := by rw [hV_143, xu_n (Ne.symm (hf_111 _ _ hp_94))]; exact hp_167
  have hp_169 : V_142 a_132 = some (.inr (8, [.int 0, .ref D.1.2.1, .int 0])) := by rw [hV_143, xu_n (Ne.symm (hf_135 _ _ hp_116))]; exact hp_139
  refine x_new1 (pc := 75) (fs := [.int 0, .null, .int 0]) E hw (ci := 8) (C := RJ2) (T := TJ2) (N := 3) rfl in_J2 tyJ2 tyJ2_ok q85 q86 q51 (by decide) (Nat.le_of_ble_eq_true rfl) (Nat.le_of_ble_eq_true rfl) dX0_init_75 (fun a_170 V_171 H hf_173 hV_172 hw => ?_)
  have nn_x_a_170 : x ≠ a_170 := hf_173 _ _ hp_144
  have nn_D121_a_170 : D.1.2.1 ≠ a_170 := hf_173 _ _ hp_147
  have nn_a_1_a_170 : a_1 ≠ a_170 := hf_173 _ _ hp_150
  have nn_a_18_a_170 : a_18 ≠ a_170 := hf_173 _ _ hp_153
  have nn_a_32_a_170 : a_32 ≠ a_170 := hf_173 _ _ hp_156
  have nn_a_48_a_170 : a_48 ≠ a_170 := hf_173 _ _ hp_159
  have nn_a_66_a_170 : a_66 ≠ a_170 := hf_173 _ _ hp_162
  have nn_a_86_a_170 : a_86 ≠ a_170 := hf_173 _ _ hp_165
  have nn_a_108_a_170 : a_108 ≠ a_170 := hf_173 _ _ hp_168
  have nn_a_132_a_170 : a_132 ≠ a_170 := hf_173 _ _ hp_169
  have hp_174 : V_171 a_170 = some (.inr (8, [.int 0, .null, .int 0])) := by rw [hV_172]; exact xu_s _ _ _
  refine lv_dup (pc := 78) hx hb dX0_init_78 rfl ?_
  refine x_goWn hw (x_runI (pc := 79) (As := []) (rest := [.ref a_170, .ref x]) (b := a_170) E hml hl.1 (x_preS E hw.2 hw.1) (xtJ2_init l D A V_171 a_170 hp_174) q87 q88 q51 q89 rfl hdJ2_init.2 ⟨Nat.le_of_ble_eq_true rfl, Nat.le_of_ble_eq_true rfl⟩ rfl rfl rfl (Nat.le_of_ble_eq_true rfl) dX0_init_79 ⟨Nat.le_of_ble_eq_true rfl, Nat.le_of_ble_eq_true rfl⟩) (fun V_175 H locs hF_176 hw => ?_)
  have hp_177 : V_175 a_170 = some (.inr (8, [.int 0, .ref D.1.2.1, .int 0])) := by rw [hF_176]; exact xu_s _ _ _
  have hp_178 : V_171 x = some (.inr (0, [.int 0, .int 0, .ref a_1, .ref a_18, .int 0, .ref a_32, .ref a_48, .int 0, .long 0, .int 0, .int 0, .ref a_66, .int 0, .int 0, .ref a_86, .ref a_108, .int 0, .ref a_132, .null, .null])) := by rw [hV_172, xu_n (hf_173 _ _ hp_144)]; exact hp_144
  have hp_179 : V_175 x = some (.inr (0, [.int 0, .int 0, .ref a_1, .ref a_18, .int 0, .ref a_32, .ref a_48, .int 0, .long 0, .int 0, .int 0, .ref a_66, .int 0, .int 0, .ref a_86, .ref a_108, .int 0, .ref a_132, .null, .null])) := by rw [hF_176, xu_n (hf_173 _ _ hp_144)]; exact hp_178
  refine x_putF1 (pc := 82) (v := .ref a_170) E hw 18 hp_179 (C := RX0) (T := TX0) (N := 20) rfl in_X0 tyX0 tyX0_ok (Nat.le_of_ble_eq_true rfl) q132 (fun _ h => h) rfl hin2 rfl (tyX0_ok 18 (Nat.le_of_ble_eq_true rfl)) rfl rfl (Nat.le_of_ble_eq_true rfl) (fun j hj hne => Or.inl (nmX0 j hj 18 (Nat.le_of_ble_eq_true rfl) hne)) dX0_init_82 (fun V_180 H locs hV_181 hw => ?_)
  replace hV_181 : V_180 = xu V_175 x (.inr (0, [.int 0, .int 0, .ref a_1, .ref a_18, .int 0, .ref a_32, .ref a_48, .int 0, .long 0, .int 0, .int 0, .ref a_66, .int 0, .int 0, .ref a_86, .ref a_108, .int 0, .ref a_132, .ref a_170, .null])) := hV_181
  have hp_182 : V_180 x = some (.inr (0, [.int 0, .int 0, .ref a_1, .ref a_18, .int 0, .ref a_32, .ref a_48, .int 0, .long 0, .int 0, .int 0, .ref a_66, .int 0, .int 0, .ref a_86, .ref a_108, .int 0, .ref a_132, .ref a_170, .null])) := by rw [hV_181]; exact xu_s _ _ _
  refine lv_aload_n (pc := 85) hx hb dX0_init_85 rfl (lv_at hl 0 rfl) ?_
  refine lv_iconst (pc := 86) (v := 4) hx hb dX0_init_86 (by decide) ?_
  have hp_183 : V_171 D.1.2.1 = some (.inl (D.2.2.2.2, 0, .inr (.inr (.inr (.inr f0))))) := by rw [hV_172, xu_n (hf_173 _ _ hp_147)]; exact hp_147
  have hp_184 : V_175 D.1.2.1 = some (.inl (D.2.2.2.2, 0, .inr (.inr (.inr (.inr f0))))) := by rw [hF_176, xu_n (hf_173 _ _ hp_147)]; exact hp_183
  have hp_185 : V_180 D.1.2.1 = some (.inl (D.2.2.2.2, 0, .inr (.inr (.inr (.inr f0))))) := by rw [hV_181, xu_n (Ne.symm hxE)]; exact hp_184
  have hp_186 : V_171 a_1 = some (.inr (8, [.int 0, .ref D.1.2.1, .int 0])) := by rw [hV_172, xu_n (hf_173 _ _ hp_150)]; exact hp_150
  have hp_187 : V_175 a_1 = some (.inr (8, [.int 0, .ref D.1.2.1, .int 0])) := by rw [hF_176, xu_n (hf_173 _ _ hp_150)]; exact hp_186
  have hp_188 : V_180 a_1 = some (.inr (8, [.int 0, .ref D.1.2.1, .int 0])) := by rw [hV_181, xu_n (Ne.symm (hf_4 _ _ h1))]; exact hp_187
  have hp_189 : V_171 a_18 = some (.inl (D.2.1, 8, .inl (fun _ => 0))) := by rw [hV_172, xu_n (hf_173 _ _ hp_153)]; exact hp_153
  have hp_190 : V_175 a_18 = some (.inl (D.2.1, 8, .inl (fun _ => 0))) := by rw [hF_176, xu_n (hf_173 _ _ hp_153)]; exact hp_189
  have hp_191 : V_180 a_18 = some (.inl (D.2.1, 8, .inl (fun _ => 0))) := by rw [hV_181, xu_n (Ne.symm (hf_21 _ _ hp_13))]; exact hp_190
  have hp_192 : V_171 a_32 = some (.inl (D.2.1, 10, .inl (fun _ => 0))) := by rw [hV_172, xu_n (hf_173 _ _ hp_156)]; exact hp_156
  have hp_193 : V_175 a_32 = some (.inl (D.2.1, 10, .inl (fun _ => 0))) := by rw [hF_176, xu_n (hf_173 _ _ hp_156)]; exact hp_192
  have hp_194 : V_180 a_32 = some (.inl (D.2.1, 10, .inl (fun _ => 0))) := by rw [hV_181, xu_n (Ne.symm (hf_35 _ _ hp_26))]; exact hp_193
  have hp_195 : V_171 a_48 = some (.inl (D.2.1, 10, .inl (fun _ => 0))) := by rw [hV_172, xu_n (hf_173 _ _ hp_159)]; exact hp_159
  have hp_196 : V_175 a_48 = some (.inl (D.2.1, 10, .inl (fun _ => 0))) := by rw [hF_176, xu_n (hf_173 _ _ hp_159)]; exact hp_195
  have hp_197 : V_180 a_48 = some (.inl (D.2.1, 10, .inl (fun _ => 0))) := by rw [hV_181, xu_n (Ne.symm (hf_51 _ _ hp_40))]; exact hp_196
  have hp_198 : V_171 a_66 = some (.inl (D.2.1, 10, .inl (fun _ => 0))) := by rw [hV_172, xu_n (hf_173 _ _ hp_162)]; exact hp_162
  have hp_199 : V_175 a_66 = some (.inl (D.2.1, 10, .inl (fun _ => 0))) := by rw [hF_176, xu_n (hf_173 _ _ hp_162)]; exact hp_198
  have hp_200 : V_180 a_66 = some (.inl (D.2.1, 10, .inl (fun _ => 0))) := by rw [hV_181, xu_n (Ne.symm (hf_69 _ _ hp_56))]; exact hp_199
  have hp_201 : V_171 a_86 = some (.inl (D.2.1, 8, .inl (fun _ => 0))) := by rw [hV_172, xu_n (hf_173 _ _ hp_165)]; exact hp_165
  have hp_202 : V_175 a_86 = some (.inl (D.2.1, 8, .inl (fun _ => 0))) := by rw [hF_176, xu_n (hf_173 _ _ hp_165)]; exact hp_201
  have hp_203 : V_180 a_86 = some (.inl (D.2.1, 8, .inl (fun _ => 0))) := by rw [hV_181, xu_n (Ne.symm (hf_89 _ _ hp_74))]; exact hp_202
  have hp_204 : V_171 a_108 = some (.inl (D.2.1, 8, .inl (fun _ => 0))) := by rw [hV_172, xu_n (hf_173 _ _ hp_168)]; exact hp_168
  have hp_205 : V_175 a_108 = some (.inl (D.2.1, 8, .inl (fun _ => 0))) := by rw [hF_176, xu_n (hf_173 _ _ hp_168)]; exact hp_204
  have hp_206 : V_180 a_108 = some (.inl (D.2.1, 8, .inl (fun _ => 0))) := by rw [hV_181, xu_n (Ne.symm (hf_111 _ _ hp_94))]; exact hp_205
  have hp_207 : V_171 a_132 = some (.inr (8, [.int 0, .ref D.1.2.1, .int 0])) := by rw [hV_172, xu_n (hf_173 _ _ hp_169)]; exact hp_169
  have hp_208 : V_175 a_132 = some (.inr (8, [.int 0, .ref D.1.2.1, .int 0])) := by rw [hF_176, xu_n (hf_173 _ _ hp_169)]; exact hp_207
  have hp_209 : V_180 a_132 = some (.inr (8, [.int 0, .ref D.1.2.1, .int 0])) := by rw [hV_181, xu_n (Ne.symm (hf_135 _ _ hp_116))]; exact hp_208
  have hp_210 : V_180 a_170 = some (.inr (8, [.int 0, .ref D.1.2.1, .int 0])) := by rw [hV_181, xu_n (Ne.symm (hf_173 _ _ hp_144))]; exact hp_177
  refine x_newo1 (pc := 87) (N := 4) E hw q111 (by decide) rfl (Nat.le_of_ble_eq_true rfl) (Nat.le_of_ble_eq_true rfl) (Nat.le_of_ble_eq_true rfl) dX0_init_87 (fun a_211 V_212 H hf_214 hV_213 hw => ?_)
  have nn_x_a_211 : x ≠ a_211 := hf_214 _ _ hp_182
  have nn_D121_a_211 : D.1.2.1 ≠ a_211 := hf_214 _ _ hp_185
  have nn_a_1_a_211 : a_1 ≠ a_211 := hf_214 _ _ hp_188
  have nn_a_18_a_211 : a_18 ≠ a_211 := hf_214 _ _ hp_191
  have nn_a_32_a_211 : a_32 ≠ a_211 := hf_214 _ _ hp_194
  have nn_a_48_a_211 : a_48 ≠ a_211 := hf_214 _ _ hp_197
  have nn_a_66_a_211 : a_66 ≠ a_211 := hf_214 _ _ hp_200
  have nn_a_86_a_211 : a_86 ≠ a_211 := hf_214 _ _ hp_203
  have nn_a_108_a_211 : a_108 ≠ a_211 := hf_214 _ _ hp_206
  have nn_a_132_a_211 : a_132 ≠ a_211 := hf_214 _ _ hp_209
  have nn_a_170_a_211 : a_170 ≠ a_211 := hf_214 _ _ hp_210
  have hp_215 : V_212 a_211 = some (.inl (D.2.2.2.2, 4, .inr (.inr (.inr (.inr (fun _ => none)))))) := by rw [hV_213]; exact xu_s _ _ _
  have hp_216 : V_212 x = some (.inr (0, [.int 0, .int 0, .ref a_1, .ref a_18, .int 0, .ref a_32, .ref a_48, .int 0, .long 0, .int 0, .int 0, .ref a_66, .int 0, .int 0, .ref a_86, .ref a_108, .int 0, .ref a_132, .ref a_170, .null])) := by rw [hV_213, xu_n (hf_214 _ _ hp_182)]; exact hp_182
  refine x_putF1 (pc := 90) (v := .ref a_211) E hw 19 hp_216 (C := RX0) (T := TX0) (N := 20) rfl in_X0 tyX0 tyX0_ok (Nat.le_of_ble_eq_true rfl) q133 (fun _ h => h) rfl hin2 rfl (tyX0_ok 19 (Nat.le_of_ble_eq_true rfl)) rfl rfl (Nat.le_of_ble_eq_true rfl) (fun j hj hne => Or.inl (nmX0 j hj 19 (Nat.le_of_ble_eq_true rfl) hne)) dX0_init_90 (fun V_217 H locs hV_218 hw => ?_)
  replace hV_218 : V_217 = xu V_212 x (.inr (0, [.int 0, .int 0, .ref a_1, .ref a_18, .int 0, .ref a_32, .ref a_48, .int 0, .long 0, .int 0, .int 0, .ref a_66, .int 0, .int 0, .ref a_86, .ref a_108, .int 0, .ref a_132, .ref a_170, .ref a_211])) := hV_218
  have hp_219 : V_217 x = some (.inr (0, [.int 0, .int 0, .ref a_1, .ref a_18, .int 0, .ref a_32, .ref a_48, .int 0, .long 0, .int 0, .int 0, .ref a_66, .int 0, .int 0, .ref a_86, .ref a_108, .int 0, .ref a_132, .ref a_170, .ref a_211])) := by rw [hV_218]; exact xu_s _ _ _
  refine x_more 10 67 (Nat.le_of_ble_eq_true rfl) (Nat.le_of_ble_eq_true rfl) ?_
  have hp_220 : V_212 D.1.2.1 = some (.inl (D.2.2.2.2, 0, .inr (.inr (.inr (.inr f0))))) := by rw [hV_213, xu_n (hf_214 _ _ hp_185)]; exact hp_185
  have hp_221 : V_217 D.1.2.1 = some (.inl (D.2.2.2.2, 0, .inr (.inr (.inr (.inr f0))))) := by rw [hV_218, xu_n (Ne.symm hxE)]; exact hp_220
  have hp_222 : V_212 a_1 = some (.inr (8, [.int 0, .ref D.1.2.1, .int 0])) := by rw [hV_213, xu_n (hf_214 _ _ hp_188)]; exact hp_188
  have hp_223 : V_217 a_1 = some (.inr (8, [.int 0, .ref D.1.2.1, .int 0])) := by rw [hV_218, xu_n (Ne.symm (hf_4 _ _ h1))]; exact hp_222
  have hp_224 : V_212 a_18 = some (.inl (D.2.1, 8, .inl (fun _ => 0))) := by rw [hV_213, xu_n (hf_214 _ _ hp_191)]; exact hp_191
  have hp_225 : V_217 a_18 = some (.inl (D.2.1, 8, .inl (fun _ => 0))) := by rw [hV_218, xu_n (Ne.symm (hf_21 _ _ hp_13))]; exact hp_224
  have hp_226 : V_212 a_32 = some (.inl (D.2.1, 10, .inl (fun _ => 0))) := by rw [hV_213, xu_n (hf_214 _ _ hp_194)]; exact hp_194
  have hp_227 : V_217 a_32 = some (.inl (D.2.1, 10, .inl (fun _ => 0))) := by rw [hV_218, xu_n (Ne.symm (hf_35 _ _ hp_26))]; exact hp_226
  have hp_228 : V_212 a_48 = some (.inl (D.2.1, 10, .inl (fun _ => 0))) := by rw [hV_213, xu_n (hf_214 _ _ hp_197)]; exact hp_197
  have hp_229 : V_217 a_48 = some (.inl (D.2.1, 10, .inl (fun _ => 0))) := by rw [hV_218, xu_n (Ne.symm (hf_51 _ _ hp_40))]; exact hp_228
  have hp_230 : V_212 a_66 = some (.inl (D.2.1, 10, .inl (fun _ => 0))) := by rw [hV_213, xu_n (hf_214 _ _ hp_200)]; exact hp_200
  have hp_231 : V_217 a_66 = some (.inl (D.2.1, 10, .inl (fun _ => 0))) := by rw [hV_218, xu_n (Ne.symm (hf_69 _ _ hp_56))]; exact hp_230
  have hp_232 : V_212 a_86 = some (.inl (D.2.1, 8, .inl (fun _ => 0))) := by rw [hV_213, xu_n (hf_214 _ _ hp_203)]; exact hp_203
  have hp_233 : V_217 a_86 = some (.inl (D.2.1, 8, .inl (fun _ => 0))) := by rw [hV_218, xu_n (Ne.symm (hf_89 _ _ hp_74))]; exact hp_232
  have hp_234 : V_212 a_108 = some (.inl (D.2.1, 8, .inl (fun _ => 0))) := by rw [hV_213, xu_n (hf_214 _ _ hp_206)]; exact hp_206
  have hp_235 : V_217 a_108 = some (.inl (D.2.1, 8, .inl (fun _ => 0))) := by rw [hV_218, xu_n (Ne.symm (hf_111 _ _ hp_94))]; exact hp_234
  have hp_236 : V_212 a_132 = some (.inr (8, [.int 0, .ref D.1.2.1, .int 0])) := by rw [hV_213, xu_n (hf_214 _ _ hp_209)]; exact hp_209
  have hp_237 : V_217 a_132 = some (.inr (8, [.int 0, .ref D.1.2.1, .int 0])) := by rw [hV_218, xu_n (Ne.symm (hf_135 _ _ hp_116))]; exact hp_236
  have hp_238 : V_212 a_170 = some (.inr (8, [.int 0, .ref D.1.2.1, .int 0])) := by rw [hV_213, xu_n (hf_214 _ _ hp_210)]; exact hp_210
  have hp_239 : V_217 a_170 = some (.inr (8, [.int 0, .ref D.1.2.1, .int 0])) := by rw [hV_218, xu_n (Ne.symm (hf_173 _ _ hp_144))]; exact hp_238
  have hp_240 : V_217 a_211 = some (.inl (D.2.2.2.2, 4, .inr (.inr (.inr (.inr (fun _ => none)))))) := by rw [hV_218, xu_n (Ne.symm (hf_214 _ _ hp_182))]; exact hp_215
  refine x_vret E hr hlk hw dX0_init_93 ⟨rfl, ((fun i j => if i = 0 then (if j = 0 then x else if j = 2 then a_1 else if j = 3 then a_18 else if j = 5 then a_32 else if j = 6 then a_48 else if j = 11 then a_66 else if j = 14 then a_86 else if j = 15 then a_108 else if j = 17 then a_132 else if j = 18 then a_170 else if j = 19 then a_211 else 0) else D.1.2.1) : xG), rfl, ?_, ⟨?_, ⟨f0, hp_221⟩⟩, ?_⟩
  · intro i j hv
    rcases hv with ⟨rfl, rfl | rfl | rfl | rfl | rfl | rfl | rfl | rfl | rfl | rfl | rfl⟩ | ⟨rfl, hj⟩ | ⟨rfl, hj⟩ | ⟨rfl, hj⟩ | ⟨-, hj⟩ | ⟨rfl, hj, h8⟩
    · exact ⟨_, hp_219, ⟨0, 0, 0, rfl⟩⟩
    · exact ⟨_, hp_223, ⟨0, rfl⟩⟩
    · exact ⟨_, hp_225, ⟨_, rfl, fun i hi => rfl⟩⟩
    · exact ⟨_, hp_227, ⟨_, rfl⟩⟩
    · exact ⟨_, hp_229, ⟨_, rfl⟩⟩
    · exact ⟨_, hp_231, ⟨_, rfl, fun i hi => rfl⟩⟩
    · exact ⟨_, hp_233, ⟨_, rfl, fun i hi => rfl⟩⟩
    · exact ⟨_, hp_235, ⟨_, rfl, fun i hi => rfl⟩⟩
    · exact ⟨_, hp_237, ⟨0, rfl⟩⟩
    · exact ⟨_, hp_239, ⟨0, rfl⟩⟩
    · exact ⟨_, hp_240, ⟨_, rfl, fun k hk => (if_pos (by have : k = 0 ∨ k = 1 ∨ k = 2 ∨ k = 3 := (by omega); rcases this with rfl | rfl | rfl | rfl <;> decide)).symm⟩⟩
    · exact ⟨_, hp_221, 0, f0, rfl, Or.inl ⟨rfl, rfl⟩, Nat.le_of_eq (by have : j = 0 ∨ j = 1 ∨ j = 2 := (by omega); rcases this with rfl | rfl | rfl <;> rfl), fun q hq => absurd hq (by have : j = 0 ∨ j = 1 ∨ j = 2 := (by omega); rcases this with rfl | rfl | rfl <;> exact Nat.not_lt_zero _)⟩
    · exact absurd hj (Nat.not_lt_zero _)
    · exact absurd hj (Nat.not_lt_zero _)
    · exact absurd hj (Nat.not_lt_zero _)
    · exfalso; have : j = 0 ∨ j = 1 ∨ j = 2 ∨ j = 3 := (by omega); rcases this with rfl | rfl | rfl | rfl <;> exact absurd h8 (by decide)
  · intro i j i' j' h1 h2 e
    rcases h1 with ⟨rfl, rfl | rfl | rfl | rfl | rfl | rfl | rfl | rfl | rfl | rfl | rfl⟩ | ⟨rfl, hj⟩ | ⟨rfl, hj⟩ | ⟨rfl, hj⟩ | ⟨-, hj⟩ | ⟨rfl, hj, h8⟩
    · rcases h2 with ⟨rfl, rfl | rfl | rfl | rfl | rfl | rfl | rfl | rfl | rfl | rfl | rfl⟩ | ⟨rfl, hj2⟩ | ⟨rfl, hj2⟩ | ⟨rfl, hj2⟩ | ⟨-, hj2⟩ | ⟨rfl, hj2, h82⟩
      · exact Or.inl ⟨rfl, rfl⟩
      · exact absurd (show x = a_1 from e) nn_x_a_1
      · exact absurd (show x = a_18 from e) nn_x_a_18
      · exact absurd (show x = a_32 from e) nn_x_a_32
      · exact absurd (show x = a_48 from e) nn_x_a_48
      · exact absurd (show x = a_66 from e) nn_x_a_66
      · exact absurd (show x = a_86 from e) nn_x_a_86
      · exact absurd (show x = a_108 from e) nn_x_a_108
      · exact absurd (show x = a_132 from e) nn_x_a_132
      · exact absurd (show x = a_170 from e) nn_x_a_170
      · exact absurd (show x = a_211 from e) nn_x_a_211
      · exact absurd (show x = D.1.2.1 from e) hxE
      · exact absurd hj2 (Nat.not_lt_zero _)
      · exact absurd hj2 (Nat.not_lt_zero _)
      · exact absurd hj2 (Nat.not_lt_zero _)
      · exfalso; have : j' = 0 ∨ j' = 1 ∨ j' = 2 ∨ j' = 3 := (by omega); rcases this with rfl | rfl | rfl | rfl <;> exact absurd h82 (by decide)
    · rcases h2 with ⟨rfl, rfl | rfl | rfl | rfl | rfl | rfl | rfl | rfl | rfl | rfl | rfl⟩ | ⟨rfl, hj2⟩ | ⟨rfl, hj2⟩ | ⟨rfl, hj2⟩ | ⟨-, hj2⟩ | ⟨rfl, hj2, h82⟩
      · exact absurd (show a_1 = x from e) (Ne.symm nn_x_a_1)
      · exact Or.inl ⟨rfl, rfl⟩
      · exact absurd (show a_1 = a_18 from e) nn_a_1_a_18
      · exact absurd (show a_1 = a_32 from e) nn_a_1_a_32
      · exact absurd (show a_1 = a_48 from e) nn_a_1_a_48
      · exact absurd (show a_1 = a_66 from e) nn_a_1_a_66
      · exact absurd (show a_1 = a_86 from e) nn_a_1_a_86
      · exact absurd (show a_1 = a_108 from e) nn_a_1_a_108
      · exact absurd (show a_1 = a_132 from e) nn_a_1_a_132
      · exact absurd (show a_1 = a_170 from e) nn_a_1_a_170
      · exact absurd (show a_1 = a_211 from e) nn_a_1_a_211
      · exact absurd (show a_1 = D.1.2.1 from e) (Ne.symm nn_D121_a_1)
      · exact absurd hj2 (Nat.not_lt_zero _)
      · exact absurd hj2 (Nat.not_lt_zero _)
      · exact absurd hj2 (Nat.not_lt_zero _)
      · exfalso; have : j' = 0 ∨ j' = 1 ∨ j' = 2 ∨ j' = 3 := (by omega); rcases this with rfl | rfl | rfl | rfl <;> exact absurd h82 (by decide)
    · rcases h2 with ⟨rfl, rfl | rfl | rfl | rfl | rfl | rfl | rfl | rfl | rfl | rfl | rfl⟩ | ⟨rfl, hj2⟩ | ⟨rfl, hj2⟩ | ⟨rfl, hj2⟩ | ⟨-, hj2⟩ | ⟨rfl, hj2, h82⟩
      · exact absurd (show a_18 = x from e) (Ne.symm nn_x_a_18)
      · exact absurd (show a_18 = a_1 from e) (Ne.symm nn_a_1_a_18)
      · exact Or.inl ⟨rfl, rfl⟩
      · exact absurd (show a_18 = a_32 from e) nn_a_18_a_32
      · exact absurd (show a_18 = a_48 from e) nn_a_18_a_48
      · exact absurd (show a_18 = a_66 from e) nn_a_18_a_66
      · exact absurd (show a_18 = a_86 from e) nn_a_18_a_86
      · exact absurd (show a_18 = a_108 from e) nn_a_18_a_108
      · exact absurd (show a_18 = a_132 from e) nn_a_18_a_132
      · exact absurd (show a_18 = a_170 from e) nn_a_18_a_170
      · exact absurd (show a_18 = a_211 from e) nn_a_18_a_211
      · exact absurd (show a_18 = D.1.2.1 from e) (Ne.symm nn_D121_a_18)
      · exact absurd hj2 (Nat.not_lt_zero _)
      · exact absurd hj2 (Nat.not_lt_zero _)
      · exact absurd hj2 (Nat.not_lt_zero _)
      · exfalso; have : j' = 0 ∨ j' = 1 ∨ j' = 2 ∨ j' = 3 := (by omega); rcases this with rfl | rfl | rfl | rfl <;> exact absurd h82 (by decide)
    · rcases h2 with ⟨rfl, rfl | rfl | rfl | rfl | rfl | rfl | rfl | rfl | rfl | rfl | rfl⟩ | ⟨rfl, hj2⟩ | ⟨rfl, hj2⟩ | ⟨rfl, hj2⟩ | ⟨-, hj2⟩ | ⟨rfl, hj2, h82⟩
      · exact absurd (show a_32 = x from e) (Ne.symm nn_x_a_32)
      · exact absurd (show a_32 = a_1 from e) (Ne.symm nn_a_1_a_32)
      · exact absurd (show a_32 = a_18 from e) (Ne.symm nn_a_18_a_32)
      · exact Or.inl ⟨rfl, rfl⟩
      · exact absurd (show a_32 = a_48 from e) nn_a_32_a_48
      · exact absurd (show a_32 = a_66 from e) nn_a_32_a_66
      · exact absurd (show a_32 = a_86 from e) nn_a_32_a_86
      · exact absurd (show a_32 = a_108 from e) nn_a_32_a_108
      · exact absurd (show a_32 = a_132 from e) nn_a_32_a_132
      · exact absurd (show a_32 = a_170 from e) nn_a_32_a_170
      · exact absurd (show a_32 = a_211 from e) nn_a_32_a_211
      · exact absurd (show a_32 = D.1.2.1 from e) (Ne.symm nn_D121_a_32)
      · exact absurd hj2 (Nat.not_lt_zero _)
      · exact absurd hj2 (Nat.not_lt_zero _)
      · exact absurd hj2 (Nat.not_lt_zero _)
      · exfalso; have : j' = 0 ∨ j' = 1 ∨ j' = 2 ∨ j' = 3 := (by omega); rcases this with rfl | rfl | rfl | rfl <;> exact absurd h82 (by decide)
    · rcases h2 with ⟨rfl, rfl | rfl | rfl | rfl | rfl | rfl | rfl | rfl | rfl | rfl | rfl⟩ | ⟨rfl, hj2⟩ | ⟨rfl, hj2⟩ | ⟨rfl, hj2⟩ | ⟨-, hj2⟩ | ⟨rfl, hj2, h82⟩
      · exact absurd (show a_48 = x from e) (Ne.symm nn_x_a_48)
      · exact absurd (show a_48 = a_1 from e) (Ne.symm nn_a_1_a_48)
      · exact absurd (show a_48 = a_18 from e) (Ne.symm nn_a_18_a_48)
      · exact absurd (show a_48 = a_32 from e) (Ne.symm nn_a_32_a_48)
      · exact Or.inl ⟨rfl, rfl⟩
      · exact absurd (show a_48 = a_66 from e) nn_a_48_a_66
      · exact absurd (show a_48 = a_86 from e) nn_a_48_a_86
      · exact absurd (show a_48 = a_108 from e) nn_a_48_a_108
      · exact absurd (show a_48 = a_132 from e) nn_a_48_a_132
      · exact absurd (show a_48 = a_170 from e) nn_a_48_a_170
      · exact absurd (show a_48 = a_211 from e) nn_a_48_a_211
      · exact absurd (show a_48 = D.1.2.1 from e) (Ne.symm nn_D121_a_48)
      · exact absurd hj2 (Nat.not_lt_zero _)
      · exact absurd hj2 (Nat.not_lt_zero _)
      · exact absurd hj2 (Nat.not_lt_zero _)
      · exfalso; have : j' = 0 ∨ j' = 1 ∨ j' = 2 ∨ j' = 3 := (by omega); rcases this with rfl | rfl | rfl | rfl <;> exact absurd h82 (by decide)
    · rcases h2 with ⟨rfl, rfl | rfl | rfl | rfl | rfl | rfl | rfl | rfl | rfl | rfl | rfl⟩ | ⟨rfl, hj2⟩ | ⟨rfl, hj2⟩ | ⟨rfl, hj2⟩ | ⟨-, hj2⟩ | ⟨rfl, hj2, h82⟩
      · exact absurd (show a_66 = x from e) (Ne.symm nn_x_a_66)
      · exact absurd (show a_66 = a_1 from e) (Ne.symm nn_a_1_a_66)
      · exact absurd (show a_66 = a_18 from e) (Ne.symm nn_a_18_a_66)
      · exact absurd (show a_66 = a_32 from e) (Ne.symm nn_a_32_a_66)
      · exact absurd (show a_66 = a_48 from e) (Ne.symm nn_a_48_a_66)
      · exact Or.inl ⟨rfl, rfl⟩
      · exact absurd (show a_66 = a_86 from e) nn_a_66_a_86
      · exact absurd (show a_66 = a_108 from e) nn_a_66_a_108
      · exact absurd (show a_66 = a_132 from e) nn_a_66_a_132
      · exact absurd (show a_66 = a_170 from e) nn_a_66_a_170
      · exact absurd (show a_66 = a_211 from e) nn_a_66_a_211
      · exact absurd (show a_66 = D.1.2.1 from e) (Ne.symm nn_D121_a_66)
      · exact absurd hj2 (Nat.not_lt_zero _)
      · exact absurd hj2 (Nat.not_lt_zero _)
      · exact absurd hj2 (Nat.not_lt_zero _)
      · exfalso; have : j' = 0 ∨ j' = 1 ∨ j' = 2 ∨ j' = 3 := (by omega); rcases this with rfl | rfl | rfl | rfl <;> exact absurd h82 (by decide)
    · rcases h2 with ⟨rfl, rfl | rfl | rfl | rfl | rfl | rfl | rfl | rfl | rfl | rfl | rfl⟩ | ⟨rfl, hj2⟩ | ⟨rfl, hj2⟩ | ⟨rfl, hj2⟩ | ⟨-, hj2⟩ | ⟨rfl, hj2, h82⟩
      · exact absurd (show a_86 = x from e) (Ne.symm nn_x_a_86)
      · exact absurd (show a_86 = a_1 from e) (Ne.symm nn_a_1_a_86)
      · exact absurd (show a_86 = a_18 from e) (Ne.symm nn_a_18_a_86)
      · exact absurd (show a_86 = a_32 from e) (Ne.symm nn_a_32_a_86)
      · exact absurd (show a_86 = a_48 from e) (Ne.symm nn_a_48_a_86)
      · exact absurd (show a_86 = a_66 from e) (Ne.symm nn_a_66_a_86)
      · exact Or.inl ⟨rfl, rfl⟩
      · exact absurd (show a_86 = a_108 from e) nn_a_86_a_108
      · exact absurd (show a_86 = a_132 from e) nn_a_86_a_132
      · exact absurd (show a_86 = a_170 from e) nn_a_86_a_170
      · exact absurd (show a_86 = a_211 from e) nn_a_86_a_211
      · exact absurd (show a_86 = D.1.2.1 from e) (Ne.symm nn_D121_a_86)
      · exact absurd hj2 (Nat.not_lt_zero _)
      · exact absurd hj2 (Nat.not_lt_zero _)
      · exact absurd hj2 (Nat.not_lt_zero _)
      · exfalso; have : j' = 0 ∨ j' = 1 ∨ j' = 2 ∨ j' = 3 := (by omega); rcases this with rfl | rfl | rfl | rfl <;> exact absurd h82 (by decide)
    · rcases h2 with ⟨rfl, rfl | rfl | rfl | rfl | rfl | rfl | rfl | rfl | rfl | rfl | rfl⟩ | ⟨rfl, hj2⟩ | ⟨rfl, hj2⟩ | ⟨rfl, hj2⟩ | ⟨-, hj2⟩ | ⟨rfl, hj2, h82⟩
      · exact absurd (show a_108 = x from e) (Ne.symm nn_x_a_108)
      · exact absurd (show a_108 = a_1 from e) (Ne.symm nn_a_1_a_108)
      · exact absurd (show a_108 = a_18 from e) (Ne.symm nn_a_18_a_108)
      · exact absurd (show a_108 = a_32 from e) (Ne.symm nn_a_32_a_108)
      · exact absurd (show a_108 = a_48 from e) (Ne.symm nn_a_48_a_108)
      · exact absurd (show a_108 = a_66 from e) (Ne.symm nn_a_66_a_108)
      · exact absurd (show a_108 = a_86 from e) (Ne.symm nn_a_86_a_108)
      · exact Or.inl ⟨rfl, rfl⟩
      · exact absurd (show a_108 = a_132 from e) nn_a_108_a_132
      · exact absurd (show a_108 = a_170 from e) nn_a_108_a_170
      · exact absurd (show a_108 = a_211 from e) nn_a_108_a_211
      · exact absurd (show a_108 = D.1.2.1 from e) (Ne.symm nn_D121_a_108)
      · exact absurd hj2 (Nat.not_lt_zero _)
      · exact absurd hj2 (Nat.not_lt_zero _)
      · exact absurd hj2 (Nat.not_lt_zero _)
      · exfalso; have : j' = 0 ∨ j' = 1 ∨ j' = 2 ∨ j' = 3 := (by omega); rcases this with rfl | rfl | rfl | rfl <;> exact absurd h82 (by decide)
    · rcases h2 with ⟨rfl, rfl | rfl | rfl | rfl | rfl | rfl | rfl | rfl | rfl | rfl | rfl⟩ | ⟨rfl, hj2⟩ | ⟨rfl, hj2⟩ | ⟨rfl, hj2⟩ | ⟨-, hj2⟩ | ⟨rfl, hj2, h82⟩
      · exact absurd (show a_132 = x from e) (Ne.symm nn_x_a_132)
      · exact absurd (show a_132 = a_1 from e) (Ne.symm nn_a_1_a_132)
      · exact absurd (show a_132 = a_18 from e) (Ne.symm nn_a_18_a_132)
      · exact absurd (show a_132 = a_32 from e) (Ne.symm nn_a_32_a_132)
      · exact absurd (show a_132 = a_48 from e) (Ne.symm nn_a_48_a_132)
      · exact absurd (show a_132 = a_66 from e) (Ne.symm nn_a_66_a_132)
      · exact absurd (show a_132 = a_86 from e) (Ne.symm nn_a_86_a_132)
      · exact absurd (show a_132 = a_108 from e) (Ne.symm nn_a_108_a_132)
      · exact Or.inl ⟨rfl, rfl⟩
      · exact absurd (show a_132 = a_170 from e) nn_a_132_a_170
      · exact absurd (show a_132 = a_211 from e) nn_a_132_a_211
      · exact absurd (show a_132 = D.1.2.1 from e) (Ne.symm nn_D121_a_132)
      · exact absurd hj2 (Nat.not_lt_zero _)
      · exact absurd hj2 (Nat.not_lt_zero _)
      · exact absurd hj2 (Nat.not_lt_zero _)
      · exfalso; have : j' = 0 ∨ j' = 1 ∨ j' = 2 ∨ j' = 3 := (by omega); rcases this with rfl | rfl | rfl | rfl <;> exact absurd h82 (by decide)
    · rcases h2 with ⟨rfl, rfl | rfl | rfl | rfl | rfl | rfl | rfl | rfl | rfl | rfl | rfl⟩ | ⟨rfl, hj2⟩ | ⟨rfl, hj2⟩ | ⟨rfl, hj2⟩ | ⟨-, hj2⟩ | ⟨rfl, hj2, h82⟩
      · exact absurd (show a_170 = x from e) (Ne.symm nn_x_a_170)
      · exact absurd (show a_170 = a_1 from e) (Ne.symm nn_a_1_a_170)
      · exact absurd (show a_170 = a_18 from e) (Ne.symm nn_a_18_a_170)
      · exact absurd (show a_170 = a_32 from e) (Ne.symm nn_a_32_a_170)
      · exact absurd (show a_170 = a_48 from e) (Ne.symm nn_a_48_a_170)
      · exact absurd (show a_170 = a_66 from e) (Ne.symm nn_a_66_a_170)
      · exact absurd (show a_170 = a_86 from e) (Ne.symm nn_a_86_a_170)
      · exact absurd (show a_170 = a_108 from e) (Ne.symm nn_a_108_a_170)
      · exact absurd (show a_170 = a_132 from e) (Ne.symm nn_a_132_a_170)
      · exact Or.inl ⟨rfl, rfl⟩
      · exact absurd (show a_170 = a_211 from e) nn_a_170_a_211
      · exact absurd (show a_170 = D.1.2.1 from e) (Ne.symm nn_D121_a_170)
      · exact absurd hj2 (Nat.not_lt_zero _)
      · exact absurd hj2 (Nat.not_lt_zero _)
      · exact absurd hj2 (Nat.not_lt_zero _)
      · exfalso; have : j' = 0 ∨ j' = 1 ∨ j' = 2 ∨ j' = 3 := (by omega); rcases this with rfl | rfl | rfl | rfl <;> exact absurd h82 (by decide)
    · rcases h2 with ⟨rfl, rfl | rfl | rfl | rfl | rfl | rfl | rfl | rfl | rfl | rfl | rfl⟩ | ⟨rfl, hj2⟩ | ⟨rfl, hj2⟩ | ⟨rfl, hj2⟩ | ⟨-, hj2⟩ | ⟨rfl, hj2, h82⟩
      · exact absurd (show a_211 = x from e) (Ne.symm nn_x_a_211)
      · exact absurd (show a_211 = a_1 from e) (Ne.symm nn_a_1_a_211)
      · exact absurd (show a_211 = a_18 from e) (Ne.symm nn_a_18_a_211)
      · exact absurd (show a_211 = a_32 from e) (Ne.symm nn_a_32_a_211)
      · exact absurd (show a_211 = a_48 from e) (Ne.symm nn_a_48_a_211)
      · exact absurd (show a_211 = a_66 from e) (Ne.symm nn_a_66_a_211)
      · exact absurd (show a_211 = a_86 from e) (Ne.symm nn_a_86_a_211)
      · exact absurd (show a_211 = a_108 from e) (Ne.symm nn_a_108_a_211)
      · exact absurd (show a_211 = a_132 from e) (Ne.symm nn_a_132_a_211)
      · exact absurd (show a_211 = a_170 from e) (Ne.symm nn_a_170_a_211)
      · exact Or.inl ⟨rfl, rfl⟩
      · exact absurd (show a_211 = D.1.2.1 from e) (Ne.symm nn_D121_a_211)
      · exact absurd hj2 (Nat.not_lt_zero _)
      · exact absurd hj2 (Nat.not_lt_zero _)
      · exact absurd hj2 (Nat.not_lt_zero _)
      · exfalso; have : j' = 0 ∨ j' = 1 ∨ j' = 2 ∨ j' = 3 := (by omega); rcases this with rfl | rfl | rfl | rfl <;> exact absurd h82 (by decide)
    · rcases h2 with ⟨rfl, rfl | rfl | rfl | rfl | rfl | rfl | rfl | rfl | rfl | rfl | rfl⟩ | ⟨rfl, hj2⟩ | ⟨rfl, hj2⟩ | ⟨rfl, hj2⟩ | ⟨-, hj2⟩ | ⟨rfl, hj2, h82⟩
      · exact absurd (show D.1.2.1 = x from e) (Ne.symm hxE)
      · exact absurd (show D.1.2.1 = a_1 from e) nn_D121_a_1
      · exact absurd (show D.1.2.1 = a_18 from e) nn_D121_a_18
      · exact absurd (show D.1.2.1 = a_32 from e) nn_D121_a_32
      · exact absurd (show D.1.2.1 = a_48 from e) nn_D121_a_48
      · exact absurd (show D.1.2.1 = a_66 from e) nn_D121_a_66
      · exact absurd (show D.1.2.1 = a_86 from e) nn_D121_a_86
      · exact absurd (show D.1.2.1 = a_108 from e) nn_D121_a_108
      · exact absurd (show D.1.2.1 = a_132 from e) nn_D121_a_132
      · exact absurd (show D.1.2.1 = a_170 from e) nn_D121_a_170
      · exact absurd (show D.1.2.1 = a_211 from e) nn_D121_a_211
      · exact Or.inr ⟨rfl, rfl, rfl⟩
      · exact absurd hj2 (Nat.not_lt_zero _)
      · exact absurd hj2 (Nat.not_lt_zero _)
      · exact absurd hj2 (Nat.not_lt_zero _)
      · exfalso; have : j' = 0 ∨ j' = 1 ∨ j' = 2 ∨ j' = 3 := (by omega); rcases this with rfl | rfl | rfl | rfl <;> exact absurd h82 (by decide)
    · exact absurd hj (Nat.not_lt_zero _)
    · exact absurd hj (Nat.not_lt_zero _)
    · exact absurd hj (Nat.not_lt_zero _)
    · exfalso; have : j = 0 ∨ j = 1 ∨ j = 2 ∨ j = 3 := (by omega); rcases this with rfl | rfl | rfl | rfl <;> exact absurd h8 (by decide)
  · intro j hj
    exact absurd hj (Nat.not_lt_zero _)
