/-! constructors -/
set_option maxHeartbeats 4000000 in
set_option maxRecDepth 100000 in
theorem xtX2_init_1 (l : Launch) (D : xD) (A : Nat → Prop) (V : xV) (q x : Nat) (a : Int32) (b : Int32) (d : Int32) (h1 : V q = some (.inr (1, [.int 0, .int 0, .int 0, .int 0, .null]))) : Met l yX2_init (ws_ yX2_init cX2_init 5 none) (xRm 3 0 0) (xP D A V [.ref q, .ref x, .int a, .int b, .int d]) (xQ D A (fun ρ V' => ρ = none ∧ V' = xu V q (.inr (1, [.int a, .int b, .int d, .int 0, .ref x])))) 0 0 A := by
  refine x_headW (own := RX2) (As := [.ref q, .ref x, .int a, .int b, .int d]) (bytes := cX2_init) (maxL := 5) (ret := none) (by decide) rfl (Nat.le_of_ble_eq_true rfl) ?_
  intro p e s m below meth c E hml hr hlk hin2 hw ls hl
  have hx := E.1
  have hb := E.2.1
  have hts := E.2.2.1
  have hown := E.2.2.2.1
  have hl : lv_has ls 5 [(0, .ref q), (1, .ref x), (2, .int a), (3, .int b), (4, .int d)] := hl
  refine lv_aload_n (pc := 0) hx hb dX2_init_0 rfl (lv_at hl 0 rfl) ?_
  refine lv_aload_n (pc := 1) hx hb dX2_init_1 rfl (lv_at hl 1 rfl) ?_
  refine x_putF1 (pc := 2) (v := .ref x) E hw 4 h1 (C := RX2) (T := TX2) (N := 5) rfl in_X2 tyX2 tyX2_ok (Nat.le_of_ble_eq_true rfl) q215 (fun _ h => h) rfl hin2 rfl (tyX2_ok 4 (Nat.le_of_ble_eq_true rfl)) rfl rfl (Nat.le_of_ble_eq_true rfl) (by intro j hj hne; have h_ : j = 0 ∨ j = 1 ∨ j = 2 ∨ j = 3 := (by omega); rcases h_ with rfl | rfl | rfl | rfl; exact Or.inl (by decide); exact Or.inl (by decide); exact Or.inl (by decide); exact Or.inl (by decide)) dX2_init_2 (fun V_1 H locs hV_2 hw => ?_)
  replace hV_2 : V_1 = xu V q (.inr (1, [.int 0, .int 0, .int 0, .int 0, .ref x])) := hV_2
  have hp_3 : V_1 q = some (.inr (1, [.int 0, .int 0, .int 0, .int 0, .ref x])) := by rw [hV_2]; exact xu_s _ _ _
  refine lv_aload_n (pc := 5) hx hb dX2_init_5 rfl (lv_at hl 0 rfl) ?_
  refine W.objInit (g := F0 m 6 ls [.ref q]) hx hb hown (hts _ q204) (hts _ q83) (hts _ q84) rfl (by rw [hml]; exact hl.1) rfl dX2_init_6 (Nat.le_of_ble_eq_true rfl) (Nat.le_of_ble_eq_true rfl) ?_
  refine lv_aload_n (pc := 9) hx hb dX2_init_9 rfl (lv_at hl 0 rfl) ?_
  refine lv_iload_n (pc := 10) hx hb dX2_init_10 rfl (lv_at hl 2 rfl) ?_
  refine x_putF1 (pc := 11) (v := .int a) E hw 0 hp_3 (C := RX2) (T := TX2) (N := 5) rfl in_X2 tyX2 tyX2_ok (Nat.le_of_ble_eq_true rfl) q205 (fun _ h => h) rfl hin2 rfl (tyX2_ok 0 (Nat.le_of_ble_eq_true rfl)) rfl rfl (Nat.le_of_ble_eq_true rfl) (fun j hj hne => Or.inl (nmX2 j hj 0 (Nat.le_of_ble_eq_true rfl) hne)) dX2_init_11 (fun V_4 H locs hV_5 hw => ?_)
  replace hV_5 : V_4 = xu V_1 q (.inr (1, [.int a, .int 0, .int 0, .int 0, .ref x])) := hV_5
  have hp_6 : V_4 q = some (.inr (1, [.int a, .int 0, .int 0, .int 0, .ref x])) := by rw [hV_5]; exact xu_s _ _ _
  refine lv_aload_n (pc := 14) hx hb dX2_init_14 rfl (lv_at hl 0 rfl) ?_
  refine lv_iload_n (pc := 15) hx hb dX2_init_15 rfl (lv_at hl 3 rfl) ?_
  refine x_putF1 (pc := 16) (v := .int b) E hw 1 hp_6 (C := RX2) (T := TX2) (N := 5) rfl in_X2 tyX2 tyX2_ok (Nat.le_of_ble_eq_true rfl) q207 (fun _ h => h) rfl hin2 rfl (tyX2_ok 1 (Nat.le_of_ble_eq_true rfl)) rfl rfl (Nat.le_of_ble_eq_true rfl) (fun j hj hne => Or.inl (nmX2 j hj 1 (Nat.le_of_ble_eq_true rfl) hne)) dX2_init_16 (fun V_7 H locs hV_8 hw => ?_)
  replace hV_8 : V_7 = xu V_4 q (.inr (1, [.int a, .int b, .int 0, .int 0, .ref x])) := hV_8
  have hp_9 : V_7 q = some (.inr (1, [.int a, .int b, .int 0, .int 0, .ref x])) := by rw [hV_8]; exact xu_s _ _ _
  refine lv_aload_n (pc := 19) hx hb dX2_init_19 rfl (lv_at hl 0 rfl) ?_
  refine lv_iload (pc := 20) hx hb dX2_init_20 (lv_at hl 4 rfl) ?_
  refine x_putF1 (pc := 22) (v := .int d) E hw 2 hp_9 (C := RX2) (T := TX2) (N := 5) rfl in_X2 tyX2 tyX2_ok (Nat.le_of_ble_eq_true rfl) q211 (fun _ h => h) rfl hin2 rfl (tyX2_ok 2 (Nat.le_of_ble_eq_true rfl)) rfl rfl (Nat.le_of_ble_eq_true rfl) (fun j hj hne => Or.inl (nmX2 j hj 2 (Nat.le_of_ble_eq_true rfl) hne)) dX2_init_22 (fun V_10 H locs hV_11 hw => ?_)
  replace hV_11 : V_10 = xu V_7 q (.inr (1, [.int a, .int b, .int d, .int 0, .ref x])) := hV_11
  have hp_12 : V_10 q = some (.inr (1, [.int a, .int b, .int d, .int 0, .ref x])) := by rw [hV_11]; exact xu_s _ _ _
  exact x_vret E hr hlk hw dX2_init_25 ⟨rfl, by rw [hV_11, hV_8, hV_5, hV_2, xu_xu, xu_xu, xu_xu]⟩
set_option maxHeartbeats 4000000 in
set_option maxRecDepth 100000 in
theorem xtX2_init_2 (l : Launch) (D : xD) (A : Nat → Prop) (V : xV) (q x : Nat) (w0 : Value) (a : Int32) (b : Int32) (d : Int32) (h1 : V q = some (.inr (2, [.int 0, .int 0, .int 0, .int 0, w0, .ref x]))) : Met l yX2_init (ws_ yX2_init cX2_init 5 none) (xRm 3 0 0) (xP D A V [.ref q, .ref x, .int a, .int b, .int d]) (xQ D A (fun ρ V' => ρ = none ∧ V' = xu V q (.inr (2, [.int a, .int b, .int d, .int 0, .ref x, .ref x])))) 0 0 A := by
  refine x_headW (own := RX2) (As := [.ref q, .ref x, .int a, .int b, .int d]) (bytes := cX2_init) (maxL := 5) (ret := none) (by decide) rfl (Nat.le_of_ble_eq_true rfl) ?_
  intro p e s m below meth c E hml hr hlk hin2 hw ls hl
  have hx := E.1
  have hb := E.2.1
  have hts := E.2.2.1
  have hown := E.2.2.2.1
  have hl : lv_has ls 5 [(0, .ref q), (1, .ref x), (2, .int a), (3, .int b), (4, .int d)] := hl
  refine lv_aload_n (pc := 0) hx hb dX2_init_0 rfl (lv_at hl 0 rfl) ?_
  refine lv_aload_n (pc := 1) hx hb dX2_init_1 rfl (lv_at hl 1 rfl) ?_
  refine x_putF1 (pc := 2) (v := .ref x) E hw 4 h1 (C := RX3) (T := TX3) (N := 6) rfl in_X3 tyX3 tyX3_ok (Nat.le_of_ble_eq_true rfl) q215 (fun _ h => h) rfl hin2 rfl (tyX3_ok 4 (Nat.le_of_ble_eq_true rfl)) rfl rfl (Nat.le_of_ble_eq_true rfl) (by intro j hj hne; have h_ : j = 0 ∨ j = 1 ∨ j = 2 ∨ j = 3 ∨ j = 5 := (by omega); rcases h_ with rfl | rfl | rfl | rfl | rfl; exact Or.inl (by decide); exact Or.inl (by decide); exact Or.inl (by decide); exact Or.inl (by decide); exact Or.inr rfl) dX2_init_2 (fun V_1 H locs hV_2 hw => ?_)
  replace hV_2 : V_1 = xu V q (.inr (2, [.int 0, .int 0, .int 0, .int 0, .ref x, .ref x])) := hV_2
  have hp_3 : V_1 q = some (.inr (2, [.int 0, .int 0, .int 0, .int 0, .ref x, .ref x])) := by rw [hV_2]; exact xu_s _ _ _
  refine lv_aload_n (pc := 5) hx hb dX2_init_5 rfl (lv_at hl 0 rfl) ?_
  refine W.objInit (g := F0 m 6 ls [.ref q]) hx hb hown (hts _ q204) (hts _ q83) (hts _ q84) rfl (by rw [hml]; exact hl.1) rfl dX2_init_6 (Nat.le_of_ble_eq_true rfl) (Nat.le_of_ble_eq_true rfl) ?_
  refine lv_aload_n (pc := 9) hx hb dX2_init_9 rfl (lv_at hl 0 rfl) ?_
  refine lv_iload_n (pc := 10) hx hb dX2_init_10 rfl (lv_at hl 2 rfl) ?_
  refine x_putF1 (pc := 11) (v := .int a) E hw 0 hp_3 (C := RX3) (T := TX3) (N := 6) rfl in_X3 tyX3 tyX3_ok (Nat.le_of_ble_eq_true rfl) q205 (fun _ h => h) rfl hin2 rfl (tyX3_ok 0 (Nat.le_of_ble_eq_true rfl)) rfl rfl (Nat.le_of_ble_eq_true rfl) (fun j hj hne => Or.inl ((by decide : ∀ j, j < 6 → j ≠ 0 → (TX3 j).2.1 ≠ (TX3 0).2.1) j hj hne)) dX2_init_11 (fun V_4 H locs hV_5 hw => ?_)
  replace hV_5 : V_4 = xu V_1 q (.inr (2, [.int a, .int 0, .int 0, .int 0, .ref x, .ref x])) := hV_5
  have hp_6 : V_4 q = some (.inr (2, [.int a, .int 0, .int 0, .int 0, .ref x, .ref x])) := by rw [hV_5]; exact xu_s _ _ _
  refine lv_aload_n (pc := 14) hx hb dX2_init_14 rfl (lv_at hl 0 rfl) ?_
  refine lv_iload_n (pc := 15) hx hb dX2_init_15 rfl (lv_at hl 3 rfl) ?_
  refine x_putF1 (pc := 16) (v := .int b) E hw 1 hp_6 (C := RX3) (T := TX3) (N := 6) rfl in_X3 tyX3 tyX3_ok (Nat.le_of_ble_eq_true rfl) q207 (fun _ h => h) rfl hin2 rfl (tyX3_ok 1 (Nat.le_of_ble_eq_true rfl)) rfl rfl (Nat.le_of_ble_eq_true rfl) (fun j hj hne => Or.inl ((by decide : ∀ j, j < 6 → j ≠ 1 → (TX3 j).2.1 ≠ (TX3 1).2.1) j hj hne)) dX2_init_16 (fun V_7 H locs hV_8 hw => ?_)
  replace hV_8 : V_7 = xu V_4 q (.inr (2, [.int a, .int b, .int 0, .int 0, .ref x, .ref x])) := hV_8
  have hp_9 : V_7 q = some (.inr (2, [.int a, .int b, .int 0, .int 0, .ref x, .ref x])) := by rw [hV_8]; exact xu_s _ _ _
  refine lv_aload_n (pc := 19) hx hb dX2_init_19 rfl (lv_at hl 0 rfl) ?_
  refine lv_iload (pc := 20) hx hb dX2_init_20 (lv_at hl 4 rfl) ?_
  refine x_putF1 (pc := 22) (v := .int d) E hw 2 hp_9 (C := RX3) (T := TX3) (N := 6) rfl in_X3 tyX3 tyX3_ok (Nat.le_of_ble_eq_true rfl) q211 (fun _ h => h) rfl hin2 rfl (tyX3_ok 2 (Nat.le_of_ble_eq_true rfl)) rfl rfl (Nat.le_of_ble_eq_true rfl) (fun j hj hne => Or.inl ((by decide : ∀ j, j < 6 → j ≠ 2 → (TX3 j).2.1 ≠ (TX3 2).2.1) j hj hne)) dX2_init_22 (fun V_10 H locs hV_11 hw => ?_)
  replace hV_11 : V_10 = xu V_7 q (.inr (2, [.int a, .int b, .int d, .int 0, .ref x, .ref x])) := hV_11
  have hp_12 : V_10 q = some (.inr (2, [.int a, .int b, .int d, .int 0, .ref x, .ref x])) := by rw [hV_11]; exact xu_s _ _ _
  exact x_vret E hr hlk hw dX2_init_25 ⟨rfl, by rw [hV_11, hV_8, hV_5, hV_2, xu_xu, xu_xu, xu_xu]⟩
set_option maxHeartbeats 4000000 in
set_option maxRecDepth 100000 in
theorem xtX2_init_3 (l : Launch) (D : xD) (A : Nat → Prop) (V : xV) (q x : Nat) (w0 : Value) (a : Int32) (b : Int32) (d : Int32) (h1 : V q = some (.inr (3, [.int 0, .int 0, .int 0, .int 0, w0, .int 0, .ref x]))) : Met l yX2_init (ws_ yX2_init cX2_init 5 none) (xRm 3 0 0) (xP D A V [.ref q, .ref x, .int a, .int b, .int d]) (xQ D A (fun ρ V' => ρ = none ∧ V' = xu V q (.inr (3, [.int a, .int b, .int d, .int 0, .ref x, .int 0, .ref x])))) 0 0 A := by
  refine x_headW (own := RX2) (As := [.ref q, .ref x, .int a, .int b, .int d]) (bytes := cX2_init) (maxL := 5) (ret := none) (by decide) rfl (Nat.le_of_ble_eq_true rfl) ?_
  intro p e s m below meth c E hml hr hlk hin2 hw ls hl
  have hx := E.1
  have hb := E.2.1
  have hts := E.2.2.1
  have hown := E.2.2.2.1
  have hl : lv_has ls 5 [(0, .ref q), (1, .ref x), (2, .int a), (3, .int b), (4, .int d)] := hl
  refine lv_aload_n (pc := 0) hx hb dX2_init_0 rfl (lv_at hl 0 rfl) ?_
  refine lv_aload_n (pc := 1) hx hb dX2_init_1 rfl (lv_at hl 1 rfl) ?_
  refine x_putF1 (pc := 2) (v := .ref x) E hw 4 h1 (C := RX4) (T := TX4) (N := 7) rfl in_X4 tyX4 tyX4_ok (Nat.le_of_ble_eq_true rfl) q215 (fun _ h => h) rfl hin2 rfl (tyX4_ok 4 (Nat.le_of_ble_eq_true rfl)) rfl rfl (Nat.le_of_ble_eq_true rfl) (by intro j hj hne; have h_ : j = 0 ∨ j = 1 ∨ j = 2 ∨ j = 3 ∨ j = 5 ∨ j = 6 := (by omega); rcases h_ with rfl | rfl | rfl | rfl | rfl | rfl; exact Or.inl (by decide); exact Or.inl (by decide); exact Or.inl (by decide); exact Or.inl (by decide); exact Or.inl (by decide); exact Or.inr rfl) dX2_init_2 (fun V_1 H locs hV_2 hw => ?_)
  replace hV_2 : V_1 = xu V q (.inr (3, [.int 0, .int 0, .int 0, .int 0, .ref x, .int 0, .ref x])) := hV_2
  have hp_3 : V_1 q = some (.inr (3, [.int 0, .int 0, .int 0, .int 0, .ref x, .int 0, .ref x])) := by rw [hV_2]; exact xu_s _ _ _
  refine lv_aload_n (pc := 5) hx hb dX2_init_5 rfl (lv_at hl 0 rfl) ?_
  refine W.objInit (g := F0 m 6 ls [.ref q]) hx hb hown (hts _ q204) (hts _ q83) (hts _ q84) rfl (by rw [hml]; exact hl.1) rfl dX2_init_6 (Nat.le_of_ble_eq_true rfl) (Nat.le_of_ble_eq_true rfl) ?_
  refine lv_aload_n (pc := 9) hx hb dX2_init_9 rfl (lv_at hl 0 rfl) ?_
  refine lv_iload_n (pc := 10) hx hb dX2_init_10 rfl (lv_at hl 2 rfl) ?_
  refine x_putF1 (pc := 11) (v := .int a) E hw 0 hp_3 (C := RX4) (T := TX4) (N := 7) rfl in_X4 tyX4 tyX4_ok (Nat.le_of_ble_eq_true rfl) q205 (fun _ h => h) rfl hin2 rfl (tyX4_ok 0 (Nat.le_of_ble_eq_true rfl)) rfl rfl (Nat.le_of_ble_eq_true rfl) (fun j hj hne => Or.inl ((by decide : ∀ j, j < 7 → j ≠ 0 → (TX4 j).2.1 ≠ (TX4 0).2.1) j hj hne)) dX2_init_11 (fun V_4 H locs hV_5 hw => ?_)
  replace hV_5 : V_4 = xu V_1 q (.inr (3, [.int a, .int 0, .int 0, .int 0, .ref x, .int 0, .ref x])) := hV_5
  have hp_6 : V_4 q = some (.inr (3, [.int a, .int 0, .int 0, .int 0, .ref x, .int 0, .ref x])) := by rw [hV_5]; exact xu_s _ _ _
  refine lv_aload_n (pc := 14) hx hb dX2_init_14 rfl (lv_at hl 0 rfl) ?_
  refine lv_iload_n (pc := 15) hx hb dX2_init_15 rfl (lv_at hl 3 rfl) ?_
  refine x_putF1 (pc := 16) (v := .int b) E hw 1 hp_6 (C := RX4) (T := TX4) (N := 7) rfl in_X4 tyX4 tyX4_ok (Nat.le_of_ble_eq_true rfl) q207 (fun _ h => h) rfl hin2 rfl (tyX4_ok 1 (Nat.le_of_ble_eq_true rfl)) rfl rfl (Nat.le_of_ble_eq_true rfl) (fun j hj hne => Or.inl ((by decide : ∀ j, j < 7 → j ≠ 1 → (TX4 j).2.1 ≠ (TX4 1).2.1) j hj hne)) dX2_init_16 (fun V_7 H locs hV_8 hw => ?_)
  replace hV_8 : V_7 = xu V_4 q (.inr (3, [.int a, .int b, .int 0, .int 0, .ref x, .int 0, .ref x])) := hV_8
  have hp_9 : V_7 q = some (.inr (3, [.int a, .int b, .int 0, .int 0, .ref x, .int 0, .ref x])) := by rw [hV_8]; exact xu_s _ _ _
  refine lv_aload_n (pc := 19) hx hb dX2_init_19 rfl (lv_at hl 0 rfl) ?_
  refine lv_iload (pc := 20) hx hb dX2_init_20 (lv_at hl 4 rfl) ?_
  refine x_putF1 (pc := 22) (v := .int d) E hw 2 hp_9 (C := RX4) (T := TX4) (N := 7) rfl in_X4 tyX4 tyX4_ok (Nat.le_of_ble_eq_true rfl) q211 (fun _ h => h) rfl hin2 rfl (tyX4_ok 2 (Nat.le_of_ble_eq_true rfl)) rfl rfl (Nat.le_of_ble_eq_true rfl) (fun j hj hne => Or.inl ((by decide : ∀ j, j < 7 → j ≠ 2 → (TX4 j).2.1 ≠ (TX4 2).2.1) j hj hne)) dX2_init_22 (fun V_10 H locs hV_11 hw => ?_)
  replace hV_11 : V_10 = xu V_7 q (.inr (3, [.int a, .int b, .int d, .int 0, .ref x, .int 0, .ref x])) := hV_11
  have hp_12 : V_10 q = some (.inr (3, [.int a, .int b, .int d, .int 0, .ref x, .int 0, .ref x])) := by rw [hV_11]; exact xu_s _ _ _
  exact x_vret E hr hlk hw dX2_init_25 ⟨rfl, by rw [hV_11, hV_8, hV_5, hV_2, xu_xu, xu_xu, xu_xu]⟩
set_option maxHeartbeats 4000000 in
set_option maxRecDepth 100000 in
theorem xtX3_init (l : Launch) (D : xD) (A : Nat → Prop) (V : xV) (q x : Nat) (a : Int32) (b : Int32) (d : Int32) (h1 : V q = some (.inr (2, [.int 0, .int 0, .int 0, .int 0, .null, .null]))) : Met l yX3_init (ws_ yX3_init cX3_init 5 none) (xRm 4 0 0) (xP D A V [.ref q, .ref x, .int a, .int b, .int d]) (xQ D A (fun ρ V' => ρ = none ∧ V' = xu V q (.inr (2, [.int a, .int b, .int d, .int 0, .ref x, .ref x])))) 0 0 A := by
  refine x_headW (own := RX3) (As := [.ref q, .ref x, .int a, .int b, .int d]) (bytes := cX3_init) (maxL := 5) (ret := none) (by decide) rfl (Nat.le_of_ble_eq_true rfl) ?_
  intro p e s m below meth c E hml hr hlk hin2 hw ls hl
  have hx := E.1
  have hb := E.2.1
  have hts := E.2.2.1
  have hown := E.2.2.2.1
  have hl : lv_has ls 5 [(0, .ref q), (1, .ref x), (2, .int a), (3, .int b), (4, .int d)] := hl
  refine lv_aload_n (pc := 0) hx hb dX3_init_0 rfl (lv_at hl 0 rfl) ?_
  refine lv_aload_n (pc := 1) hx hb dX3_init_1 rfl (lv_at hl 1 rfl) ?_
  refine x_putF2 (pc := 2) (v := .ref x) E hw 5 4 4 h1 (C := RX3) (T := TX3) (N := 6) rfl in_X3 tyX3 tyX3_ok (Nat.le_of_ble_eq_true rfl) q233 (fun _ h => h) rfl hin2 rfl (tyX3_ok 5 (Nat.le_of_ble_eq_true rfl)) rfl rfl (Nat.le_of_ble_eq_true rfl) (Nat.le_of_ble_eq_true rfl) (Nat.le_of_ble_eq_true rfl) (by decide) (by decide) (by intro j hj hne h1_ h2_; have h_ : j = 0 ∨ j = 1 ∨ j = 2 ∨ j = 3 := (by omega); rcases h_ with rfl | rfl | rfl | rfl; exact Or.inl (by decide); exact Or.inl (by decide); exact Or.inl (by decide); exact Or.inl (by decide)) dX3_init_2 (fun w_3 w_4 V_1 H locs hV_2 hw => ?_)
  replace hV_2 : V_1 = xu V q (.inr (2, [.int 0, .int 0, .int 0, .int 0, w_4, .ref x])) := hV_2
  have hp_5 : V_1 q = some (.inr (2, [.int 0, .int 0, .int 0, .int 0, w_4, .ref x])) := by rw [hV_2]; exact xu_s _ _ _
  refine lv_aload_n (pc := 5) hx hb dX3_init_5 rfl (lv_at hl 0 rfl) ?_
  refine lv_aload_n (pc := 6) hx hb dX3_init_6 rfl (lv_at hl 1 rfl) ?_
  refine lv_iload_n (pc := 7) hx hb dX3_init_7 rfl (lv_at hl 2 rfl) ?_
  refine lv_iload_n (pc := 8) hx hb dX3_init_8 rfl (lv_at hl 3 rfl) ?_
  refine lv_iload (pc := 9) hx hb dX3_init_9 (lv_at hl 4 rfl) ?_
  refine x_goWn hw (x_runI (pc := 11) (As := [.ref x, .int a, .int b, .int d]) (rest := []) (b := q) E hml hl.1 (x_preS E hw.2 hw.1) (xtX2_init_2 l D A V_1 q x w_4 a b d hp_5) q232 q202 q53 q203 rfl hdX2_init.2 ⟨Nat.le_of_ble_eq_true rfl, Nat.le_of_ble_eq_true rfl⟩ rfl rfl rfl (Nat.le_of_ble_eq_true rfl) dX3_init_11 ⟨Nat.le_of_ble_eq_true rfl, Nat.le_of_ble_eq_true rfl⟩) (fun V_6 H locs hF_7 hw => ?_)
  have hp_8 : V_6 q = some (.inr (2, [.int a, .int b, .int d, .int 0, .ref x, .ref x])) := by rw [hF_7]; exact xu_s _ _ _
  refine x_more 0 0 (Nat.le_of_ble_eq_true rfl) (Nat.le_of_ble_eq_true rfl) ?_
  exact x_vret E hr hlk hw dX3_init_14 ⟨rfl, by rw [hF_7, hV_2, xu_xu]⟩
set_option maxHeartbeats 4000000 in
set_option maxRecDepth 100000 in
theorem xtX4_init (l : Launch) (D : xD) (A : Nat → Prop) (V : xV) (q x : Nat) (a : Int32) (b : Int32) (d : Int32) (h1 : V q = some (.inr (3, [.int 0, .int 0, .int 0, .int 0, .null, .int 0, .null]))) : Met l yX4_init (ws_ yX4_init cX4_init 5 none) (xRm 4 0 0) (xP D A V [.ref q, .ref x, .int a, .int b, .int d]) (xQ D A (fun ρ V' => ρ = none ∧ V' = xu V q (.inr (3, [.int a, .int b, .int d, .int 0, .ref x, .int 0, .ref x])))) 0 0 A := by
  refine x_headW (own := RX4) (As := [.ref q, .ref x, .int a, .int b, .int d]) (bytes := cX4_init) (maxL := 5) (ret := none) (by decide) rfl (Nat.le_of_ble_eq_true rfl) ?_
  intro p e s m below meth c E hml hr hlk hin2 hw ls hl
  have hx := E.1
  have hb := E.2.1
  have hts := E.2.2.1
  have hown := E.2.2.2.1
  have hl : lv_has ls 5 [(0, .ref q), (1, .ref x), (2, .int a), (3, .int b), (4, .int d)] := hl
  refine lv_aload_n (pc := 0) hx hb dX4_init_0 rfl (lv_at hl 0 rfl) ?_
  refine lv_aload_n (pc := 1) hx hb dX4_init_1 rfl (lv_at hl 1 rfl) ?_
  refine x_putF2 (pc := 2) (v := .ref x) E hw 6 4 4 h1 (C := RX4) (T := TX4) (N := 7) rfl in_X4 tyX4 tyX4_ok (Nat.le_of_ble_eq_true rfl) q250 (fun _ h => h) rfl hin2 rfl (tyX4_ok 6 (Nat.le_of_ble_eq_true rfl)) rfl rfl (Nat.le_of_ble_eq_true rfl) (Nat.le_of_ble_eq_true rfl) (Nat.le_of_ble_eq_true rfl) (by decide) (by decide) (by intro j hj hne h1_ h2_; have h_ : j = 0 ∨ j = 1 ∨ j = 2 ∨ j = 3 ∨ j = 5 := (by omega); rcases h_ with rfl | rfl | rfl | rfl | rfl; exact Or.inl (by decide); exact Or.inl (by decide); exact Or.inl (by decide); exact Or.inl (by decide); exact Or.inl (by decide)) dX4_init_2 (fun w_3 w_4 V_1 H locs hV_2 hw => ?_)
  replace hV_2 : V_1 = xu V q (.inr (3, [.int 0, .int 0, .int 0, .int 0, w_4, .int 0, .ref x])) := hV_2
  have hp_5 : V_1 q = some (.inr (3, [.int 0, .int 0, .int 0, .int 0, w_4, .int 0, .ref x])) := by rw [hV_2]; exact xu_s _ _ _
  refine lv_aload_n (pc := 5) hx hb dX4_init_5 rfl (lv_at hl 0 rfl) ?_
  refine lv_aload_n (pc := 6) hx hb dX4_init_6 rfl (lv_at hl 1 rfl) ?_
  refine lv_iload_n (pc := 7) hx hb dX4_init_7 rfl (lv_at hl 2 rfl) ?_
  refine lv_iload_n (pc := 8) hx hb dX4_init_8 rfl (lv_at hl 3 rfl) ?_
  refine lv_iload (pc := 9) hx hb dX4_init_9 (lv_at hl 4 rfl) ?_
  refine x_goWn hw (x_runI (pc := 11) (As := [.ref x, .int a, .int b, .int d]) (rest := []) (b := q) E hml hl.1 (x_preS E hw.2 hw.1) (xtX2_init_3 l D A V_1 q x w_4 a b d hp_5) q247 q202 q53 q203 rfl hdX2_init.2 ⟨Nat.le_of_ble_eq_true rfl, Nat.le_of_ble_eq_true rfl⟩ rfl rfl rfl (Nat.le_of_ble_eq_true rfl) dX4_init_11 ⟨Nat.le_of_ble_eq_true rfl, Nat.le_of_ble_eq_true rfl⟩) (fun V_6 H locs hF_7 hw => ?_)
  have hp_8 : V_6 q = some (.inr (3, [.int a, .int b, .int d, .int 0, .ref x, .int 0, .ref x])) := by rw [hF_7]; exact xu_s _ _ _
  refine x_more 0 0 (Nat.le_of_ble_eq_true rfl) (Nat.le_of_ble_eq_true rfl) ?_
  exact x_vret E hr hlk hw dX4_init_14 ⟨rfl, by rw [hF_7, hV_2, xu_xu]⟩
set_option maxHeartbeats 4000000 in
set_option maxRecDepth 100000 in
theorem xtX6_init (l : Launch) (D : xD) (A : Nat → Prop) (V : xV) (q : Nat) (d : Int32) (h1 : V q = some (.inr (4, [.int 0, .int 0, .int 0, .int 0, .int 0, .int 0, .int 0]))) : Met l yX6_init (ws_ yX6_init cX6_init 2 none) (xRm 3 0 0) (xP D A V [.ref q, .int d]) (xQ D A (fun ρ V' => ρ = none ∧ V' = xu V q (.inr (4, [.int d, .int 0, .int 0, .int 0, .int 0, .int 0, .int 0])))) 0 0 A := by
  refine x_headW (own := RX6) (As := [.ref q, .int d]) (bytes := cX6_init) (maxL := 2) (ret := none) (by decide) rfl (Nat.le_of_ble_eq_true rfl) ?_
  intro p e s m below meth c E hml hr hlk hin2 hw ls hl
  have hx := E.1
  have hb := E.2.1
  have hts := E.2.2.1
  have hown := E.2.2.2.1
  have hl : lv_has ls 2 [(0, .ref q), (1, .int d)] := hl
  refine lv_aload_n (pc := 0) hx hb dX6_init_0 rfl (lv_at hl 0 rfl) ?_
  refine W.objInit (g := F0 m 1 ls [.ref q]) hx hb hown (hts _ q591) (hts _ q83) (hts _ q84) rfl (by rw [hml]; exact hl.1) rfl dX6_init_1 (Nat.le_of_ble_eq_true rfl) (Nat.le_of_ble_eq_true rfl) ?_
  refine lv_aload_n (pc := 4) hx hb dX6_init_4 rfl (lv_at hl 0 rfl) ?_
  refine lv_iload_n (pc := 5) hx hb dX6_init_5 rfl (lv_at hl 1 rfl) ?_
  refine x_putF1 (pc := 6) (v := .int d) E hw 0 h1 (C := RX6) (T := TX6) (N := 7) rfl in_X6 tyX6 tyX6_ok (Nat.le_of_ble_eq_true rfl) q592 (fun _ h => h) rfl hin2 rfl (tyX6_ok 0 (Nat.le_of_ble_eq_true rfl)) rfl rfl (Nat.le_of_ble_eq_true rfl) (fun j hj hne => Or.inl (nmX6 j hj 0 (Nat.le_of_ble_eq_true rfl) hne)) dX6_init_6 (fun V_1 H locs hV_2 hw => ?_)
  replace hV_2 : V_1 = xu V q (.inr (4, [.int d, .int 0, .int 0, .int 0, .int 0, .int 0, .int 0])) := hV_2
  have hp_3 : V_1 q = some (.inr (4, [.int d, .int 0, .int 0, .int 0, .int 0, .int 0, .int 0])) := by rw [hV_2]; exact xu_s _ _ _
  exact x_vret E hr hlk hw dX6_init_9 ⟨rfl, by rw [hV_2]⟩
theorem xu_fr {V : xV} {q t : Nat} {e0 : va_E} (h : ∀ b e, xu V q e0 b = some e → b ≠ t) : (∀ b e, V b = some e → b ≠ t) ∧ q ≠ t := by
  refine ⟨fun b e hb => ?_, h q e0 (xu_s _ _ _)⟩
  by_cases hq : b = q
  · rw [hq]; exact h q e0 (xu_s _ _ _)
  · exact h b e (by rw [xu_n hq]; exact hb)
set_option maxHeartbeats 4000000 in
set_option maxRecDepth 100000 in
theorem xtX7_init_5 (l : Launch) (D : xD) (A : Nat → Prop) (V : xV) (q x : Nat) (nu : Int32) (s0 : Int32) (h1 : V q = some (.inr (5, [.int 0, .int 0, .null, .null, .null, .int 0, .null]))) : Met l yX7_init (ws_ yX7_init cX7_init 4 none) (xRm 3 3 24) (xP D A V [.ref q, .ref x, .int nu, .int s0]) (xQ D A (fun ρ V' => ρ = none ∧ ∃ t o c_, (∀ b e, V b = some e → b ≠ t) ∧ (∀ b e, V b = some e → b ≠ o) ∧ t ≠ o ∧ (∀ b e, V b = some e → b ≠ c_) ∧ t ≠ c_ ∧ o ≠ c_ ∧ V' = xu (xu (xu (xu V t (.inl (D.2.1, 8, .inl (fun _ => 0)))) o (.inl (D.2.1, 8, .inl (fun _ => 0)))) c_ (.inl (D.2.1, 8, .inl (fun _ => 0)))) q (.inr (5, [.int nu, .int s0, .ref t, .ref o, .ref c_, .int 0, .ref x])))) 3 24 A := by
  refine x_headW (own := RX7) (As := [.ref q, .ref x, .int nu, .int s0]) (bytes := cX7_init) (maxL := 4) (ret := none) (by decide) rfl (Nat.le_of_ble_eq_true rfl) ?_
  intro p e s m below meth c E hml hr hlk hin2 hw ls hl
  have hx := E.1
  have hb := E.2.1
  have hts := E.2.2.1
  have hown := E.2.2.2.1
  have hl : lv_has ls 4 [(0, .ref q), (1, .ref x), (2, .int nu), (3, .int s0)] := hl
  refine lv_aload_n (pc := 0) hx hb dX7_init_0 rfl (lv_at hl 0 rfl) ?_
  refine lv_aload_n (pc := 1) hx hb dX7_init_1 rfl (lv_at hl 1 rfl) ?_
  refine x_putF1 (pc := 2) (v := .ref x) E hw 6 h1 (C := RX7) (T := TX7) (N := 7) rfl in_X7 tyX7 tyX7_ok (Nat.le_of_ble_eq_true rfl) q664 (fun _ h => h) rfl hin2 rfl (tyX7_ok 6 (Nat.le_of_ble_eq_true rfl)) rfl rfl (Nat.le_of_ble_eq_true rfl) (by intro j hj hne; have h_ : j = 0 ∨ j = 1 ∨ j = 2 ∨ j = 3 ∨ j = 4 ∨ j = 5 := (by omega); rcases h_ with rfl | rfl | rfl | rfl | rfl | rfl; exact Or.inl (by decide); exact Or.inl (by decide); exact Or.inl (by decide); exact Or.inl (by decide); exact Or.inl (by decide); exact Or.inl (by decide)) dX7_init_2 (fun V_1 H locs hV_2 hw => ?_)
  replace hV_2 : V_1 = xu V q (.inr (5, [.int 0, .int 0, .null, .null, .null, .int 0, .ref x])) := hV_2
  have hp_3 : V_1 q = some (.inr (5, [.int 0, .int 0, .null, .null, .null, .int 0, .ref x])) := by rw [hV_2]; exact xu_s _ _ _
  refine lv_aload_n (pc := 5) hx hb dX7_init_5 rfl (lv_at hl 0 rfl) ?_
  refine W.objInit (g := F0 m 6 ls [.ref q]) hx hb hown (hts _ q655) (hts _ q83) (hts _ q84) rfl (by rw [hml]; exact hl.1) rfl dX7_init_6 (Nat.le_of_ble_eq_true rfl) (Nat.le_of_ble_eq_true rfl) ?_
  refine lv_aload_n (pc := 9) hx hb dX7_init_9 rfl (lv_at hl 0 rfl) ?_
  refine lv_bipush (pc := 10) (v := 8) hx hb dX7_init_10 (by decide) ?_
  refine x_newa1 (pc := 12) (N := 8) E hw (ty := .int) (t0 := 0) (cA := D.2.1) rfl rfl (x_nm0 E.2.2.2.2.1) rfl q175 (by decide) rfl (Nat.le_of_ble_eq_true rfl) (Nat.le_of_ble_eq_true rfl) (Nat.le_of_ble_eq_true rfl) dX7_init_12 (fun a_4 V_5 H hf_7 hV_6 hw => ?_)
  have hp_8 : V_5 a_4 = some (.inl (D.2.1, 8, .inl (fun _ => 0))) := by rw [hV_6]; exact xu_s _ _ _
  have hp_9 : V_5 q = some (.inr (5, [.int 0, .int 0, .null, .null, .null, .int 0, .ref x])) := by rw [hV_6, xu_n (hf_7 _ _ hp_3)]; exact hp_3
  refine x_putF1 (pc := 14) (v := .ref a_4) E hw 2 hp_9 (C := RX7) (T := TX7) (N := 7) rfl in_X7 tyX7 tyX7_ok (Nat.le_of_ble_eq_true rfl) q659 (fun _ h => h) rfl hin2 rfl (tyX7_ok 2 (Nat.le_of_ble_eq_true rfl)) rfl rfl (Nat.le_of_ble_eq_true rfl) (fun j hj hne => Or.inl (nmX7 j hj 2 (Nat.le_of_ble_eq_true rfl) hne)) dX7_init_14 (fun V_10 H locs hV_11 hw => ?_)
  replace hV_11 : V_10 = xu V_5 q (.inr (5, [.int 0, .int 0, .ref a_4, .null, .null, .int 0, .ref x])) := hV_11
  have hp_12 : V_10 q = some (.inr (5, [.int 0, .int 0, .ref a_4, .null, .null, .int 0, .ref x])) := by rw [hV_11]; exact xu_s _ _ _
  refine lv_aload_n (pc := 17) hx hb dX7_init_17 rfl (lv_at hl 0 rfl) ?_
  refine lv_bipush (pc := 18) (v := 8) hx hb dX7_init_18 (by decide) ?_
  refine x_newa1 (pc := 20) (N := 8) E hw (ty := .int) (t0 := 0) (cA := D.2.1) rfl rfl (x_nm0 E.2.2.2.2.1) rfl q175 (by decide) rfl (Nat.le_of_ble_eq_true rfl) (Nat.le_of_ble_eq_true rfl) (Nat.le_of_ble_eq_true rfl) dX7_init_20 (fun a_13 V_14 H hf_16 hV_15 hw => ?_)
  have hp_17 : V_14 a_13 = some (.inl (D.2.1, 8, .inl (fun _ => 0))) := by rw [hV_15]; exact xu_s _ _ _
  have hp_18 : V_14 q = some (.inr (5, [.int 0, .int 0, .ref a_4, .null, .null, .int 0, .ref x])) := by rw [hV_15, xu_n (hf_16 _ _ hp_12)]; exact hp_12
  refine x_putF1 (pc := 22) (v := .ref a_13) E hw 3 hp_18 (C := RX7) (T := TX7) (N := 7) rfl in_X7 tyX7 tyX7_ok (Nat.le_of_ble_eq_true rfl) q660 (fun _ h => h) rfl hin2 rfl (tyX7_ok 3 (Nat.le_of_ble_eq_true rfl)) rfl rfl (Nat.le_of_ble_eq_true rfl) (fun j hj hne => Or.inl (nmX7 j hj 3 (Nat.le_of_ble_eq_true rfl) hne)) dX7_init_22 (fun V_19 H locs hV_20 hw => ?_)
  replace hV_20 : V_19 = xu V_14 q (.inr (5, [.int 0, .int 0, .ref a_4, .ref a_13, .null, .int 0, .ref x])) := hV_20
  have hp_21 : V_19 q = some (.inr (5, [.int 0, .int 0, .ref a_4, .ref a_13, .null, .int 0, .ref x])) := by rw [hV_20]; exact xu_s _ _ _
  refine lv_aload_n (pc := 25) hx hb dX7_init_25 rfl (lv_at hl 0 rfl) ?_
  refine lv_bipush (pc := 26) (v := 8) hx hb dX7_init_26 (by decide) ?_
  refine x_newa1 (pc := 28) (N := 8) E hw (ty := .int) (t0 := 0) (cA := D.2.1) rfl rfl (x_nm0 E.2.2.2.2.1) rfl q175 (by decide) rfl (Nat.le_of_ble_eq_true rfl) (Nat.le_of_ble_eq_true rfl) (Nat.le_of_ble_eq_true rfl) dX7_init_28 (fun a_22 V_23 H hf_25 hV_24 hw => ?_)
  have hp_26 : V_23 a_22 = some (.inl (D.2.1, 8, .inl (fun _ => 0))) := by rw [hV_24]; exact xu_s _ _ _
  have hp_27 : V_23 q = some (.inr (5, [.int 0, .int 0, .ref a_4, .ref a_13, .null, .int 0, .ref x])) := by rw [hV_24, xu_n (hf_25 _ _ hp_21)]; exact hp_21
  refine x_putF1 (pc := 30) (v := .ref a_22) E hw 4 hp_27 (C := RX7) (T := TX7) (N := 7) rfl in_X7 tyX7 tyX7_ok (Nat.le_of_ble_eq_true rfl) q661 (fun _ h => h) rfl hin2 rfl (tyX7_ok 4 (Nat.le_of_ble_eq_true rfl)) rfl rfl (Nat.le_of_ble_eq_true rfl) (fun j hj hne => Or.inl (nmX7 j hj 4 (Nat.le_of_ble_eq_true rfl) hne)) dX7_init_30 (fun V_28 H locs hV_29 hw => ?_)
  replace hV_29 : V_28 = xu V_23 q (.inr (5, [.int 0, .int 0, .ref a_4, .ref a_13, .ref a_22, .int 0, .ref x])) := hV_29
  have hp_30 : V_28 q = some (.inr (5, [.int 0, .int 0, .ref a_4, .ref a_13, .ref a_22, .int 0, .ref x])) := by rw [hV_29]; exact xu_s _ _ _
  refine lv_aload_n (pc := 33) hx hb dX7_init_33 rfl (lv_at hl 0 rfl) ?_
  refine lv_iload_n (pc := 34) hx hb dX7_init_34 rfl (lv_at hl 2 rfl) ?_
  refine x_putF1 (pc := 35) (v := .int nu) E hw 0 hp_30 (C := RX7) (T := TX7) (N := 7) rfl in_X7 tyX7 tyX7_ok (Nat.le_of_ble_eq_true rfl) q656 (fun _ h => h) rfl hin2 rfl (tyX7_ok 0 (Nat.le_of_ble_eq_true rfl)) rfl rfl (Nat.le_of_ble_eq_true rfl) (fun j hj hne => Or.inl (nmX7 j hj 0 (Nat.le_of_ble_eq_true rfl) hne)) dX7_init_35 (fun V_31 H locs hV_32 hw => ?_)
  replace hV_32 : V_31 = xu V_28 q (.inr (5, [.int nu, .int 0, .ref a_4, .ref a_13, .ref a_22, .int 0, .ref x])) := hV_32
  have hp_33 : V_31 q = some (.inr (5, [.int nu, .int 0, .ref a_4, .ref a_13, .ref a_22, .int 0, .ref x])) := by rw [hV_32]; exact xu_s _ _ _
  refine lv_aload_n (pc := 38) hx hb dX7_init_38 rfl (lv_at hl 0 rfl) ?_
  refine lv_iload_n (pc := 39) hx hb dX7_init_39 rfl (lv_at hl 3 rfl) ?_
  refine x_putF1 (pc := 40) (v := .int s0) E hw 1 hp_33 (C := RX7) (T := TX7) (N := 7) rfl in_X7 tyX7 tyX7_ok (Nat.le_of_ble_eq_true rfl) q658 (fun _ h => h) rfl hin2 rfl (tyX7_ok 1 (Nat.le_of_ble_eq_true rfl)) rfl rfl (Nat.le_of_ble_eq_true rfl) (fun j hj hne => Or.inl (nmX7 j hj 1 (Nat.le_of_ble_eq_true rfl) hne)) dX7_init_40 (fun V_34 H locs hV_35 hw => ?_)
  replace hV_35 : V_34 = xu V_31 q (.inr (5, [.int nu, .int s0, .ref a_4, .ref a_13, .ref a_22, .int 0, .ref x])) := hV_35
  have hp_36 : V_34 q = some (.inr (5, [.int nu, .int s0, .ref a_4, .ref a_13, .ref a_22, .int 0, .ref x])) := by rw [hV_35]; exact xu_s _ _ _
  refine x_more 3 24 (Nat.le_of_ble_eq_true rfl) (Nat.le_of_ble_eq_true rfl) ?_
  rw [hV_2] at hf_7
  rw [hV_11, hV_6, hV_2] at hf_16
  rw [hV_20, hV_15, hV_11, hV_6, hV_2] at hf_25
  refine x_vret E hr hlk hw dX7_init_43 ⟨rfl, a_4, a_13, a_22, (xu_fr hf_7).1, (xu_fr (xu_fr (xu_fr hf_16).1).1).1, (xu_fr (xu_fr hf_16).1).2, (xu_fr (xu_fr (xu_fr (xu_fr (xu_fr hf_25).1).1).1).1).1, (xu_fr (xu_fr (xu_fr (xu_fr hf_25).1).1).1).2, (xu_fr (xu_fr hf_25).1).2, ?_⟩
  rw [hV_35, hV_32, hV_29, hV_24, hV_20, hV_15, hV_11, hV_6, hV_2]
  funext b_
  by_cases hbq : b_ = q
  · rw [hbq, xu_s, xu_s]
  · simp only [xu, hbq, if_false]
set_option maxHeartbeats 4000000 in
set_option maxRecDepth 100000 in
theorem xtX7_init_6 (l : Launch) (D : xD) (A : Nat → Prop) (V : xV) (q x : Nat) (w0 : Value) (nu : Int32) (s0 : Int32) (h1 : V q = some (.inr (6, [.int 0, .int 0, .null, .null, .null, .int 0, w0, .ref x]))) : Met l yX7_init (ws_ yX7_init cX7_init 4 none) (xRm 3 3 24) (xP D A V [.ref q, .ref x, .int nu, .int s0]) (xQ D A (fun ρ V' => ρ = none ∧ ∃ t o c_, (∀ b e, V b = some e → b ≠ t) ∧ (∀ b e, V b = some e → b ≠ o) ∧ t ≠ o ∧ (∀ b e, V b = some e → b ≠ c_) ∧ t ≠ c_ ∧ o ≠ c_ ∧ V' = xu (xu (xu (xu V t (.inl (D.2.1, 8, .inl (fun _ => 0)))) o (.inl (D.2.1, 8, .inl (fun _ => 0)))) c_ (.inl (D.2.1, 8, .inl (fun _ => 0)))) q (.inr (6, [.int nu, .int s0, .ref t, .ref o, .ref c_, .int 0, .ref x, .ref x])))) 3 24 A := by
  refine x_headW (own := RX7) (As := [.ref q, .ref x, .int nu, .int s0]) (bytes := cX7_init) (maxL := 4) (ret := none) (by decide) rfl (Nat.le_of_ble_eq_true rfl) ?_
  intro p e s m below meth c E hml hr hlk hin2 hw ls hl
  have hx := E.1
  have hb := E.2.1
  have hts := E.2.2.1
  have hown := E.2.2.2.1
  have hl : lv_has ls 4 [(0, .ref q), (1, .ref x), (2, .int nu), (3, .int s0)] := hl
  refine lv_aload_n (pc := 0) hx hb dX7_init_0 rfl (lv_at hl 0 rfl) ?_
  refine lv_aload_n (pc := 1) hx hb dX7_init_1 rfl (lv_at hl 1 rfl) ?_
  refine x_putF1 (pc := 2) (v := .ref x) E hw 6 h1 (C := RX8) (T := TX8) (N := 8) rfl in_X8 tyX8 tyX8_ok (Nat.le_of_ble_eq_true rfl) q664 (fun _ h => h) rfl hin2 rfl (tyX8_ok 6 (Nat.le_of_ble_eq_true rfl)) rfl rfl (Nat.le_of_ble_eq_true rfl) (by intro j hj hne; have h_ : j = 0 ∨ j = 1 ∨ j = 2 ∨ j = 3 ∨ j = 4 ∨ j = 5 ∨ j = 7 := (by omega); rcases h_ with rfl | rfl | rfl | rfl | rfl | rfl | rfl; exact Or.inl (by decide); exact Or.inl (by decide); exact Or.inl (by decide); exact Or.inl (by decide); exact Or.inl (by decide); exact Or.inl (by decide); exact Or.inr rfl) dX7_init_2 (fun V_1 H locs hV_2 hw => ?_)
  replace hV_2 : V_1 = xu V q (.inr (6, [.int 0, .int 0, .null, .null, .null, .int 0, .ref x, .ref x])) := hV_2
  have hp_3 : V_1 q = some (.inr (6, [.int 0, .int 0, .null, .null, .null, .int 0, .ref x, .ref x])) := by rw [hV_2]; exact xu_s _ _ _
  refine lv_aload_n (pc := 5) hx hb dX7_init_5 rfl (lv_at hl 0 rfl) ?_
  refine W.objInit (g := F0 m 6 ls [.ref q]) hx hb hown (hts _ q655) (hts _ q83) (hts _ q84) rfl (by rw [hml]; exact hl.1) rfl dX7_init_6 (Nat.le_of_ble_eq_true rfl) (Nat.le_of_ble_eq_true rfl) ?_
  refine lv_aload_n (pc := 9) hx hb dX7_init_9 rfl (lv_at hl 0 rfl) ?_
  refine lv_bipush (pc := 10) (v := 8) hx hb dX7_init_10 (by decide) ?_
  refine x_newa1 (pc := 12) (N := 8) E hw (ty := .int) (t0 := 0) (cA := D.2.1) rfl rfl (x_nm0 E.2.2.2.2.1) rfl q175 (by decide) rfl (Nat.le_of_ble_eq_true rfl) (Nat.le_of_ble_eq_true rfl) (Nat.le_of_ble_eq_true rfl) dX7_init_12 (fun a_4 V_5 H hf_7 hV_6 hw => ?_)
  have hp_8 : V_5 a_4 = some (.inl (D.2.1, 8, .inl (fun _ => 0))) := by rw [hV_6]; exact xu_s _ _ _
  have hp_9 : V_5 q = some (.inr (6, [.int 0, .int 0, .null, .null, .null, .int 0, .ref x, .ref x])) := by rw [hV_6, xu_n (hf_7 _ _ hp_3)]; exact hp_3
  refine x_putF1 (pc := 14) (v := .ref a_4) E hw 2 hp_9 (C := RX8) (T := TX8) (N := 8) rfl in_X8 tyX8 tyX8_ok (Nat.le_of_ble_eq_true rfl) q659 (fun _ h => h) rfl hin2 rfl (tyX8_ok 2 (Nat.le_of_ble_eq_true rfl)) rfl rfl (Nat.le_of_ble_eq_true rfl) (fun j hj hne => Or.inl ((by decide : ∀ j, j < 8 → j ≠ 2 → (TX8 j).2.1 ≠ (TX8 2).2.1) j hj hne)) dX7_init_14 (fun V_10 H locs hV_11 hw => ?_)
  replace hV_11 : V_10 = xu V_5 q (.inr (6, [.int 0, .int 0, .ref a_4, .null, .null, .int 0, .ref x, .ref x])) := hV_11
  have hp_12 : V_10 q = some (.inr (6, [.int 0, .int 0, .ref a_4, .null, .null, .int 0, .ref x, .ref x])) := by rw [hV_11]; exact xu_s _ _ _
  refine lv_aload_n (pc := 17) hx hb dX7_init_17 rfl (lv_at hl 0 rfl) ?_
  refine lv_bipush (pc := 18) (v := 8) hx hb dX7_init_18 (by decide) ?_
  refine x_newa1 (pc := 20) (N := 8) E hw (ty := .int) (t0 := 0) (cA := D.2.1) rfl rfl (x_nm0 E.2.2.2.2.1) rfl q175 (by decide) rfl (Nat.le_of_ble_eq_true rfl) (Nat.le_of_ble_eq_true rfl) (Nat.le_of_ble_eq_true rfl) dX7_init_20 (fun a_13 V_14 H hf_16 hV_15 hw => ?_)
  have hp_17 : V_14 a_13 = some (.inl (D.2.1, 8, .inl (fun _ => 0))) := by rw [hV_15]; exact xu_s _ _ _
  have hp_18 : V_14 q = some (.inr (6, [.int 0, .int 0, .ref a_4, .null, .null, .int 0, .ref x, .ref x])) := by rw [hV_15, xu_n (hf_16 _ _ hp_12)]; exact hp_12
  refine x_putF1 (pc := 22) (v := .ref a_13) E hw 3 hp_18 (C := RX8) (T := TX8) (N := 8) rfl in_X8 tyX8 tyX8_ok (Nat.le_of_ble_eq_true rfl) q660 (fun _ h => h) rfl hin2 rfl (tyX8_ok 3 (Nat.le_of_ble_eq_true rfl)) rfl rfl (Nat.le_of_ble_eq_true rfl) (fun j hj hne => Or.inl ((by decide : ∀ j, j < 8 → j ≠ 3 → (TX8 j).2.1 ≠ (TX8 3).2.1) j hj hne)) dX7_init_22 (fun V_19 H locs hV_20 hw => ?_)
  replace hV_20 : V_19 = xu V_14 q (.inr (6, [.int 0, .int 0, .ref a_4, .ref a_13, .null, .int 0, .ref x, .ref x])) := hV_20
  have hp_21 : V_19 q = some (.inr (6, [.int 0, .int 0, .ref a_4, .ref a_13, .null, .int 0, .ref x, .ref x])) := by rw [hV_20]; exact xu_s _ _ _
  refine lv_aload_n (pc := 25) hx hb dX7_init_25 rfl (lv_at hl 0 rfl) ?_
  refine lv_bipush (pc := 26) (v := 8) hx hb dX7_init_26 (by decide) ?_
  refine x_newa1 (pc := 28) (N := 8) E hw (ty := .int) (t0 := 0) (cA := D.2.1) rfl rfl (x_nm0 E.2.2.2.2.1) rfl q175 (by decide) rfl (Nat.le_of_ble_eq_true rfl) (Nat.le_of_ble_eq_true rfl) (Nat.le_of_ble_eq_true rfl) dX7_init_28 (fun a_22 V_23 H hf_25 hV_24 hw => ?_)
  have hp_26 : V_23 a_22 = some (.inl (D.2.1, 8, .inl (fun _ => 0))) := by rw [hV_24]; exact xu_s _ _ _
  have hp_27 : V_23 q = some (.inr (6, [.int 0, .int 0, .ref a_4, .ref a_13, .null, .int 0, .ref x, .ref x])) := by rw [hV_24, xu_n (hf_25 _ _ hp_21)]; exact hp_21
  refine x_putF1 (pc := 30) (v := .ref a_22) E hw 4 hp_27 (C := RX8) (T := TX8) (N := 8) rfl in_X8 tyX8 tyX8_ok (Nat.le_of_ble_eq_true rfl) q661 (fun _ h => h) rfl hin2 rfl (tyX8_ok 4 (Nat.le_of_ble_eq_true rfl)) rfl rfl (Nat.le_of_ble_eq_true rfl) (fun j hj hne => Or.inl ((by decide : ∀ j, j < 8 → j ≠ 4 → (TX8 j).2.1 ≠ (TX8 4).2.1) j hj hne)) dX7_init_30 (fun V_28 H locs hV_29 hw => ?_)
  replace hV_29 : V_28 = xu V_23 q (.inr (6, [.int 0, .int 0, .ref a_4, .ref a_13, .ref a_22, .int 0, .ref x, .ref x])) := hV_29
  have hp_30 : V_28 q = some (.inr (6, [.int 0, .int 0, .ref a_4, .ref a_13, .ref a_22, .int 0, .ref x, .ref x])) := by rw [hV_29]; exact xu_s _ _ _
  refine lv_aload_n (pc := 33) hx hb dX7_init_33 rfl (lv_at hl 0 rfl) ?_
  refine lv_iload_n (pc := 34) hx hb dX7_init_34 rfl (lv_at hl 2 rfl) ?_
  refine x_putF1 (pc := 35) (v := .int nu) E hw 0 hp_30 (C := RX8) (T := TX8) (N := 8) rfl in_X8 tyX8 tyX8_ok (Nat.le_of_ble_eq_true rfl) q656 (fun _ h => h) rfl hin2 rfl (tyX8_ok 0 (Nat.le_of_ble_eq_true rfl)) rfl rfl (Nat.le_of_ble_eq_true rfl) (fun j hj hne => Or.inl ((by decide : ∀ j, j < 8 → j ≠ 0 → (TX8 j).2.1 ≠ (TX8 0).2.1) j hj hne)) dX7_init_35 (fun V_31 H locs hV_32 hw => ?_)
  replace hV_32 : V_31 = xu V_28 q (.inr (6, [.int nu, .int 0, .ref a_4, .ref a_13, .ref a_22, .int 0, .ref x, .ref x])) := hV_32
  have hp_33 : V_31 q = some (.inr (6, [.int nu, .int 0, .ref a_4, .ref a_13, .ref a_22, .int 0, .ref x, .ref x])) := by rw [hV_32]; exact xu_s _ _ _
  refine lv_aload_n (pc := 38) hx hb dX7_init_38 rfl (lv_at hl 0 rfl) ?_
  refine lv_iload_n (pc := 39) hx hb dX7_init_39 rfl (lv_at hl 3 rfl) ?_
  refine x_putF1 (pc := 40) (v := .int s0) E hw 1 hp_33 (C := RX8) (T := TX8) (N := 8) rfl in_X8 tyX8 tyX8_ok (Nat.le_of_ble_eq_true rfl) q658 (fun _ h => h) rfl hin2 rfl (tyX8_ok 1 (Nat.le_of_ble_eq_true rfl)) rfl rfl (Nat.le_of_ble_eq_true rfl) (fun j hj hne => Or.inl ((by decide : ∀ j, j < 8 → j ≠ 1 → (TX8 j).2.1 ≠ (TX8 1).2.1) j hj hne)) dX7_init_40 (fun V_34 H locs hV_35 hw => ?_)
  replace hV_35 : V_34 = xu V_31 q (.inr (6, [.int nu, .int s0, .ref a_4, .ref a_13, .ref a_22, .int 0, .ref x, .ref x])) := hV_35
  have hp_36 : V_34 q = some (.inr (6, [.int nu, .int s0, .ref a_4, .ref a_13, .ref a_22, .int 0, .ref x, .ref x])) := by rw [hV_35]; exact xu_s _ _ _
  refine x_more 3 24 (Nat.le_of_ble_eq_true rfl) (Nat.le_of_ble_eq_true rfl) ?_
  rw [hV_2] at hf_7
  rw [hV_11, hV_6, hV_2] at hf_16
  rw [hV_20, hV_15, hV_11, hV_6, hV_2] at hf_25
  refine x_vret E hr hlk hw dX7_init_43 ⟨rfl, a_4, a_13, a_22, (xu_fr hf_7).1, (xu_fr (xu_fr (xu_fr hf_16).1).1).1, (xu_fr (xu_fr hf_16).1).2, (xu_fr (xu_fr (xu_fr (xu_fr (xu_fr hf_25).1).1).1).1).1, (xu_fr (xu_fr (xu_fr (xu_fr hf_25).1).1).1).2, (xu_fr (xu_fr hf_25).1).2, ?_⟩
  rw [hV_35, hV_32, hV_29, hV_24, hV_20, hV_15, hV_11, hV_6, hV_2]
  funext b_
  by_cases hbq : b_ = q
  · rw [hbq, xu_s, xu_s]
  · simp only [xu, hbq, if_false]
set_option maxHeartbeats 4000000 in
set_option maxRecDepth 100000 in
theorem xtX7_init_7 (l : Launch) (D : xD) (A : Nat → Prop) (V : xV) (q x : Nat) (w0 : Value) (nu : Int32) (s0 : Int32) (h1 : V q = some (.inr (7, [.int 0, .int 0, .null, .null, .null, .int 0, w0, .ref x, .ref x]))) : Met l yX7_init (ws_ yX7_init cX7_init 4 none) (xRm 3 3 24) (xP D A V [.ref q, .ref x, .int nu, .int s0]) (xQ D A (fun ρ V' => ρ = none ∧ ∃ t o c_, (∀ b e, V b = some e → b ≠ t) ∧ (∀ b e, V b = some e → b ≠ o) ∧ t ≠ o ∧ (∀ b e, V b = some e → b ≠ c_) ∧ t ≠ c_ ∧ o ≠ c_ ∧ V' = xu (xu (xu (xu V t (.inl (D.2.1, 8, .inl (fun _ => 0)))) o (.inl (D.2.1, 8, .inl (fun _ => 0)))) c_ (.inl (D.2.1, 8, .inl (fun _ => 0)))) q (.inr (7, [.int nu, .int s0, .ref t, .ref o, .ref c_, .int 0, .ref x, .ref x, .ref x])))) 3 24 A := by
  refine x_headW (own := RX7) (As := [.ref q, .ref x, .int nu, .int s0]) (bytes := cX7_init) (maxL := 4) (ret := none) (by decide) rfl (Nat.le_of_ble_eq_true rfl) ?_
  intro p e s m below meth c E hml hr hlk hin2 hw ls hl
  have hx := E.1
  have hb := E.2.1
  have hts := E.2.2.1
  have hown := E.2.2.2.1
  have hl : lv_has ls 4 [(0, .ref q), (1, .ref x), (2, .int nu), (3, .int s0)] := hl
  refine lv_aload_n (pc := 0) hx hb dX7_init_0 rfl (lv_at hl 0 rfl) ?_
  refine lv_aload_n (pc := 1) hx hb dX7_init_1 rfl (lv_at hl 1 rfl) ?_
  refine x_putF1 (pc := 2) (v := .ref x) E hw 6 h1 (C := RX9) (T := TX9) (N := 9) rfl in_X9 tyX9 tyX9_ok (Nat.le_of_ble_eq_true rfl) q664 (fun _ h => h) rfl hin2 rfl (tyX9_ok 6 (Nat.le_of_ble_eq_true rfl)) rfl rfl (Nat.le_of_ble_eq_true rfl) (by intro j hj hne; have h_ : j = 0 ∨ j = 1 ∨ j = 2 ∨ j = 3 ∨ j = 4 ∨ j = 5 ∨ j = 7 ∨ j = 8 := (by omega); rcases h_ with rfl | rfl | rfl | rfl | rfl | rfl | rfl | rfl; exact Or.inl (by decide); exact Or.inl (by decide); exact Or.inl (by decide); exact Or.inl (by decide); exact Or.inl (by decide); exact Or.inl (by decide); exact Or.inr rfl; exact Or.inr rfl) dX7_init_2 (fun V_1 H locs hV_2 hw => ?_)
  replace hV_2 : V_1 = xu V q (.inr (7, [.int 0, .int 0, .null, .null, .null, .int 0, .ref x, .ref x, .ref x])) := hV_2
  have hp_3 : V_1 q = some (.inr (7, [.int 0, .int 0, .null, .null, .null, .int 0, .ref x, .ref x, .ref x])) := by rw [hV_2]; exact xu_s _ _ _
  refine lv_aload_n (pc := 5) hx hb dX7_init_5 rfl (lv_at hl 0 rfl) ?_
  refine W.objInit (g := F0 m 6 ls [.ref q]) hx hb hown (hts _ q655) (hts _ q83) (hts _ q84) rfl (by rw [hml]; exact hl.1) rfl dX7_init_6 (Nat.le_of_ble_eq_true rfl) (Nat.le_of_ble_eq_true rfl) ?_
  refine lv_aload_n (pc := 9) hx hb dX7_init_9 rfl (lv_at hl 0 rfl) ?_
  refine lv_bipush (pc := 10) (v := 8) hx hb dX7_init_10 (by decide) ?_
  refine x_newa1 (pc := 12) (N := 8) E hw (ty := .int) (t0 := 0) (cA := D.2.1) rfl rfl (x_nm0 E.2.2.2.2.1) rfl q175 (by decide) rfl (Nat.le_of_ble_eq_true rfl) (Nat.le_of_ble_eq_true rfl) (Nat.le_of_ble_eq_true rfl) dX7_init_12 (fun a_4 V_5 H hf_7 hV_6 hw => ?_)
  have hp_8 : V_5 a_4 = some (.inl (D.2.1, 8, .inl (fun _ => 0))) := by rw [hV_6]; exact xu_s _ _ _
  have hp_9 : V_5 q = some (.inr (7, [.int 0, .int 0, .null, .null, .null, .int 0, .ref x, .ref x, .ref x])) := by rw [hV_6, xu_n (hf_7 _ _ hp_3)]; exact hp_3
  refine x_putF1 (pc := 14) (v := .ref a_4) E hw 2 hp_9 (C := RX9) (T := TX9) (N := 9) rfl in_X9 tyX9 tyX9_ok (Nat.le_of_ble_eq_true rfl) q659 (fun _ h => h) rfl hin2 rfl (tyX9_ok 2 (Nat.le_of_ble_eq_true rfl)) rfl rfl (Nat.le_of_ble_eq_true rfl) (fun j hj hne => Or.inl ((by decide : ∀ j, j < 9 → j ≠ 2 → (TX9 j).2.1 ≠ (TX9 2).2.1) j hj hne)) dX7_init_14 (fun V_10 H locs hV_11 hw => ?_)
  replace hV_11 : V_10 = xu V_5 q (.inr (7, [.int 0, .int 0, .ref a_4, .null, .null, .int 0, .ref x, .ref x, .ref x])) := hV_11
  have hp_12 : V_10 q = some (.inr (7, [.int 0, .int 0, .ref a_4, .null, .null, .int 0, .ref x, .ref x, .ref x])) := by rw [hV_11]; exact xu_s _ _ _
  refine lv_aload_n (pc := 17) hx hb dX7_init_17 rfl (lv_at hl 0 rfl) ?_
  refine lv_bipush (pc := 18) (v := 8) hx hb dX7_init_18 (by decide) ?_
  refine x_newa1 (pc := 20) (N := 8) E hw (ty := .int) (t0 := 0) (cA := D.2.1) rfl rfl (x_nm0 E.2.2.2.2.1) rfl q175 (by decide) rfl (Nat.le_of_ble_eq_true rfl) (Nat.le_of_ble_eq_true rfl) (Nat.le_of_ble_eq_true rfl) dX7_init_20 (fun a_13 V_14 H hf_16 hV_15 hw => ?_)
  have hp_17 : V_14 a_13 = some (.inl (D.2.1, 8, .inl (fun _ => 0))) := by rw [hV_15]; exact xu_s _ _ _
  have hp_18 : V_14 q = some (.inr (7, [.int 0, .int 0, .ref a_4, .null, .null, .int 0, .ref x, .ref x, .ref x])) := by rw [hV_15, xu_n (hf_16 _ _ hp_12)]; exact hp_12
  refine x_putF1 (pc := 22) (v := .ref a_13) E hw 3 hp_18 (C := RX9) (T := TX9) (N := 9) rfl in_X9 tyX9 tyX9_ok (Nat.le_of_ble_eq_true rfl) q660 (fun _ h => h) rfl hin2 rfl (tyX9_ok 3 (Nat.le_of_ble_eq_true rfl)) rfl rfl (Nat.le_of_ble_eq_true rfl) (fun j hj hne => Or.inl ((by decide : ∀ j, j < 9 → j ≠ 3 → (TX9 j).2.1 ≠ (TX9 3).2.1) j hj hne)) dX7_init_22 (fun V_19 H locs hV_20 hw => ?_)
  replace hV_20 : V_19 = xu V_14 q (.inr (7, [.int 0, .int 0, .ref a_4, .ref a_13, .null, .int 0, .ref x, .ref x, .ref x])) := hV_20
  have hp_21 : V_19 q = some (.inr (7, [.int 0, .int 0, .ref a_4, .ref a_13, .null, .int 0, .ref x, .ref x, .ref x])) := by rw [hV_20]; exact xu_s _ _ _
  refine lv_aload_n (pc := 25) hx hb dX7_init_25 rfl (lv_at hl 0 rfl) ?_
  refine lv_bipush (pc := 26) (v := 8) hx hb dX7_init_26 (by decide) ?_
  refine x_newa1 (pc := 28) (N := 8) E hw (ty := .int) (t0 := 0) (cA := D.2.1) rfl rfl (x_nm0 E.2.2.2.2.1) rfl q175 (by decide) rfl (Nat.le_of_ble_eq_true rfl) (Nat.le_of_ble_eq_true rfl) (Nat.le_of_ble_eq_true rfl) dX7_init_28 (fun a_22 V_23 H hf_25 hV_24 hw => ?_)
  have hp_26 : V_23 a_22 = some (.inl (D.2.1, 8, .inl (fun _ => 0))) := by rw [hV_24]; exact xu_s _ _ _
  have hp_27 : V_23 q = some (.inr (7, [.int 0, .int 0, .ref a_4, .ref a_13, .null, .int 0, .ref x, .ref x, .ref x])) := by rw [hV_24, xu_n (hf_25 _ _ hp_21)]; exact hp_21
  refine x_putF1 (pc := 30) (v := .ref a_22) E hw 4 hp_27 (C := RX9) (T := TX9) (N := 9) rfl in_X9 tyX9 tyX9_ok (Nat.le_of_ble_eq_true rfl) q661 (fun _ h => h) rfl hin2 rfl (tyX9_ok 4 (Nat.le_of_ble_eq_true rfl)) rfl rfl (Nat.le_of_ble_eq_true rfl) (fun j hj hne => Or.inl ((by decide : ∀ j, j < 9 → j ≠ 4 → (TX9 j).2.1 ≠ (TX9 4).2.1) j hj hne)) dX7_init_30 (fun V_28 H locs hV_29 hw => ?_)
  replace hV_29 : V_28 = xu V_23 q (.inr (7, [.int 0, .int 0, .ref a_4, .ref a_13, .ref a_22, .int 0, .ref x, .ref x, .ref x])) := hV_29
  have hp_30 : V_28 q = some (.inr (7, [.int 0, .int 0, .ref a_4, .ref a_13, .ref a_22, .int 0, .ref x, .ref x, .ref x])) := by rw [hV_29]; exact xu_s _ _ _
  refine lv_aload_n (pc := 33) hx hb dX7_init_33 rfl (lv_at hl 0 rfl) ?_
  refine lv_iload_n (pc := 34) hx hb dX7_init_34 rfl (lv_at hl 2 rfl) ?_
  refine x_putF1 (pc := 35) (v := .int nu) E hw 0 hp_30 (C := RX9) (T := TX9) (N := 9) rfl in_X9 tyX9 tyX9_ok (Nat.le_of_ble_eq_true rfl) q656 (fun _ h => h) rfl hin2 rfl (tyX9_ok 0 (Nat.le_of_ble_eq_true rfl)) rfl rfl (Nat.le_of_ble_eq_true rfl) (fun j hj hne => Or.inl ((by decide : ∀ j, j < 9 → j ≠ 0 → (TX9 j).2.1 ≠ (TX9 0).2.1) j hj hne)) dX7_init_35 (fun V_31 H locs hV_32 hw => ?_)
  replace hV_32 : V_31 = xu V_28 q (.inr (7, [.int nu, .int 0, .ref a_4, .ref a_13, .ref a_22, .int 0, .ref x, .ref x, .ref x])) := hV_32
  have hp_33 : V_31 q = some (.inr (7, [.int nu, .int 0, .ref a_4, .ref a_13, .ref a_22, .int 0, .ref x, .ref x, .ref x])) := by rw [hV_32]; exact xu_s _ _ _
  refine lv_aload_n (pc := 38) hx hb dX7_init_38 rfl (lv_at hl 0 rfl) ?_
  refine lv_iload_n (pc := 39) hx hb dX7_init_39 rfl (lv_at hl 3 rfl) ?_
  refine x_putF1 (pc := 40) (v := .int s0) E hw 1 hp_33 (C := RX9) (T := TX9) (N := 9) rfl in_X9 tyX9 tyX9_ok (Nat.le_of_ble_eq_true rfl) q658 (fun _ h => h) rfl hin2 rfl (tyX9_ok 1 (Nat.le_of_ble_eq_true rfl)) rfl rfl (Nat.le_of_ble_eq_true rfl) (fun j hj hne => Or.inl ((by decide : ∀ j, j < 9 → j ≠ 1 → (TX9 j).2.1 ≠ (TX9 1).2.1) j hj hne)) dX7_init_40 (fun V_34 H locs hV_35 hw => ?_)
  replace hV_35 : V_34 = xu V_31 q (.inr (7, [.int nu, .int s0, .ref a_4, .ref a_13, .ref a_22, .int 0, .ref x, .ref x, .ref x])) := hV_35
  have hp_36 : V_34 q = some (.inr (7, [.int nu, .int s0, .ref a_4, .ref a_13, .ref a_22, .int 0, .ref x, .ref x, .ref x])) := by rw [hV_35]; exact xu_s _ _ _
  refine x_more 3 24 (Nat.le_of_ble_eq_true rfl) (Nat.le_of_ble_eq_true rfl) ?_
  rw [hV_2] at hf_7
  rw [hV_11, hV_6, hV_2] at hf_16
  rw [hV_20, hV_15, hV_11, hV_6, hV_2] at hf_25
  refine x_vret E hr hlk hw dX7_init_43 ⟨rfl, a_4, a_13, a_22, (xu_fr hf_7).1, (xu_fr (xu_fr (xu_fr hf_16).1).1).1, (xu_fr (xu_fr hf_16).1).2, (xu_fr (xu_fr (xu_fr (xu_fr (xu_fr hf_25).1).1).1).1).1, (xu_fr (xu_fr (xu_fr (xu_fr hf_25).1).1).1).2, (xu_fr (xu_fr hf_25).1).2, ?_⟩
  rw [hV_35, hV_32, hV_29, hV_24, hV_20, hV_15, hV_11, hV_6, hV_2]
  funext b_
  by_cases hbq : b_ = q
  · rw [hbq, xu_s, xu_s]
  · simp only [xu, hbq, if_false]
set_option maxHeartbeats 4000000 in
set_option maxRecDepth 100000 in
theorem xtX8_init_6 (l : Launch) (D : xD) (A : Nat → Prop) (V : xV) (q x : Nat) (nu : Int32) (s0 : Int32) (h1 : V q = some (.inr (6, [.int 0, .int 0, .null, .null, .null, .int 0, .null, .null]))) : Met l yX8_init (ws_ yX8_init cX8_init 4 none) (xRm 4 3 24) (xP D A V [.ref q, .ref x, .int nu, .int s0]) (xQ D A (fun ρ V' => ρ = none ∧ ∃ t o c_, (∀ b e, V b = some e → b ≠ t) ∧ (∀ b e, V b = some e → b ≠ o) ∧ t ≠ o ∧ (∀ b e, V b = some e → b ≠ c_) ∧ t ≠ c_ ∧ o ≠ c_ ∧ V' = xu (xu (xu (xu V t (.inl (D.2.1, 8, .inl (fun _ => 0)))) o (.inl (D.2.1, 8, .inl (fun _ => 0)))) c_ (.inl (D.2.1, 8, .inl (fun _ => 0)))) q (.inr (6, [.int nu, .int s0, .ref t, .ref o, .ref c_, .int 0, .ref x, .ref x])))) 3 24 A := by
  refine x_headW (own := RX8) (As := [.ref q, .ref x, .int nu, .int s0]) (bytes := cX8_init) (maxL := 4) (ret := none) (by decide) rfl (Nat.le_of_ble_eq_true rfl) ?_
  intro p e s m below meth c E hml hr hlk hin2 hw ls hl
  have hx := E.1
  have hb := E.2.1
  have hts := E.2.2.1
  have hown := E.2.2.2.1
  have hl : lv_has ls 4 [(0, .ref q), (1, .ref x), (2, .int nu), (3, .int s0)] := hl
  refine lv_aload_n (pc := 0) hx hb dX8_init_0 rfl (lv_at hl 0 rfl) ?_
  refine lv_aload_n (pc := 1) hx hb dX8_init_1 rfl (lv_at hl 1 rfl) ?_
  refine x_putF2 (pc := 2) (v := .ref x) E hw 7 6 6 h1 (C := RX8) (T := TX8) (N := 8) rfl in_X8 tyX8 tyX8_ok (Nat.le_of_ble_eq_true rfl) q686 (fun _ h => h) rfl hin2 rfl (tyX8_ok 7 (Nat.le_of_ble_eq_true rfl)) rfl rfl (Nat.le_of_ble_eq_true rfl) (Nat.le_of_ble_eq_true rfl) (Nat.le_of_ble_eq_true rfl) (by decide) (by decide) (by intro j hj hne h1_ h2_; have h_ : j = 0 ∨ j = 1 ∨ j = 2 ∨ j = 3 ∨ j = 4 ∨ j = 5 := (by omega); rcases h_ with rfl | rfl | rfl | rfl | rfl | rfl; exact Or.inl (by decide); exact Or.inl (by decide); exact Or.inl (by decide); exact Or.inl (by decide); exact Or.inl (by decide); exact Or.inl (by decide)) dX8_init_2 (fun w_3 w_4 V_1 H locs hV_2 hw => ?_)
  replace hV_2 : V_1 = xu V q (.inr (6, [.int 0, .int 0, .null, .null, .null, .int 0, w_4, .ref x])) := hV_2
  have hp_5 : V_1 q = some (.inr (6, [.int 0, .int 0, .null, .null, .null, .int 0, w_4, .ref x])) := by rw [hV_2]; exact xu_s _ _ _
  refine lv_aload_n (pc := 5) hx hb dX8_init_5 rfl (lv_at hl 0 rfl) ?_
  refine lv_aload_n (pc := 6) hx hb dX8_init_6 rfl (lv_at hl 1 rfl) ?_
  refine lv_iload_n (pc := 7) hx hb dX8_init_7 rfl (lv_at hl 2 rfl) ?_
  refine lv_iload_n (pc := 8) hx hb dX8_init_8 rfl (lv_at hl 3 rfl) ?_
  refine x_goWn hw (x_runI (pc := 9) (As := [.ref x, .int nu, .int s0]) (rest := []) (b := q) E hml hl.1 (x_preS E hw.2 hw.1) (xtX7_init_6 l D A V_1 q x w_4 nu s0 hp_5) q685 q653 q73 q654 rfl hdX7_init.2 ⟨Nat.le_of_ble_eq_true rfl, Nat.le_of_ble_eq_true rfl⟩ rfl rfl rfl (Nat.le_of_ble_eq_true rfl) dX8_init_9 ⟨Nat.le_of_ble_eq_true rfl, Nat.le_of_ble_eq_true rfl⟩) (fun V_6 H locs hF_7 hw => ?_)
  obtain ⟨t, o, c_, f1, f2, n1, f3, n2, n3, hVc⟩ := hF_7
  have hp_8 : (xu V_1 t (.inl (D.2.1, 8, .inl (fun _ => 0)))) t = some (.inl (D.2.1, 8, .inl (fun _ => 0))) := by rw [show (xu V_1 t (.inl (D.2.1, 8, .inl (fun _ => 0)))) = xu V_1 t (.inl (D.2.1, 8, .inl (fun _ => 0))) from rfl]; exact xu_s _ _ _
  refine x_more 3 24 (Nat.le_of_ble_eq_true rfl) (Nat.le_of_ble_eq_true rfl) ?_
  rw [hV_2] at f1 f2 f3
  refine x_vret E hr hlk hw dX8_init_12 ⟨rfl, t, o, c_, (xu_fr f1).1, (xu_fr f2).1, n1, (xu_fr f3).1, n2, n3, ?_⟩
  rw [hVc, hV_2]
  funext b_
  by_cases hbq : b_ = q
  · rw [hbq, xu_s, xu_s]
  · simp only [xu, hbq, if_false]
set_option maxHeartbeats 4000000 in
set_option maxRecDepth 100000 in
theorem xtX8_init_7 (l : Launch) (D : xD) (A : Nat → Prop) (V : xV) (q x : Nat) (w6 w7 : Value) (nu : Int32) (s0 : Int32) (h1 : V q = some (.inr (7, [.int 0, .int 0, .null, .null, .null, .int 0, w6, w7, .ref x]))) : Met l yX8_init (ws_ yX8_init cX8_init 4 none) (xRm 4 3 24) (xP D A V [.ref q, .ref x, .int nu, .int s0]) (xQ D A (fun ρ V' => ρ = none ∧ ∃ t o c_, (∀ b e, V b = some e → b ≠ t) ∧ (∀ b e, V b = some e → b ≠ o) ∧ t ≠ o ∧ (∀ b e, V b = some e → b ≠ c_) ∧ t ≠ c_ ∧ o ≠ c_ ∧ V' = xu (xu (xu (xu V t (.inl (D.2.1, 8, .inl (fun _ => 0)))) o (.inl (D.2.1, 8, .inl (fun _ => 0)))) c_ (.inl (D.2.1, 8, .inl (fun _ => 0)))) q (.inr (7, [.int nu, .int s0, .ref t, .ref o, .ref c_, .int 0, .ref x, .ref x, .ref x])))) 3 24 A := by
  refine x_headW (own := RX8) (As := [.ref q, .ref x, .int nu, .int s0]) (bytes := cX8_init) (maxL := 4) (ret := none) (by decide) rfl (Nat.le_of_ble_eq_true rfl) ?_
  intro p e s m below meth c E hml hr hlk hin2 hw ls hl
  have hx := E.1
  have hb := E.2.1
  have hts := E.2.2.1
  have hown := E.2.2.2.1
  have hl : lv_has ls 4 [(0, .ref q), (1, .ref x), (2, .int nu), (3, .int s0)] := hl
  refine lv_aload_n (pc := 0) hx hb dX8_init_0 rfl (lv_at hl 0 rfl) ?_
  refine lv_aload_n (pc := 1) hx hb dX8_init_1 rfl (lv_at hl 1 rfl) ?_
  refine x_putF2 (pc := 2) (v := .ref x) E hw 7 6 6 h1 (C := RX9) (T := TX9) (N := 9) rfl in_X9 tyX9 tyX9_ok (Nat.le_of_ble_eq_true rfl) q686 (fun _ h => h) rfl hin2 rfl (tyX9_ok 7 (Nat.le_of_ble_eq_true rfl)) rfl rfl (Nat.le_of_ble_eq_true rfl) (Nat.le_of_ble_eq_true rfl) (Nat.le_of_ble_eq_true rfl) (by decide) (by decide) (by intro j hj hne h1_ h2_; have h_ : j = 0 ∨ j = 1 ∨ j = 2 ∨ j = 3 ∨ j = 4 ∨ j = 5 ∨ j = 8 := (by omega); rcases h_ with rfl | rfl | rfl | rfl | rfl | rfl | rfl; exact Or.inl (by decide); exact Or.inl (by decide); exact Or.inl (by decide); exact Or.inl (by decide); exact Or.inl (by decide); exact Or.inl (by decide); exact Or.inr rfl) dX8_init_2 (fun w_3 w_4 V_1 H locs hV_2 hw => ?_)
  replace hV_2 : V_1 = xu V q (.inr (7, [.int 0, .int 0, .null, .null, .null, .int 0, w_4, .ref x, .ref x])) := hV_2
  have hp_5 : V_1 q = some (.inr (7, [.int 0, .int 0, .null, .null, .null, .int 0, w_4, .ref x, .ref x])) := by rw [hV_2]; exact xu_s _ _ _
  refine lv_aload_n (pc := 5) hx hb dX8_init_5 rfl (lv_at hl 0 rfl) ?_
  refine lv_aload_n (pc := 6) hx hb dX8_init_6 rfl (lv_at hl 1 rfl) ?_
  refine lv_iload_n (pc := 7) hx hb dX8_init_7 rfl (lv_at hl 2 rfl) ?_
  refine lv_iload_n (pc := 8) hx hb dX8_init_8 rfl (lv_at hl 3 rfl) ?_
  refine x_goWn hw (x_runI (pc := 9) (As := [.ref x, .int nu, .int s0]) (rest := []) (b := q) E hml hl.1 (x_preS E hw.2 hw.1) (xtX7_init_7 l D A V_1 q x w_4 nu s0 hp_5) q685 q653 q73 q654 rfl hdX7_init.2 ⟨Nat.le_of_ble_eq_true rfl, Nat.le_of_ble_eq_true rfl⟩ rfl rfl rfl (Nat.le_of_ble_eq_true rfl) dX8_init_9 ⟨Nat.le_of_ble_eq_true rfl, Nat.le_of_ble_eq_true rfl⟩) (fun V_6 H locs hF_7 hw => ?_)
  obtain ⟨t, o, c_, f1, f2, n1, f3, n2, n3, hVc⟩ := hF_7
  have hp_8 : (xu V_1 t (.inl (D.2.1, 8, .inl (fun _ => 0)))) t = some (.inl (D.2.1, 8, .inl (fun _ => 0))) := by rw [show (xu V_1 t (.inl (D.2.1, 8, .inl (fun _ => 0)))) = xu V_1 t (.inl (D.2.1, 8, .inl (fun _ => 0))) from rfl]; exact xu_s _ _ _
  refine x_more 3 24 (Nat.le_of_ble_eq_true rfl) (Nat.le_of_ble_eq_true rfl) ?_
  rw [hV_2] at f1 f2 f3
  refine x_vret E hr hlk hw dX8_init_12 ⟨rfl, t, o, c_, (xu_fr f1).1, (xu_fr f2).1, n1, (xu_fr f3).1, n2, n3, ?_⟩
  rw [hVc, hV_2]
  funext b_
  by_cases hbq : b_ = q
  · rw [hbq, xu_s, xu_s]
  · simp only [xu, hbq, if_false]
set_option maxHeartbeats 4000000 in
set_option maxRecDepth 100000 in
theorem xtX9_init_7 (l : Launch) (D : xD) (A : Nat → Prop) (V : xV) (q x : Nat) (nu : Int32) (s0 : Int32) (h1 : V q = some (.inr (7, [.int 0, .int 0, .null, .null, .null, .int 0, .null, .null, .null]))) : Met l yX9_init (ws_ yX9_init cX9_init 4 none) (xRm 5 3 24) (xP D A V [.ref q, .ref x, .int nu, .int s0]) (xQ D A (fun ρ V' => ρ = none ∧ ∃ t o c_, (∀ b e, V b = some e → b ≠ t) ∧ (∀ b e, V b = some e → b ≠ o) ∧ t ≠ o ∧ (∀ b e, V b = some e → b ≠ c_) ∧ t ≠ c_ ∧ o ≠ c_ ∧ V' = xu (xu (xu (xu V t (.inl (D.2.1, 8, .inl (fun _ => 0)))) o (.inl (D.2.1, 8, .inl (fun _ => 0)))) c_ (.inl (D.2.1, 8, .inl (fun _ => 0)))) q (.inr (7, [.int nu, .int s0, .ref t, .ref o, .ref c_, .int 0, .ref x, .ref x, .ref x])))) 3 24 A := by
  refine x_headW (own := RX9) (As := [.ref q, .ref x, .int nu, .int s0]) (bytes := cX9_init) (maxL := 4) (ret := none) (by decide) rfl (Nat.le_of_ble_eq_true rfl) ?_
  intro p e s m below meth c E hml hr hlk hin2 hw ls hl
  have hx := E.1
  have hb := E.2.1
  have hts := E.2.2.1
  have hown := E.2.2.2.1
  have hl : lv_has ls 4 [(0, .ref q), (1, .ref x), (2, .int nu), (3, .int s0)] := hl
  refine lv_aload_n (pc := 0) hx hb dX9_init_0 rfl (lv_at hl 0 rfl) ?_
  refine lv_aload_n (pc := 1) hx hb dX9_init_1 rfl (lv_at hl 1 rfl) ?_
  refine x_putF2 (pc := 2) (v := .ref x) E hw 8 6 7 h1 (C := RX9) (T := TX9) (N := 9) rfl in_X9 tyX9 tyX9_ok (Nat.le_of_ble_eq_true rfl) q703 (fun _ h => h) rfl hin2 rfl (tyX9_ok 8 (Nat.le_of_ble_eq_true rfl)) rfl rfl (Nat.le_of_ble_eq_true rfl) (Nat.le_of_ble_eq_true rfl) (Nat.le_of_ble_eq_true rfl) (by decide) (by decide) (by intro j hj hne h1_ h2_; have h_ : j = 0 ∨ j = 1 ∨ j = 2 ∨ j = 3 ∨ j = 4 ∨ j = 5 := (by omega); rcases h_ with rfl | rfl | rfl | rfl | rfl | rfl; exact Or.inl (by decide); exact Or.inl (by decide); exact Or.inl (by decide); exact Or.inl (by decide); exact Or.inl (by decide); exact Or.inl (by decide)) dX9_init_2 (fun w_3 w_4 V_1 H locs hV_2 hw => ?_)
  replace hV_2 : V_1 = xu V q (.inr (7, [.int 0, .int 0, .null, .null, .null, .int 0, w_3, w_4, .ref x])) := hV_2
  have hp_5 : V_1 q = some (.inr (7, [.int 0, .int 0, .null, .null, .null, .int 0, w_3, w_4, .ref x])) := by rw [hV_2]; exact xu_s _ _ _
  refine lv_aload_n (pc := 5) hx hb dX9_init_5 rfl (lv_at hl 0 rfl) ?_
  refine lv_aload_n (pc := 6) hx hb dX9_init_6 rfl (lv_at hl 1 rfl) ?_
  refine lv_iload_n (pc := 7) hx hb dX9_init_7 rfl (lv_at hl 2 rfl) ?_
  refine lv_iload_n (pc := 8) hx hb dX9_init_8 rfl (lv_at hl 3 rfl) ?_
  refine x_goWn hw (x_runI (pc := 9) (As := [.ref x, .int nu, .int s0]) (rest := []) (b := q) E hml hl.1 (x_preS E hw.2 hw.1) (xtX8_init_7 l D A V_1 q x w_3 w_4 nu s0 hp_5) q702 q683 q74 q684 rfl hdX8_init.2 ⟨Nat.le_of_ble_eq_true rfl, Nat.le_of_ble_eq_true rfl⟩ rfl rfl rfl (Nat.le_of_ble_eq_true rfl) dX9_init_9 ⟨Nat.le_of_ble_eq_true rfl, Nat.le_of_ble_eq_true rfl⟩) (fun V_6 H locs hF_7 hw => ?_)
  obtain ⟨t, o, c_, f1, f2, n1, f3, n2, n3, hVc⟩ := hF_7
  have hp_8 : (xu V_1 t (.inl (D.2.1, 8, .inl (fun _ => 0)))) t = some (.inl (D.2.1, 8, .inl (fun _ => 0))) := by rw [show (xu V_1 t (.inl (D.2.1, 8, .inl (fun _ => 0)))) = xu V_1 t (.inl (D.2.1, 8, .inl (fun _ => 0))) from rfl]; exact xu_s _ _ _
  refine x_more 3 24 (Nat.le_of_ble_eq_true rfl) (Nat.le_of_ble_eq_true rfl) ?_
  rw [hV_2] at f1 f2 f3
  refine x_vret E hr hlk hw dX9_init_12 ⟨rfl, t, o, c_, (xu_fr f1).1, (xu_fr f2).1, n1, (xu_fr f3).1, n2, n3, ?_⟩
  rw [hVc, hV_2]
  funext b_
  by_cases hbq : b_ = q
  · rw [hbq, xu_s, xu_s]
  · simp only [xu, hbq, if_false]
