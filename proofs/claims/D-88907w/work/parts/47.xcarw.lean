/-! RegularRally.car -/
set_option maxHeartbeats 4000000 in
set_option maxRecDepth 100000 in
theorem xtX0_car (l : Launch) (D : xD) (A : Nat → Prop) (V : xV) (st : mS) (g : xG)  (t_ : Int32) (k : Int32) (hI : mI st) (hR : xR D st g V)  : Met l yX0_car (ws_ yX0_car cX0_car 4 (some .int)) (xRm 10 5 55) (xP D A V [.ref (g 0 0), .int t_, .int k]) (xQ D A (fun ρ V' => ρ = some (.int (sp_car st t_ k).1) ∧ xF D g ((sp_car st t_ k).2) V')) 5 55 A := by
  refine x_headW (own := RX0) (As := [.ref (g 0 0), .int t_, .int k]) (bytes := cX0_car) (maxL := 4) (ret := (some .int)) (by decide) rfl (Nat.le_of_ble_eq_true rfl) ?_
  intro p e s m below meth c E hml hr hlk hin2 hw ls hl
  have hx := E.1
  have hb := E.2.1
  have hts := E.2.2.1
  have hown := E.2.2.2.1
  have hl : lv_has ls 4 [(0, .ref (g 0 0)), (1, .int t_), (2, .int k)] := hl
  have h16 := hI.r16
  have h10 := hI.l10
  have hv8 := hI.v8
  have hc8 := hI.c8
  have hk8 := hI.k8
  have hb8 := hI.b8
  refine lv_iload_n (pc := 0) hx hb dX0_car_0 rfl (lv_at hl 1 rfl) ?_
  refine lv_i2l (pc := 1) (v := t_.toInt64) hx hb dX0_car_1 rfl ?_
  refine lv_lconst (pc := 2) (v := 0) hx hb dX0_car_2 (by decide) ?_
  refine lv_ldc2 (pc := 3) hx hb hown (hts _ q650) dX0_car_3 ?_
  refine x_goR (x_runS (pc := 6) (As := [.long t_.toInt64, .long 0, .long 500000]) (rest := []) E hml hl.1 (x_preE) (xtX0_isInB l t_ 0 500000 0 500000 rfl rfl) q184 q185 q48 q186 hdX0_isIn.2 ⟨Nat.le_of_ble_eq_true rfl, Nat.le_of_ble_eq_true rfl⟩ rfl rfl rfl (Nat.le_of_ble_eq_true rfl) dX0_car_6 ⟨Nat.le_of_ble_eq_true rfl, Nat.le_of_ble_eq_true rfl⟩) ?_
  refine lb_eq (pc := 9) (tgt := 24) hx hb dX0_car_9 (by decide) (fun c_1 => ?_) (fun c_1 => ?_)
  · refine lv_bipush (pc := 24) (v := (-2)) hx hb dX0_car_24 (by decide) ?_
    refine x_more 5 55 (Nat.le_of_ble_eq_true rfl) (Nat.le_of_ble_eq_true rfl) ?_
    exact x_iret E hr hlk hw dX0_car_26 ⟨by simp only [sp_car, if_neg c_1], by simp only [sp_car, if_neg c_1]; exact xF.of hR⟩
  · refine lv_iload_n (pc := 12) hx hb dX0_car_12 rfl (lv_at hl 2 rfl) ?_
    refine lv_i2l (pc := 13) (v := k.toInt64) hx hb dX0_car_13 rfl ?_
    refine lv_lconst (pc := 14) (v := 0) hx hb dX0_car_14 (by decide) ?_
    refine lv_ldc2 (pc := 15) hx hb hown (hts _ q188) dX0_car_15 ?_
    refine x_goR (x_runS (pc := 18) (As := [.long k.toInt64, .long 0, .long 2]) (rest := []) E hml hl.1 (x_preE) (xtX0_isInB l k 0 2 0 2 rfl rfl) q184 q185 q48 q186 hdX0_isIn.2 ⟨Nat.le_of_ble_eq_true rfl, Nat.le_of_ble_eq_true rfl⟩ rfl rfl rfl (Nat.le_of_ble_eq_true rfl) dX0_car_18 ⟨Nat.le_of_ble_eq_true rfl, Nat.le_of_ble_eq_true rfl⟩) ?_
    refine lb_ne (pc := 21) (tgt := 27) hx hb dX0_car_21 (by decide) (fun c_2 => ?_) (fun c_2 => ?_)
    · refine lv_aload_n (pc := 27) hx hb dX0_car_27 rfl (lv_at hl 0 rfl) ?_
      obtain ⟨b7, b8, b9, hpx⟩ := hR.px hI
      replace hpx : V (g 0 0) = some (.inr (0, [.int (st 0 0), .int (st 0 42), .ref (g 0 2), .ref (g 0 3), .int (nI (cnt st 12)), .ref (g 0 5), .ref (g 0 6), .int b7, .long b8, .int b9, .int (st 0 14), .ref (g 0 11), .int (nI (cnt st 24)), .int (st 0 25), .ref (g 0 14), .ref (g 0 15), .int (nI (cnt st 27)), .ref (g 0 17), .ref (g 0 18), .ref (g 0 19)])) := hpx
      refine x_rd (pc := 28) (v := .ref (g 0 18)) E hw.1 18 hpx (C := RX0) (T := TX0) (N := 20) rfl in_X0 (Nat.le_of_ble_eq_true rfl) q132 (fun _ h => h) rfl dX0_car_28 ?_
      obtain ⟨mc_18, hpl_18⟩ := hR.p18
      refine x_goR5 (x_runF (pc := 31) (As := []) (rest := []) E hml hl.1 hw.2 hw.1 hpl_18 (C := RJ2) (T := TJ2) (N := 3) rfl (xtJ2_size l D A V (g 0 18) (g 1 2) (cnt st 35) mc_18 hpl_18) E.2.2.2.2.1.2.1.2.2.2.2.2.1 q190 q194 q196 q51 q198 hdF_size ⟨Nat.le_of_ble_eq_true rfl, Nat.le_of_ble_eq_true rfl⟩ rfl rfl rfl (Nat.le_of_ble_eq_true rfl) dX0_car_31 ⟨Nat.le_of_ble_eq_true rfl, Nat.le_of_ble_eq_true rfl⟩) ?_
      refine lv_istore_n (pc := 36) (lv' := [(3, .int (nI (cnt st 35))), (0, .ref (g 0 0)), (1, .int t_), (2, .int k)]) hx hb dX0_car_36 rfl hl (by decide) rfl (fun ls hl => ?_)
      refine lv_iload_n (pc := 37) hx hb dX0_car_37 rfl (lv_at hl 0 rfl) ?_
      refine lv_bipush (pc := 38) (v := 8) hx hb dX0_car_38 (by decide) ?_
      refine li_icmp_neN (pc := 40) (a := cnt st 35) (b := 8) (tgt := 46) hx hb (by omega) (by omega) dX0_car_40 (by decide) (fun c_3 => ?_) (fun c_3 => ?_)
      · have hlt8 : cnt st 35 < 8 := by omega
        refine lv_aload_n (pc := 46) hx hb dX0_car_46 rfl (lv_at hl 1 rfl) ?_
        refine x_rd (pc := 47) (v := .ref (g 0 18)) E hw.1 18 hpx (C := RX0) (T := TX0) (N := 20) rfl in_X0 (Nat.le_of_ble_eq_true rfl) q132 (fun _ h => h) rfl dX0_car_47 ?_
        refine lv_iload_n (pc := 50) hx hb dX0_car_50 rfl (lv_at hl 3 rfl) ?_
        refine li_ne (pc := 51) (tgt := 67) hx hb dX0_car_51 (by decide) (fun c_4 => ?_) (fun c_4 => ?_)
        · refine lv_iload_n (pc := 67) hx hb dX0_car_67 rfl (lv_at hl 3 rfl) ?_
          refine lv_iconst (pc := 68) (v := 1) hx hb dX0_car_68 (by decide) ?_
          refine li_icne (pc := 69) (tgt := 85) hx hb dX0_car_69 (by decide) (fun c_5 => ?_) (fun c_5 => ?_)
          · refine x_new1 (pc := 85) (fs := [.int 0, .int 0, .null, .null, .null, .int 0, .null, .null, .null]) E hw (ci := 7) (C := RX9) (T := TX9) (N := 9) rfl in_X9 tyX9 tyX9_ok q697 q698 q75 (by decide) (Nat.le_of_ble_eq_true rfl) (Nat.le_of_ble_eq_true rfl) dX0_car_85 (fun a_6 V_7 H hf_9 hV_8 hw => ?_)
            have hp_10 : V_7 a_6 = some (.inr (7, [.int 0, .int 0, .null, .null, .null, .int 0, .null, .null, .null])) := by rw [hV_8]; exact xu_s _ _ _
            refine lv_dup (pc := 88) hx hb dX0_car_88 rfl ?_
            refine lv_aload_n (pc := 89) hx hb dX0_car_89 rfl (lv_at hl 1 rfl) ?_
            refine lv_iload_n (pc := 90) hx hb dX0_car_90 rfl (lv_at hl 0 rfl) ?_
            refine lv_iload_n (pc := 91) hx hb dX0_car_91 rfl (lv_at hl 2 rfl) ?_
            refine x_goWn hw (x_runI (pc := 92) (As := [.ref (g 0 0), .int (nI (cnt st 35)), .int t_]) (rest := [.ref a_6, .ref (g 0 18)]) (b := a_6) E hml hl.1 (x_preS E hw.2 hw.1) (xtX9_init_7 l D A V_7 a_6 (g 0 0) (nI (cnt st 35)) t_ hp_10) q699 q700 q75 q701 rfl hdX9_init.2 ⟨Nat.le_of_ble_eq_true rfl, Nat.le_of_ble_eq_true rfl⟩ rfl rfl rfl (Nat.le_of_ble_eq_true rfl) dX0_car_92 ⟨Nat.le_of_ble_eq_true rfl, Nat.le_of_ble_eq_true rfl⟩) (fun V_11 H locs hF_12 hw => ?_)
            obtain ⟨t, o, c_, f1, f2, n1, f3, n2, n3, hVc⟩ := hF_12
            rw [hV_8] at f1 f2 f3 hVc
            have hVo : ∀ b e, V b = some e → V_11 b = some e := by
              intro b e hb
              rw [hVc, xu_n (hf_9 b e hb), xu_n ((xu_fr f3).1 b e hb), xu_n ((xu_fr f2).1 b e hb), xu_n ((xu_fr f1).1 b e hb), xu_n (hf_9 b e hb)]; exact hb
            have hp_13 : V_11 a_6 = some (.inr (7, [.int (nI (cnt st 35)), .int t_, .ref t, .ref o, .ref c_, .int 0, .ref (g 0 0), .ref (g 0 0), .ref (g 0 0)])) := by rw [hVc]; exact xu_s _ _ _
            have hVt : V_11 t = some (.inl (D.2.1, 8, .inl (fun _ => 0))) := by rw [hVc, xu_n (Ne.symm (xu_fr f1).2), xu_n n2, xu_n n1, xu_s]
            have hVoo : V_11 o = some (.inl (D.2.1, 8, .inl (fun _ => 0))) := by rw [hVc, xu_n (Ne.symm (xu_fr f2).2), xu_n n3, xu_s]
            have hVcc : V_11 c_ = some (.inl (D.2.1, 8, .inl (fun _ => 0))) := by rw [hVc, xu_n (Ne.symm (xu_fr f3).2), xu_s]
            obtain ⟨mc_18, hpl_18⟩ := hR.p18
            have hp_14 : V_11 (g 0 18) = some (.inr (8, [.int mc_18, .ref (g 1 2), .int (nI (cnt st 35))])) := hVo _ _ hpl_18
            obtain ⟨cap_2, f1_2, hpe_2, hcap_2, hle_2, hel_2⟩ := hR.pe (j := 2) (by decide)
            replace hle_2 : cnt st 35 ≤ cap_2 := hle_2
            replace hel_2 : ∀ q, q < cnt st 35 → f1_2 q = some (g 4 q) := hel_2
            have hp_15 : V_11 (g 1 2) = some (.inl (D.2.2.2.2, cap_2, .inr (.inr (.inr (.inr f1_2))))) := hVo _ _ hpe_2
            have hel2 : ∀ i y, i < cnt st 35 → f1_2 i = some y → y ≠ g 0 18 ∧ ∃ ci fs C T N, V_11 y = some (.inr (ci, fs)) ∧ xCl[ci]? = some (C, T, N) ∧ Cond.castable C "java/lang/Object" ∈ lw_tbl := by
              intro i y hi hy
              rw [hel_2 i hi] at hy
              cases hy
              refine ⟨hR.ne (i := 4) (j := i) (i' := 0) (j' := 18) (by unfold xVal; omega) (by unfold xVal; omega) (by omega) (by omega), ?_⟩
              obtain ⟨ci, fs, C, T, N, h1_, h2_, h3_⟩ := car_obj hR hi
              exact ⟨ci, fs, C, T, N, hVo _ _ h1_, h2_, h3_⟩
            refine x_goWv5 hw (x_runF (pc := 95) (As := [.ref a_6]) (rest := []) E hml hl.1 hw.2 hw.1 hp_14 (C := RJ2) (T := TJ2) (N := 3) rfl (xtJ2_add l D A V_11 (g 0 18) (g 1 2) (cnt st 35) cap_2 a_6 mc_18 f1_2 7 [.int (nI (cnt st 35)), .int t_, .ref t, .ref o, .ref c_, .int 0, .ref (g 0 0), .ref (g 0 0), .ref (g 0 0)] RX9 TX9 9 hp_14 hp_15 hle_2 (by omega) hcap_2 hel2 hp_13 rfl q1518 (Ne.symm (hf_9 _ _ hpl_18))) E.2.2.2.2.1.2.1.2.2.2.2.2.2.2.1 q262 q265 q267 q51 q269 hdF_add ⟨Nat.le_of_ble_eq_true rfl, Nat.le_of_ble_eq_true rfl⟩ rfl rfl rfl (Nat.le_of_ble_eq_true rfl) dX0_car_95 ⟨Nat.le_of_ble_eq_true rfl, Nat.le_of_ble_eq_true rfl⟩) (fun V_16 H locs hF_17 hw => ?_)
            obtain ⟨ed_, cap_, fn_, hed_, hcap_, hlt_, hfo_, hfn_, hVa⟩ := hF_17
            refine lv_pop (pc := 100) hx hb dX0_car_100 rfl ?_
            refine lv_iload_n (pc := 101) hx hb dX0_car_101 rfl (lv_at hl 0 rfl) ?_
            refine x_more 5 55 (Nat.le_of_ble_eq_true rfl) (Nat.le_of_ble_eq_true rfl) ?_
            have hkd : k = 2 := Int32.toInt_inj.mp (by have q0 : ¬ k.toInt = 0 := fun q => c_4 (Int32.toInt_inj.mp (by rw [q]; rfl)); have q1 : ¬ k.toInt = 1 := fun q => c_5 (Int32.toInt_inj.mp (by rw [q]; rfl)); have e2 : (2 : Int32).toInt = 2 := rfl; omega)
            exact x_iret E hr hlk hw dX0_car_102 ⟨by simp only [sp_car, if_pos c_1, if_pos c_2, if_neg c_3], by simp only [sp_car, if_pos c_1, if_pos c_2, if_neg c_3]; exact ⟨cgx g (cnt st 35) a_6 t o c_ ed_, cgx_o (by decide) (by omega) (by decide), car_R hR hI (by omega) hf_9 (xu_fr f1).1 (xu_fr f2).1 (xu_fr f3).1 (xu_fr f1).2 (xu_fr f2).2 (xu_fr f3).2 n1 n2 n3 hVo hp_13 hVt hVoo hVcc hpe_2 hed_ hcap_ hlt_ (fun i hi => (hfo_ i hi).trans (hel_2 i hi)) hfn_ hVa (by rw [hkd]; rfl)⟩⟩
          · refine x_new1 (pc := 72) (fs := [.int 0, .int 0, .null, .null, .null, .int 0, .null, .null]) E hw (ci := 6) (C := RX8) (T := TX8) (N := 8) rfl in_X8 tyX8 tyX8_ok q680 q681 q74 (by decide) (Nat.le_of_ble_eq_true rfl) (Nat.le_of_ble_eq_true rfl) dX0_car_72 (fun a_18 V_19 H hf_21 hV_20 hw => ?_)
            have hp_22 : V_19 a_18 = some (.inr (6, [.int 0, .int 0, .null, .null, .null, .int 0, .null, .null])) := by rw [hV_20]; exact xu_s _ _ _
            refine lv_dup (pc := 75) hx hb dX0_car_75 rfl ?_
            refine lv_aload_n (pc := 76) hx hb dX0_car_76 rfl (lv_at hl 1 rfl) ?_
            refine lv_iload_n (pc := 77) hx hb dX0_car_77 rfl (lv_at hl 0 rfl) ?_
            refine lv_iload_n (pc := 78) hx hb dX0_car_78 rfl (lv_at hl 2 rfl) ?_
            refine x_goWn hw (x_runI (pc := 79) (As := [.ref (g 0 0), .int (nI (cnt st 35)), .int t_]) (rest := [.ref a_18, .ref (g 0 18)]) (b := a_18) E hml hl.1 (x_preS E hw.2 hw.1) (xtX8_init_6 l D A V_19 a_18 (g 0 0) (nI (cnt st 35)) t_ hp_22) q682 q683 q74 q684 rfl hdX8_init.2 ⟨Nat.le_of_ble_eq_true rfl, Nat.le_of_ble_eq_true rfl⟩ rfl rfl rfl (Nat.le_of_ble_eq_true rfl) dX0_car_79 ⟨Nat.le_of_ble_eq_true rfl, Nat.le_of_ble_eq_true rfl⟩) (fun V_23 H locs hF_24 hw => ?_)
            obtain ⟨t, o, c_, f1, f2, n1, f3, n2, n3, hVc⟩ := hF_24
            rw [hV_20] at f1 f2 f3 hVc
            have hVo : ∀ b e, V b = some e → V_23 b = some e := by
              intro b e hb
              rw [hVc, xu_n (hf_21 b e hb), xu_n ((xu_fr f3).1 b e hb), xu_n ((xu_fr f2).1 b e hb), xu_n ((xu_fr f1).1 b e hb), xu_n (hf_21 b e hb)]; exact hb
            have hp_25 : V_23 a_18 = some (.inr (6, [.int (nI (cnt st 35)), .int t_, .ref t, .ref o, .ref c_, .int 0, .ref (g 0 0), .ref (g 0 0)])) := by rw [hVc]; exact xu_s _ _ _
            have hVt : V_23 t = some (.inl (D.2.1, 8, .inl (fun _ => 0))) := by rw [hVc, xu_n (Ne.symm (xu_fr f1).2), xu_n n2, xu_n n1, xu_s]
            have hVoo : V_23 o = some (.inl (D.2.1, 8, .inl (fun _ => 0))) := by rw [hVc, xu_n (Ne.symm (xu_fr f2).2), xu_n n3, xu_s]
            have hVcc : V_23 c_ = some (.inl (D.2.1, 8, .inl (fun _ => 0))) := by rw [hVc, xu_n (Ne.symm (xu_fr f3).2), xu_s]
            refine lv_goto (pc := 82) (tgt := 95) hx hb dX0_car_82 (by decide) ?_
            obtain ⟨mc_18, hpl_18⟩ := hR.p18
            have hp_26 : V_23 (g 0 18) = some (.inr (8, [.int mc_18, .ref (g 1 2), .int (nI (cnt st 35))])) := hVo _ _ hpl_18
            obtain ⟨cap_2, f1_2, hpe_2, hcap_2, hle_2, hel_2⟩ := hR.pe (j := 2) (by decide)
            replace hle_2 : cnt st 35 ≤ cap_2 := hle_2
            replace hel_2 : ∀ q, q < cnt st 35 → f1_2 q = some (g 4 q) := hel_2
            have hp_27 : V_23 (g 1 2) = some (.inl (D.2.2.2.2, cap_2, .inr (.inr (.inr (.inr f1_2))))) := hVo _ _ hpe_2
            have hel2 : ∀ i y, i < cnt st 35 → f1_2 i = some y → y ≠ g 0 18 ∧ ∃ ci fs C T N, V_23 y = some (.inr (ci, fs)) ∧ xCl[ci]? = some (C, T, N) ∧ Cond.castable C "java/lang/Object" ∈ lw_tbl := by
              intro i y hi hy
              rw [hel_2 i hi] at hy
              cases hy
              refine ⟨hR.ne (i := 4) (j := i) (i' := 0) (j' := 18) (by unfold xVal; omega) (by unfold xVal; omega) (by omega) (by omega), ?_⟩
              obtain ⟨ci, fs, C, T, N, h1_, h2_, h3_⟩ := car_obj hR hi
              exact ⟨ci, fs, C, T, N, hVo _ _ h1_, h2_, h3_⟩
            refine x_goWv5 hw (x_runF (pc := 95) (As := [.ref a_18]) (rest := []) E hml hl.1 hw.2 hw.1 hp_26 (C := RJ2) (T := TJ2) (N := 3) rfl (xtJ2_add l D A V_23 (g 0 18) (g 1 2) (cnt st 35) cap_2 a_18 mc_18 f1_2 6 [.int (nI (cnt st 35)), .int t_, .ref t, .ref o, .ref c_, .int 0, .ref (g 0 0), .ref (g 0 0)] RX8 TX8 8 hp_26 hp_27 hle_2 (by omega) hcap_2 hel2 hp_25 rfl q1517 (Ne.symm (hf_21 _ _ hpl_18))) E.2.2.2.2.1.2.1.2.2.2.2.2.2.2.1 q262 q265 q267 q51 q269 hdF_add ⟨Nat.le_of_ble_eq_true rfl, Nat.le_of_ble_eq_true rfl⟩ rfl rfl rfl (Nat.le_of_ble_eq_true rfl) dX0_car_95 ⟨Nat.le_of_ble_eq_true rfl, Nat.le_of_ble_eq_true rfl⟩) (fun V_28 H locs hF_29 hw => ?_)
            obtain ⟨ed_, cap_, fn_, hed_, hcap_, hlt_, hfo_, hfn_, hVa⟩ := hF_29
            refine lv_pop (pc := 100) hx hb dX0_car_100 rfl ?_
            refine lv_iload_n (pc := 101) hx hb dX0_car_101 rfl (lv_at hl 0 rfl) ?_
            refine x_more 5 55 (Nat.le_of_ble_eq_true rfl) (Nat.le_of_ble_eq_true rfl) ?_
            have hkd : k = 1 := c_5
            exact x_iret E hr hlk hw dX0_car_102 ⟨by simp only [sp_car, if_pos c_1, if_pos c_2, if_neg c_3], by simp only [sp_car, if_pos c_1, if_pos c_2, if_neg c_3]; exact ⟨cgx g (cnt st 35) a_18 t o c_ ed_, cgx_o (by decide) (by omega) (by decide), car_R hR hI (by omega) hf_21 (xu_fr f1).1 (xu_fr f2).1 (xu_fr f3).1 (xu_fr f1).2 (xu_fr f2).2 (xu_fr f3).2 n1 n2 n3 hVo hp_25 hVt hVoo hVcc hpe_2 hed_ hcap_ hlt_ (fun i hi => (hfo_ i hi).trans (hel_2 i hi)) hfn_ hVa (by rw [hkd]; rfl)⟩⟩
        · refine x_new1 (pc := 54) (fs := [.int 0, .int 0, .null, .null, .null, .int 0, .null]) E hw (ci := 5) (C := RX7) (T := TX7) (N := 7) rfl in_X7 tyX7 tyX7_ok q538 q651 q73 (by decide) (Nat.le_of_ble_eq_true rfl) (Nat.le_of_ble_eq_true rfl) dX0_car_54 (fun a_30 V_31 H hf_33 hV_32 hw => ?_)
          have hp_34 : V_31 a_30 = some (.inr (5, [.int 0, .int 0, .null, .null, .null, .int 0, .null])) := by rw [hV_32]; exact xu_s _ _ _
          refine lv_dup (pc := 57) hx hb dX0_car_57 rfl ?_
          refine lv_aload_n (pc := 58) hx hb dX0_car_58 rfl (lv_at hl 1 rfl) ?_
          refine lv_iload_n (pc := 59) hx hb dX0_car_59 rfl (lv_at hl 0 rfl) ?_
          refine lv_iload_n (pc := 60) hx hb dX0_car_60 rfl (lv_at hl 2 rfl) ?_
          refine x_goWn hw (x_runI (pc := 61) (As := [.ref (g 0 0), .int (nI (cnt st 35)), .int t_]) (rest := [.ref a_30, .ref (g 0 18)]) (b := a_30) E hml hl.1 (x_preS E hw.2 hw.1) (xtX7_init_5 l D A V_31 a_30 (g 0 0) (nI (cnt st 35)) t_ hp_34) q652 q653 q73 q654 rfl hdX7_init.2 ⟨Nat.le_of_ble_eq_true rfl, Nat.le_of_ble_eq_true rfl⟩ rfl rfl rfl (Nat.le_of_ble_eq_true rfl) dX0_car_61 ⟨Nat.le_of_ble_eq_true rfl, Nat.le_of_ble_eq_true rfl⟩) (fun V_35 H locs hF_36 hw => ?_)
          obtain ⟨t, o, c_, f1, f2, n1, f3, n2, n3, hVc⟩ := hF_36
          rw [hV_32] at f1 f2 f3 hVc
          have hVo : ∀ b e, V b = some e → V_35 b = some e := by
            intro b e hb
            rw [hVc, xu_n (hf_33 b e hb), xu_n ((xu_fr f3).1 b e hb), xu_n ((xu_fr f2).1 b e hb), xu_n ((xu_fr f1).1 b e hb), xu_n (hf_33 b e hb)]; exact hb
          have hp_37 : V_35 a_30 = some (.inr (5, [.int (nI (cnt st 35)), .int t_, .ref t, .ref o, .ref c_, .int 0, .ref (g 0 0)])) := by rw [hVc]; exact xu_s _ _ _
          have hVt : V_35 t = some (.inl (D.2.1, 8, .inl (fun _ => 0))) := by rw [hVc, xu_n (Ne.symm (xu_fr f1).2), xu_n n2, xu_n n1, xu_s]
          have hVoo : V_35 o = some (.inl (D.2.1, 8, .inl (fun _ => 0))) := by rw [hVc, xu_n (Ne.symm (xu_fr f2).2), xu_n n3, xu_s]
          have hVcc : V_35 c_ = some (.inl (D.2.1, 8, .inl (fun _ => 0))) := by rw [hVc, xu_n (Ne.symm (xu_fr f3).2), xu_s]
          refine lv_goto (pc := 64) (tgt := 95) hx hb dX0_car_64 (by decide) ?_
          obtain ⟨mc_18, hpl_18⟩ := hR.p18
          have hp_38 : V_35 (g 0 18) = some (.inr (8, [.int mc_18, .ref (g 1 2), .int (nI (cnt st 35))])) := hVo _ _ hpl_18
          obtain ⟨cap_2, f1_2, hpe_2, hcap_2, hle_2, hel_2⟩ := hR.pe (j := 2) (by decide)
          replace hle_2 : cnt st 35 ≤ cap_2 := hle_2
          replace hel_2 : ∀ q, q < cnt st 35 → f1_2 q = some (g 4 q) := hel_2
          have hp_39 : V_35 (g 1 2) = some (.inl (D.2.2.2.2, cap_2, .inr (.inr (.inr (.inr f1_2))))) := hVo _ _ hpe_2
          have hel2 : ∀ i y, i < cnt st 35 → f1_2 i = some y → y ≠ g 0 18 ∧ ∃ ci fs C T N, V_35 y = some (.inr (ci, fs)) ∧ xCl[ci]? = some (C, T, N) ∧ Cond.castable C "java/lang/Object" ∈ lw_tbl := by
            intro i y hi hy
            rw [hel_2 i hi] at hy
            cases hy
            refine ⟨hR.ne (i := 4) (j := i) (i' := 0) (j' := 18) (by unfold xVal; omega) (by unfold xVal; omega) (by omega) (by omega), ?_⟩
            obtain ⟨ci, fs, C, T, N, h1_, h2_, h3_⟩ := car_obj hR hi
            exact ⟨ci, fs, C, T, N, hVo _ _ h1_, h2_, h3_⟩
          refine x_goWv5 hw (x_runF (pc := 95) (As := [.ref a_30]) (rest := []) E hml hl.1 hw.2 hw.1 hp_38 (C := RJ2) (T := TJ2) (N := 3) rfl (xtJ2_add l D A V_35 (g 0 18) (g 1 2) (cnt st 35) cap_2 a_30 mc_18 f1_2 5 [.int (nI (cnt st 35)), .int t_, .ref t, .ref o, .ref c_, .int 0, .ref (g 0 0)] RX7 TX7 7 hp_38 hp_39 hle_2 (by omega) hcap_2 hel2 hp_37 rfl q1516 (Ne.symm (hf_33 _ _ hpl_18))) E.2.2.2.2.1.2.1.2.2.2.2.2.2.2.1 q262 q265 q267 q51 q269 hdF_add ⟨Nat.le_of_ble_eq_true rfl, Nat.le_of_ble_eq_true rfl⟩ rfl rfl rfl (Nat.le_of_ble_eq_true rfl) dX0_car_95 ⟨Nat.le_of_ble_eq_true rfl, Nat.le_of_ble_eq_true rfl⟩) (fun V_40 H locs hF_41 hw => ?_)
          obtain ⟨ed_, cap_, fn_, hed_, hcap_, hlt_, hfo_, hfn_, hVa⟩ := hF_41
          refine lv_pop (pc := 100) hx hb dX0_car_100 rfl ?_
          refine lv_iload_n (pc := 101) hx hb dX0_car_101 rfl (lv_at hl 0 rfl) ?_
          refine x_more 5 55 (Nat.le_of_ble_eq_true rfl) (Nat.le_of_ble_eq_true rfl) ?_
          have hkd : k = 0 := c_4
          exact x_iret E hr hlk hw dX0_car_102 ⟨by simp only [sp_car, if_pos c_1, if_pos c_2, if_neg c_3], by simp only [sp_car, if_pos c_1, if_pos c_2, if_neg c_3]; exact ⟨cgx g (cnt st 35) a_30 t o c_ ed_, cgx_o (by decide) (by omega) (by decide), car_R hR hI (by omega) hf_33 (xu_fr f1).1 (xu_fr f2).1 (xu_fr f3).1 (xu_fr f1).2 (xu_fr f2).2 (xu_fr f3).2 n1 n2 n3 hVo hp_37 hVt hVoo hVcc hpe_2 hed_ hcap_ hlt_ (fun i hi => (hfo_ i hi).trans (hel_2 i hi)) hfn_ hVa (by rw [hkd]; rfl)⟩⟩
      · have hlt8 : cnt st 35 = 8 := by omega
        refine lv_bipush (pc := 43) (v := (-4)) hx hb dX0_car_43 (by decide) ?_
        refine x_more 5 55 (Nat.le_of_ble_eq_true rfl) (Nat.le_of_ble_eq_true rfl) ?_
        exact x_iret E hr hlk hw dX0_car_45 ⟨by simp only [sp_car, if_pos c_1, if_pos c_2, if_pos c_3], by simp only [sp_car, if_pos c_1, if_pos c_2, if_pos c_3]; exact xF.of hR⟩
    · refine lv_bipush (pc := 24) (v := (-2)) hx hb dX0_car_24 (by decide) ?_
      refine x_more 5 55 (Nat.le_of_ble_eq_true rfl) (Nat.le_of_ble_eq_true rfl) ?_
      exact x_iret E hr hlk hw dX0_car_26 ⟨by simp only [sp_car, if_pos c_1, if_neg c_2], by simp only [sp_car, if_pos c_1, if_neg c_2]; exact xF.of hR⟩
