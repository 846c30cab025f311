/-! roads, controls: new ones -/
theorem road_R {D : xD} {st : mS} {g : xG} {V V' : xV} {q ed cap cap' : Nat} {f f' : Nat → Option Nat} {mc a b d k : Int32} {E : va_E} (h : xR D st g V) (hI : mI st) (hn : cnt st 1 < 16)
    (hq : ∀ b e, V b = some e → b ≠ q) (hpe : V (g 1 0) = some (.inl (D.2.2.2.2, cap, .inr (.inr (.inr (.inr f)))))) (hed : ed = g 1 0 ∧ cap' = cap ∨ ∀ b e, xu V q E b = some e → b ≠ ed) (hc : cap' = 10 ∨ cap' = 15 ∨ cap' = 22) (hlt : cnt st 1 < cap') (hf : ∀ i, i < cnt st 1 → f' i = some (g 2 i)) (hfn : f' (cnt st 1) = some q)
    (hV : V' = xu (xu (xu V q E) ed (.inl (D.2.2.2.2, cap', .inr (.inr (.inr (.inr f')))))) (g 0 2) (.inr (8, [.int mc, .ref ed, .int (nI (cnt st 1 + 1))]))) (hE : E = xRoE k a b d 0 0 (g 0 0)) :
    xR D (mu (mu (mu (mu (mu st 2 (cnt st 1) a) 3 (cnt st 1) b) 4 (cnt st 1) d) 5 (cnt st 1) k) 0 1 (nI (cnt st 1 + 1))) (lgx g 0 (cnt st 1) q ed) V' := by
  have e1 : cnt (mu (mu (mu (mu (mu st 2 (cnt st 1) a) 3 (cnt st 1) b) 4 (cnt st 1) d) 5 (cnt st 1) k) 0 1 (nI (cnt st 1 + 1))) 1 = cnt st 1 + 1 := by
    show (mu _ 0 1 _ 0 1).toNatClampNeg = _
    rw [mu_s]
    exact nI_clamp (by omega)
  refine list_R (jl := 0) h hI (by decide) rfl e1 (fun c hc hne => ?_) (fun j => ?_) hq hpe hed hc hlt hf hfn hV (fun i j k p a1 a2 a3 hv hd => ?_) ?_ ?_
  · rcases hc with rfl | rfl | rfl
    · exact absurd rfl hne
    · rfl
    · rfl
  · rfl
  · rw [mu_k (fun e => by obtain ⟨e1, e2⟩ := e; subst e1; subst e2; have := xd0_1 hd; unfold xlr at a3; simp at a3; omega), mu_k (fun e => by obtain ⟨e1, e2⟩ := e; subst e1; exact absurd (xd_5 hd) (by omega)), mu_k (fun e => by obtain ⟨e1, e2⟩ := e; subst e1; exact absurd (xd_4 hd) (by omega)), mu_k (fun e => by obtain ⟨e1, e2⟩ := e; subst e1; exact absurd (xd_3 hd) (by omega)), mu_k (fun e => by obtain ⟨e1, e2⟩ := e; subst e1; exact absurd (xd_2 hd) (by omega))]
  · show E = xRoE _ _ _ _ _ _ _
    have h67 := (hI.2.1 (cnt st 1) hn).2.2.2.1 (Nat.le_refl _)
    have g00 : lgx g 0 (cnt st 1) q ed 0 0 = g 0 0 := by unfold lgx; rw [if_neg (by omega), if_neg (by omega)]
    rw [hE, g00]
    simp [mu, h67.1, h67.2]
  · intro j hj
    have := h.2.2 j hj
    have gg : ∀ i j, 9 ≤ i → lgx g 0 (cnt st 1) q ed i j = g i j := fun i j hi => by unfold lgx; rw [if_neg (by omega), if_neg (by omega)]
    simp only [gg _ _ (show 9 ≤ 9 by decide), gg _ _ (show 9 ≤ 10 + j by omega)]
    exact this
set_option maxHeartbeats 4000000 in
set_option maxRecDepth 100000 in
theorem xtX0_road (l : Launch) (D : xD) (A : Nat → Prop) (V : xV) (st : mS) (g : xG)  (a : Int32) (b : Int32) (d : Int32) (k : Int32) (hI : mI st) (hR : xR D st g V)  : Met l yX0_road (ws_ yX0_road cX0_road 5 (some .int)) (xRm 10 2 29) (xP D A V [.ref (g 0 0), .int a, .int b, .int d, .int k]) (xQ D A (fun ρ V' => ρ = some (.int (sp_road st a b d k).1) ∧ xF D g ((sp_road st a b d k).2) V')) 2 29 A := by
  refine x_headW (own := RX0) (As := [.ref (g 0 0), .int a, .int b, .int d, .int k]) (bytes := cX0_road) (maxL := 5) (ret := (some .int)) (by decide) rfl (Nat.le_of_ble_eq_true rfl) ?_
  intro p e s m below meth c E hml hr hlk hin2 hw ls hl
  have hx := E.1
  have hb := E.2.1
  have hts := E.2.2.1
  have hown := E.2.2.2.1
  have hl : lv_has ls 5 [(0, .ref (g 0 0)), (1, .int a), (2, .int b), (3, .int d), (4, .int k)] := hl
  have h16 := hI.r16
  have h10 := hI.l10
  have hv8 := hI.v8
  have hc8 := hI.c8
  have hk8 := hI.k8
  have hb8 := hI.b8
  refine lv_iload_n (pc := 0) hx hb dX0_road_0 rfl (lv_at hl 1 rfl) ?_
  refine x_goR (x_runS (pc := 1) (As := [.int a]) (rest := []) E hml hl.1 (x_preE) (xtX0_isSpot l a) q180 q181 q48 q182 hdX0_isSpot.2 ⟨Nat.le_of_ble_eq_true rfl, Nat.le_of_ble_eq_true rfl⟩ rfl rfl rfl (Nat.le_of_ble_eq_true rfl) dX0_road_1 ⟨Nat.le_of_ble_eq_true rfl, Nat.le_of_ble_eq_true rfl⟩) ?_
  refine lb_eq (pc := 4) (tgt := 14) hx hb dX0_road_4 (by decide) (fun c_1 => ?_) (fun c_1 => ?_)
  · refine lv_iconst (pc := 14) (v := (-1)) hx hb dX0_road_14 (by decide) ?_
    refine x_more 2 29 (Nat.le_of_ble_eq_true rfl) (Nat.le_of_ble_eq_true rfl) ?_
    exact x_iret E hr hlk hw dX0_road_15 ⟨by simp only [sp_road, if_neg c_1], by simp only [sp_road, if_neg c_1]; exact xF.of hR⟩
  · refine lv_iload_n (pc := 7) hx hb dX0_road_7 rfl (lv_at hl 2 rfl) ?_
    refine x_goR (x_runS (pc := 8) (As := [.int b]) (rest := []) E hml hl.1 (x_preE) (xtX0_isSpot l b) q180 q181 q48 q182 hdX0_isSpot.2 ⟨Nat.le_of_ble_eq_true rfl, Nat.le_of_ble_eq_true rfl⟩ rfl rfl rfl (Nat.le_of_ble_eq_true rfl) dX0_road_8 ⟨Nat.le_of_ble_eq_true rfl, Nat.le_of_ble_eq_true rfl⟩) ?_
    refine lb_ne (pc := 11) (tgt := 16) hx hb dX0_road_11 (by decide) (fun c_2 => ?_) (fun c_2 => ?_)
    · refine lv_iload_n (pc := 16) hx hb dX0_road_16 rfl (lv_at hl 1 rfl) ?_
      refine lv_iload_n (pc := 17) hx hb dX0_road_17 rfl (lv_at hl 2 rfl) ?_
      refine lv_icmp_eq (pc := 18) (tgt := 46) hx hb dX0_road_18 (by decide) (fun c_3 => ?_) (fun c_3 => ?_)
      · refine lv_bipush (pc := 46) (v := (-2)) hx hb dX0_road_46 (by decide) ?_
        refine x_more 2 29 (Nat.le_of_ble_eq_true rfl) (Nat.le_of_ble_eq_true rfl) ?_
        exact x_iret E hr hlk hw dX0_road_48 ⟨by simp only [sp_road, if_pos c_1, if_pos c_2, if_pos c_3], by simp only [sp_road, if_pos c_1, if_pos c_2, if_pos c_3]; exact xF.of hR⟩
      · refine lv_iload_n (pc := 21) hx hb dX0_road_21 rfl (lv_at hl 3 rfl) ?_
        refine lv_i2l (pc := 22) (v := d.toInt64) hx hb dX0_road_22 rfl ?_
        refine lv_lconst (pc := 23) (v := 1) hx hb dX0_road_23 (by decide) ?_
        refine lv_ldc2 (pc := 24) hx hb hown (hts _ q187) dX0_road_24 ?_
        refine x_goR (x_runS (pc := 27) (As := [.long d.toInt64, .long 1, .long 20000]) (rest := []) E hml hl.1 (x_preE) (xtX0_isInB l d 1 20000 1 20000 rfl rfl) q184 q185 q48 q186 hdX0_isIn.2 ⟨Nat.le_of_ble_eq_true rfl, Nat.le_of_ble_eq_true rfl⟩ rfl rfl rfl (Nat.le_of_ble_eq_true rfl) dX0_road_27 ⟨Nat.le_of_ble_eq_true rfl, Nat.le_of_ble_eq_true rfl⟩) ?_
        refine lb_eq (pc := 30) (tgt := 46) hx hb dX0_road_30 (by decide) (fun c_4 => ?_) (fun c_4 => ?_)
        · refine lv_bipush (pc := 46) (v := (-2)) hx hb dX0_road_46 (by decide) ?_
          refine x_more 2 29 (Nat.le_of_ble_eq_true rfl) (Nat.le_of_ble_eq_true rfl) ?_
          exact x_iret E hr hlk hw dX0_road_48 ⟨by simp only [sp_road, if_pos c_1, if_pos c_2, if_neg c_3, if_neg c_4], by simp only [sp_road, if_pos c_1, if_pos c_2, if_neg c_3, if_neg c_4]; exact xF.of hR⟩
        · refine lv_iload (pc := 33) hx hb dX0_road_33 (lv_at hl 4 rfl) ?_
          refine lv_i2l (pc := 35) (v := k.toInt64) hx hb dX0_road_35 rfl ?_
          refine lv_lconst (pc := 36) (v := 0) hx hb dX0_road_36 (by decide) ?_
          refine lv_ldc2 (pc := 37) hx hb hown (hts _ q188) dX0_road_37 ?_
          refine x_goR (x_runS (pc := 40) (As := [.long k.toInt64, .long 0, .long 2]) (rest := []) E hml hl.1 (x_preE) (xtX0_isInB l k 0 2 0 2 rfl rfl) q184 q185 q48 q186 hdX0_isIn.2 ⟨Nat.le_of_ble_eq_true rfl, Nat.le_of_ble_eq_true rfl⟩ rfl rfl rfl (Nat.le_of_ble_eq_true rfl) dX0_road_40 ⟨Nat.le_of_ble_eq_true rfl, Nat.le_of_ble_eq_true rfl⟩) ?_
          refine lb_ne (pc := 43) (tgt := 49) hx hb dX0_road_43 (by decide) (fun c_5 => ?_) (fun c_5 => ?_)
          · refine lv_aload_n (pc := 49) hx hb dX0_road_49 rfl (lv_at hl 0 rfl) ?_
            obtain ⟨b7, b8, b9, hpx⟩ := hR.px hI
            replace hpx : V (g 0 0) = some (.inr (0, [.int (st 0 0), .int (st 0 42), .ref (g 0 2), .ref (g 0 3), .int (nI (cnt st 12)), .ref (g 0 5), .ref (g 0 6), .int b7, .long b8, .int b9, .int (st 0 14), .ref (g 0 11), .int (nI (cnt st 24)), .int (st 0 25), .ref (g 0 14), .ref (g 0 15), .int (nI (cnt st 27)), .ref (g 0 17), .ref (g 0 18), .ref (g 0 19)])) := hpx
            refine x_rd (pc := 50) (v := .ref (g 0 2)) E hw.1 2 hpx (C := RX0) (T := TX0) (N := 20) rfl in_X0 (Nat.le_of_ble_eq_true rfl) q115 (fun _ h => h) rfl dX0_road_50 ?_
            obtain ⟨mc_2, hpl_2⟩ := hR.p2
            refine x_goR5 (x_runF (pc := 53) (As := []) (rest := []) E hml hl.1 hw.2 hw.1 hpl_2 (C := RJ2) (T := TJ2) (N := 3) rfl (xtJ2_size l D A V (g 0 2) (g 1 0) (cnt st 1) mc_2 hpl_2) E.2.2.2.2.1.2.1.2.2.2.2.2.1 q190 q194 q196 q51 q198 hdF_size ⟨Nat.le_of_ble_eq_true rfl, Nat.le_of_ble_eq_true rfl⟩ rfl rfl rfl (Nat.le_of_ble_eq_true rfl) dX0_road_53 ⟨Nat.le_of_ble_eq_true rfl, Nat.le_of_ble_eq_true rfl⟩) ?_
            refine lv_bipush (pc := 58) (v := 16) hx hb dX0_road_58 (by decide) ?_
            refine li_icmp_neN (pc := 60) (a := cnt st 1) (b := 16) (tgt := 66) hx hb (by omega) (by omega) dX0_road_60 (by decide) (fun c_6 => ?_) (fun c_6 => ?_)
            · have hlt16 : cnt st 1 < 16 := by omega
              refine lv_aload_n (pc := 66) hx hb dX0_road_66 rfl (lv_at hl 0 rfl) ?_
              refine x_rd (pc := 67) (v := .ref (g 0 2)) E hw.1 2 hpx (C := RX0) (T := TX0) (N := 20) rfl in_X0 (Nat.le_of_ble_eq_true rfl) q115 (fun _ h => h) rfl dX0_road_67 ?_
              refine lv_iload (pc := 70) hx hb dX0_road_70 (lv_at hl 4 rfl) ?_
              refine li_ne (pc := 72) (tgt := 89) hx hb dX0_road_72 (by decide) (fun c_7 => ?_) (fun c_7 => ?_)
              · refine lv_iload (pc := 89) hx hb dX0_road_89 (lv_at hl 4 rfl) ?_
                refine lv_iconst (pc := 91) (v := 1) hx hb dX0_road_91 (by decide) ?_
                refine li_icne (pc := 92) (tgt := 109) hx hb dX0_road_92 (by decide) (fun c_8 => ?_) (fun c_8 => ?_)
                · refine x_new1 (pc := 109) (fs := [.int 0, .int 0, .int 0, .int 0, .null, .int 0, .null]) E hw (ci := 3) (C := RX4) (T := TX4) (N := 7) rfl in_X4 tyX4 tyX4_ok q242 q243 q55 (by decide) (Nat.le_of_ble_eq_true rfl) (Nat.le_of_ble_eq_true rfl) dX0_road_109 (fun a_9 V_10 H hf_12 hV_11 hw => ?_)
                  have hp_13 : V_10 a_9 = some (.inr (3, [.int 0, .int 0, .int 0, .int 0, .null, .int 0, .null])) := by rw [hV_11]; exact xu_s _ _ _
                  refine lv_dup (pc := 112) hx hb dX0_road_112 rfl ?_
                  refine lv_aload_n (pc := 113) hx hb dX0_road_113 rfl (lv_at hl 0 rfl) ?_
                  refine lv_iload_n (pc := 114) hx hb dX0_road_114 rfl (lv_at hl 1 rfl) ?_
                  refine lv_iload_n (pc := 115) hx hb dX0_road_115 rfl (lv_at hl 2 rfl) ?_
                  refine lv_iload_n (pc := 116) hx hb dX0_road_116 rfl (lv_at hl 3 rfl) ?_
                  refine x_goWn hw (x_runI (pc := 117) (As := [.ref (g 0 0), .int a, .int b, .int d]) (rest := [.ref a_9, .ref (g 0 2)]) (b := a_9) E hml hl.1 (x_preS E hw.2 hw.1) (xtX4_init l D A V_10 a_9 (g 0 0) a b d hp_13) q244 q245 q55 q246 rfl hdX4_init.2 ⟨Nat.le_of_ble_eq_true rfl, Nat.le_of_ble_eq_true rfl⟩ rfl rfl rfl (Nat.le_of_ble_eq_true rfl) dX0_road_117 ⟨Nat.le_of_ble_eq_true rfl, Nat.le_of_ble_eq_true rfl⟩) (fun V_14 H locs hF_15 hw => ?_)
                  have hp_16 : V_14 a_9 = some (.inr (3, [.int a, .int b, .int d, .int 0, .ref (g 0 0), .int 0, .ref (g 0 0)])) := by rw [hF_15]; exact xu_s _ _ _
                  have hp_17 : V_10 (g 0 2) = some (.inr (8, [.int mc_2, .ref (g 1 0), .int (nI (cnt st 1))])) := by rw [hV_11, xu_n (hf_12 _ _ hpl_2)]; exact hpl_2
                  have hp_18 : V_14 (g 0 2) = some (.inr (8, [.int mc_2, .ref (g 1 0), .int (nI (cnt st 1))])) := by rw [hF_15, xu_n (hf_12 _ _ hpl_2)]; exact hp_17
                  obtain ⟨cap_0, f1_0, hpe_0, hcap_0, hle_0, hel_0⟩ := hR.pe (j := 0) (by decide)
                  replace hle_0 : cnt st 1 ≤ cap_0 := hle_0
                  replace hel_0 : ∀ q, q < cnt st 1 → f1_0 q = some (g 2 q) := hel_0
                  have hp_19 : V_10 (g 1 0) = some (.inl (D.2.2.2.2, cap_0, .inr (.inr (.inr (.inr f1_0))))) := by rw [hV_11, xu_n (hf_12 _ _ hpe_0)]; exact hpe_0
                  have hp_20 : V_14 (g 1 0) = some (.inl (D.2.2.2.2, cap_0, .inr (.inr (.inr (.inr f1_0))))) := by rw [hF_15, xu_n (x_ne hp_19 hp_13 (by intro h; cases h))]; exact hp_19
                  have he_21 : ∀ i y, i < cnt st 1 → f1_0 i = some y → y ≠ g 0 2 ∧ ∃ ci fs C T N, V_14 y = some (.inr (ci, fs)) ∧ xCl[ci]? = some (C, T, N) ∧ Cond.castable C "java/lang/Object" ∈ lw_tbl := by
                    intro i y hi hy
                    rw [hel_0 i hi] at hy
                    cases hy
                    refine ⟨hR.ne (i := 2) (j := i) (i' := 0) (j' := 2) (by unfold xVal; omega) (by unfold xVal; omega) (by omega) (by omega), ?_⟩
                    obtain ⟨ci, fs, C, T, N, h1_, h2_, h3_⟩ := road_obj hR hi
                    exact ⟨ci, fs, C, T, N, by rw [hF_15, xu_n (hf_12 _ _ h1_), hV_11, xu_n (hf_12 _ _ h1_)]; exact h1_, h2_, h3_⟩
                  have hp_22 : V_10 (g 0 0) = some (.inr (0, [.int (st 0 0), .int (st 0 42), .ref (g 0 2), .ref (g 0 3), .int (nI (cnt st 12)), .ref (g 0 5), .ref (g 0 6), .int b7, .long b8, .int b9, .int (st 0 14), .ref (g 0 11), .int (nI (cnt st 24)), .int (st 0 25), .ref (g 0 14), .ref (g 0 15), .int (nI (cnt st 27)), .ref (g 0 17), .ref (g 0 18), .ref (g 0 19)])) := by rw [hV_11, xu_n (hf_12 _ _ hpx)]; exact hpx
                  have hp_23 : V_14 (g 0 0) = some (.inr (0, [.int (st 0 0), .int (st 0 42), .ref (g 0 2), .ref (g 0 3), .int (nI (cnt st 12)), .ref (g 0 5), .ref (g 0 6), .int b7, .long b8, .int b9, .int (st 0 14), .ref (g 0 11), .int (nI (cnt st 24)), .int (st 0 25), .ref (g 0 14), .ref (g 0 15), .int (nI (cnt st 27)), .ref (g 0 17), .ref (g 0 18), .ref (g 0 19)])) := by rw [hF_15, xu_n (hf_12 _ _ hpx)]; exact hp_22
                  refine x_goWv5 hw (x_runF (pc := 120) (As := [.ref a_9]) (rest := []) E hml hl.1 hw.2 hw.1 hp_18 (C := RJ2) (T := TJ2) (N := 3) rfl (xtJ2_add l D A V_14 (g 0 2) (g 1 0) (cnt st 1) cap_0 a_9 mc_2 f1_0 3 [.int a, .int b, .int d, .int 0, .ref (g 0 0), .int 0, .ref (g 0 0)] RX4 TX4 7 hp_18 hp_20 hle_0 (by omega) hcap_0 he_21 hp_16 rfl q1509 (Ne.symm (hf_12 _ _ hpl_2))) E.2.2.2.2.1.2.1.2.2.2.2.2.2.2.1 q262 q265 q267 q51 q269 hdF_add ⟨Nat.le_of_ble_eq_true rfl, Nat.le_of_ble_eq_true rfl⟩ rfl rfl rfl (Nat.le_of_ble_eq_true rfl) dX0_road_120 ⟨Nat.le_of_ble_eq_true rfl, Nat.le_of_ble_eq_true rfl⟩) (fun V_24 H locs hF_25 hw => ?_)
                  obtain ⟨ed_, cap_, fn_, hed_, hcap_, hlt_, hfo_, hfn_, hVa⟩ := hF_25
                  have hp_26 : V_24 (g 0 2) = some (.inr (8, [.int (mc_2 + 1), .ref ed_, .int (nI (cnt st 1 + 1))])) := by rw [hVa]; exact xu_s _ _ _
                  have hp_27 : V_24 (g 0 0) = some (.inr (0, [.int (st 0 0), .int (st 0 42), .ref (g 0 2), .ref (g 0 3), .int (nI (cnt st 12)), .ref (g 0 5), .ref (g 0 6), .int b7, .long b8, .int b9, .int (st 0 14), .ref (g 0 11), .int (nI (cnt st 24)), .int (st 0 25), .ref (g 0 14), .ref (g 0 15), .int (nI (cnt st 27)), .ref (g 0 17), .ref (g 0 18), .ref (g 0 19)])) := by
                    rw [hVa, xu_n (hR.ne (i := 0) (j := 0) (i' := 0) (j' := 2) (by unfold xVal; omega) (by unfold xVal; omega) (by omega) (by omega))]
                    rcases hed_ with ⟨e_, -⟩ | e_
                    · rw [e_, xu_n (hR.ne (i := 0) (j := 0) (i' := 1) (j' := 0) (by unfold xVal; omega) (by unfold xVal; omega) (by omega) (by omega))]; exact hp_23
                    · rw [xu_n (e_ _ _ hp_23)]; exact hp_23
                  refine lv_pop (pc := 125) hx hb dX0_road_125 rfl ?_
                  refine lv_aload_n (pc := 126) hx hb dX0_road_126 rfl (lv_at hl 0 rfl) ?_
                  refine x_rd (pc := 127) (v := .ref (g 0 2)) E hw.1 2 hp_27 (C := RX0) (T := TX0) (N := 20) rfl in_X0 (Nat.le_of_ble_eq_true rfl) q115 (fun _ h => h) rfl dX0_road_127 ?_
                  refine x_goR5 (x_runF (pc := 130) (As := []) (rest := []) E hml hl.1 hw.2 hw.1 hp_26 (C := RJ2) (T := TJ2) (N := 3) rfl (xtJ2_size l D A V_24 (g 0 2) ed_ (cnt st 1 + 1) (mc_2 + 1) hp_26) E.2.2.2.2.1.2.1.2.2.2.2.2.1 q190 q194 q196 q51 q198 hdF_size ⟨Nat.le_of_ble_eq_true rfl, Nat.le_of_ble_eq_true rfl⟩ rfl rfl rfl (Nat.le_of_ble_eq_true rfl) dX0_road_130 ⟨Nat.le_of_ble_eq_true rfl, Nat.le_of_ble_eq_true rfl⟩) ?_
                  refine lv_iconst (pc := 135) (v := 1) hx hb dX0_road_135 (by decide) ?_
                  refine lv_isub (pc := 136) hx hb dX0_road_136 ?_
                  refine li_top (v' := .int (nI (cnt st 1))) (congrArg Value.int (nI_pred _)) ?_
                  refine x_more 2 29 (Nat.le_of_ble_eq_true rfl) (Nat.le_of_ble_eq_true rfl) ?_
                  have hV2 : V_14 = xu V a_9 (.inr (3, [.int a, .int b, .int d, .int 0, .ref (g 0 0), .int 0, .ref (g 0 0)])) := by rw [hF_15, hV_11, xu_xu]
                  rw [hV2] at hed_ hVa
                  have hkd : k = 2 := Int32.toInt_inj.mp (by have q0 : ¬ k.toInt = 0 := fun q => c_7 (Int32.toInt_inj.mp (by rw [q]; rfl)); have q1 : ¬ k.toInt = 1 := fun q => c_8 (Int32.toInt_inj.mp (by rw [q]; rfl)); have e2 : (2 : Int32).toInt = 2 := rfl; omega)
                  exact x_iret E hr hlk hw dX0_road_137 ⟨by simp only [sp_road, if_pos c_1, if_pos c_2, if_neg c_3, if_pos c_4, if_pos c_5, if_neg c_6, Nat.add_sub_cancel], by simp only [sp_road, if_pos c_1, if_pos c_2, if_neg c_3, if_pos c_4, if_pos c_5, if_neg c_6]; exact ⟨lgx g 0 (cnt st 1) a_9 ed_, (if_neg (by omega)).trans (if_neg (by omega)), road_R hR hI (by omega) hf_12 hpe_0 hed_ hcap_ hlt_ (fun i hi => (hfo_ i hi).trans (hel_0 i hi)) hfn_ hVa (by rw [hkd]; rfl)⟩⟩
                · refine x_new1 (pc := 95) (fs := [.int 0, .int 0, .int 0, .int 0, .null, .null]) E hw (ci := 2) (C := RX3) (T := TX3) (N := 6) rfl in_X3 tyX3 tyX3_ok q227 q228 q54 (by decide) (Nat.le_of_ble_eq_true rfl) (Nat.le_of_ble_eq_true rfl) dX0_road_95 (fun a_28 V_29 H hf_31 hV_30 hw => ?_)
                  have hp_32 : V_29 a_28 = some (.inr (2, [.int 0, .int 0, .int 0, .int 0, .null, .null])) := by rw [hV_30]; exact xu_s _ _ _
                  refine lv_dup (pc := 98) hx hb dX0_road_98 rfl ?_
                  refine lv_aload_n (pc := 99) hx hb dX0_road_99 rfl (lv_at hl 0 rfl) ?_
                  refine lv_iload_n (pc := 100) hx hb dX0_road_100 rfl (lv_at hl 1 rfl) ?_
                  refine lv_iload_n (pc := 101) hx hb dX0_road_101 rfl (lv_at hl 2 rfl) ?_
                  refine lv_iload_n (pc := 102) hx hb dX0_road_102 rfl (lv_at hl 3 rfl) ?_
                  refine x_goWn hw (x_runI (pc := 103) (As := [.ref (g 0 0), .int a, .int b, .int d]) (rest := [.ref a_28, .ref (g 0 2)]) (b := a_28) E hml hl.1 (x_preS E hw.2 hw.1) (xtX3_init l D A V_29 a_28 (g 0 0) a b d hp_32) q229 q230 q54 q231 rfl hdX3_init.2 ⟨Nat.le_of_ble_eq_true rfl, Nat.le_of_ble_eq_true rfl⟩ rfl rfl rfl (Nat.le_of_ble_eq_true rfl) dX0_road_103 ⟨Nat.le_of_ble_eq_true rfl, Nat.le_of_ble_eq_true rfl⟩) (fun V_33 H locs hF_34 hw => ?_)
                  have hp_35 : V_33 a_28 = some (.inr (2, [.int a, .int b, .int d, .int 0, .ref (g 0 0), .ref (g 0 0)])) := by rw [hF_34]; exact xu_s _ _ _
                  refine lv_goto (pc := 106) (tgt := 120) hx hb dX0_road_106 (by decide) ?_
                  have hp_36 : V_29 (g 0 2) = some (.inr (8, [.int mc_2, .ref (g 1 0), .int (nI (cnt st 1))])) := by rw [hV_30, xu_n (hf_31 _ _ hpl_2)]; exact hpl_2
                  have hp_37 : V_33 (g 0 2) = some (.inr (8, [.int mc_2, .ref (g 1 0), .int (nI (cnt st 1))])) := by rw [hF_34, xu_n (hf_31 _ _ hpl_2)]; exact hp_36
                  obtain ⟨cap_0, f1_0, hpe_0, hcap_0, hle_0, hel_0⟩ := hR.pe (j := 0) (by decide)
                  replace hle_0 : cnt st 1 ≤ cap_0 := hle_0
                  replace hel_0 : ∀ q, q < cnt st 1 → f1_0 q = some (g 2 q) := hel_0
                  have hp_38 : V_29 (g 1 0) = some (.inl (D.2.2.2.2, cap_0, .inr (.inr (.inr (.inr f1_0))))) := by rw [hV_30, xu_n (hf_31 _ _ hpe_0)]; exact hpe_0
                  have hp_39 : V_33 (g 1 0) = some (.inl (D.2.2.2.2, cap_0, .inr (.inr (.inr (.inr f1_0))))) := by rw [hF_34, xu_n (x_ne hp_38 hp_32 (by intro h; cases h))]; exact hp_38
                  have he_40 : ∀ i y, i < cnt st 1 → f1_0 i = some y → y ≠ g 0 2 ∧ ∃ ci fs C T N, V_33 y = some (.inr (ci, fs)) ∧ xCl[ci]? = some (C, T, N) ∧ Cond.castable C "java/lang/Object" ∈ lw_tbl := by
                    intro i y hi hy
                    rw [hel_0 i hi] at hy
                    cases hy
                    refine ⟨hR.ne (i := 2) (j := i) (i' := 0) (j' := 2) (by unfold xVal; omega) (by unfold xVal; omega) (by omega) (by omega), ?_⟩
                    obtain ⟨ci, fs, C, T, N, h1_, h2_, h3_⟩ := road_obj hR hi
                    exact ⟨ci, fs, C, T, N, by rw [hF_34, xu_n (hf_31 _ _ h1_), hV_30, xu_n (hf_31 _ _ h1_)]; exact h1_, h2_, h3_⟩
                  have hp_41 : V_29 (g 0 0) = some (.inr (0, [.int (st 0 0), .int (st 0 42), .ref (g 0 2), .ref (g 0 3), .int (nI (cnt st 12)), .ref (g 0 5), .ref (g 0 6), .int b7, .long b8, .int b9, .int (st 0 14), .ref (g 0 11), .int (nI (cnt st 24)), .int (st 0 25), .ref (g 0 14), .ref (g 0 15), .int (nI (cnt st 27)), .ref (g 0 17), .ref (g 0 18), .ref (g 0 19)])) := by rw [hV_30, xu_n (hf_31 _ _ hpx)]; exact hpx
                  have hp_42 : V_33 (g 0 0) = some (.inr (0, [.int (st 0 0), .int (st 0 42), .ref (g 0 2), .ref (g 0 3), .int (nI (cnt st 12)), .ref (g 0 5), .ref (g 0 6), .int b7, .long b8, .int b9, .int (st 0 14), .ref (g 0 11), .int (nI (cnt st 24)), .int (st 0 25), .ref (g 0 14), .ref (g 0 15), .int (nI (cnt st 27)), .ref (g 0 17), .ref (g 0 18), .ref (g 0 19)])) := by rw [hF_34, xu_n (hf_31 _ _ hpx)]; exact hp_41
                  refine x_goWv5 hw (x_runF (pc := 120) (As := [.ref a_28]) (rest := []) E hml hl.1 hw.2 hw.1 hp_37 (C := RJ2) (T := TJ2) (N := 3) rfl (xtJ2_add l D A V_33 (g 0 2) (g 1 0) (cnt st 1) cap_0 a_28 mc_2 f1_0 2 [.int a, .int b, .int d, .int 0, .ref (g 0 0), .ref (g 0 0)] RX3 TX3 6 hp_37 hp_39 hle_0 (by omega) hcap_0 he_40 hp_35 rfl q1508 (Ne.symm (hf_31 _ _ hpl_2))) E.2.2.2.2.1.2.1.2.2.2.2.2.2.2.1 q262 q265 q267 q51 q269 hdF_add ⟨Nat.le_of_ble_eq_true rfl, Nat.le_of_ble_eq_true rfl⟩ rfl rfl rfl (Nat.le_of_ble_eq_true rfl) dX0_road_120 ⟨Nat.le_of_ble_eq_true rfl, Nat.le_of_ble_eq_true rfl⟩) (fun V_43 H locs hF_44 hw => ?_)
                  obtain ⟨ed_, cap_, fn_, hed_, hcap_, hlt_, hfo_, hfn_, hVa⟩ := hF_44
                  have hp_45 : V_43 (g 0 2) = some (.inr (8, [.int (mc_2 + 1), .ref ed_, .int (nI (cnt st 1 + 1))])) := by rw [hVa]; exact xu_s _ _ _
                  have hp_46 : V_43 (g 0 0) = some (.inr (0, [.int (st 0 0), .int (st 0 42), .ref (g 0 2), .ref (g 0 3), .int (nI (cnt st 12)), .ref (g 0 5), .ref (g 0 6), .int b7, .long b8, .int b9, .int (st 0 14), .ref (g 0 11), .int (nI (cnt st 24)), .int (st 0 25), .ref (g 0 14), .ref (g 0 15), .int (nI (cnt st 27)), .ref (g 0 17), .ref (g 0 18), .ref (g 0 19)])) := by
                    rw [hVa, xu_n (hR.ne (i := 0) (j := 0) (i' := 0) (j' := 2) (by unfold xVal; omega) (by unfold xVal; omega) (by omega) (by omega))]
                    rcases hed_ with ⟨e_, -⟩ | e_
                    · rw [e_, xu_n (hR.ne (i := 0) (j := 0) (i' := 1) (j' := 0) (by unfold xVal; omega) (by unfold xVal; omega) (by omega) (by omega))]; exact hp_42
                    · rw [xu_n (e_ _ _ hp_42)]; exact hp_42
                  refine lv_pop (pc := 125) hx hb dX0_road_125 rfl ?_
                  refine lv_aload_n (pc := 126) hx hb dX0_road_126 rfl (lv_at hl 0 rfl) ?_
                  refine x_rd (pc := 127) (v := .ref (g 0 2)) E hw.1 2 hp_46 (C := RX0) (T := TX0) (N := 20) rfl in_X0 (Nat.le_of_ble_eq_true rfl) q115 (fun _ h => h) rfl dX0_road_127 ?_
                  refine x_goR5 (x_runF (pc := 130) (As := []) (rest := []) E hml hl.1 hw.2 hw.1 hp_45 (C := RJ2) (T := TJ2) (N := 3) rfl (xtJ2_size l D A V_43 (g 0 2) ed_ (cnt st 1 + 1) (mc_2 + 1) hp_45) E.2.2.2.2.1.2.1.2.2.2.2.2.1 q190 q194 q196 q51 q198 hdF_size ⟨Nat.le_of_ble_eq_true rfl, Nat.le_of_ble_eq_true rfl⟩ rfl rfl rfl (Nat.le_of_ble_eq_true rfl) dX0_road_130 ⟨Nat.le_of_ble_eq_true rfl, Nat.le_of_ble_eq_true rfl⟩) ?_
                  refine lv_iconst (pc := 135) (v := 1) hx hb dX0_road_135 (by decide) ?_
                  refine lv_isub (pc := 136) hx hb dX0_road_136 ?_
                  refine li_top (v' := .int (nI (cnt st 1))) (congrArg Value.int (nI_pred _)) ?_
                  refine x_more 2 29 (Nat.le_of_ble_eq_true rfl) (Nat.le_of_ble_eq_true rfl) ?_
                  have hV2 : V_33 = xu V a_28 (.inr (2, [.int a, .int b, .int d, .int 0, .ref (g 0 0), .ref (g 0 0)])) := by rw [hF_34, hV_30, xu_xu]
                  rw [hV2] at hed_ hVa
                  have hkd : k = 1 := c_8
                  exact x_iret E hr hlk hw dX0_road_137 ⟨by simp only [sp_road, if_pos c_1, if_pos c_2, if_neg c_3, if_pos c_4, if_pos c_5, if_neg c_6, Nat.add_sub_cancel], by simp only [sp_road, if_pos c_1, if_pos c_2, if_neg c_3, if_pos c_4, if_pos c_5, if_neg c_6]; exact ⟨lgx g 0 (cnt st 1) a_28 ed_, (if_neg (by omega)).trans (if_neg (by omega)), road_R hR hI (by omega) hf_31 hpe_0 hed_ hcap_ hlt_ (fun i hi => (hfo_ i hi).trans (hel_0 i hi)) hfn_ hVa (by rw [hkd]; rfl)⟩⟩
              · refine x_new1 (pc := 75) (fs := [.int 0, .int 0, .int 0, .int 0, .null]) E hw (ci := 1) (C := RX2) (T := TX2) (N := 5) rfl in_X2 tyX2 tyX2_ok q199 q200 q53 (by decide) (Nat.le_of_ble_eq_true rfl) (Nat.le_of_ble_eq_true rfl) dX0_road_75 (fun a_47 V_48 H hf_50 hV_49 hw => ?_)
                have hp_51 : V_48 a_47 = some (.inr (1, [.int 0, .int 0, .int 0, .int 0, .null])) := by rw [hV_49]; exact xu_s _ _ _
                refine lv_dup (pc := 78) hx hb dX0_road_78 rfl ?_
                refine lv_aload_n (pc := 79) hx hb dX0_road_79 rfl (lv_at hl 0 rfl) ?_
                refine lv_iload_n (pc := 80) hx hb dX0_road_80 rfl (lv_at hl 1 rfl) ?_
                refine lv_iload_n (pc := 81) hx hb dX0_road_81 rfl (lv_at hl 2 rfl) ?_
                refine lv_iload_n (pc := 82) hx hb dX0_road_82 rfl (lv_at hl 3 rfl) ?_
                refine x_goWn hw (x_runI (pc := 83) (As := [.ref (g 0 0), .int a, .int b, .int d]) (rest := [.ref a_47, .ref (g 0 2)]) (b := a_47) E hml hl.1 (x_preS E hw.2 hw.1) (xtX2_init_1 l D A V_48 a_47 (g 0 0) a b d hp_51) q201 q202 q53 q203 rfl hdX2_init.2 ⟨Nat.le_of_ble_eq_true rfl, Nat.le_of_ble_eq_true rfl⟩ rfl rfl rfl (Nat.le_of_ble_eq_true rfl) dX0_road_83 ⟨Nat.le_of_ble_eq_true rfl, Nat.le_of_ble_eq_true rfl⟩) (fun V_52 H locs hF_53 hw => ?_)
                have hp_54 : V_52 a_47 = some (.inr (1, [.int a, .int b, .int d, .int 0, .ref (g 0 0)])) := by rw [hF_53]; exact xu_s _ _ _
                refine lv_goto (pc := 86) (tgt := 120) hx hb dX0_road_86 (by decide) ?_
                have hp_55 : V_48 (g 0 2) = some (.inr (8, [.int mc_2, .ref (g 1 0), .int (nI (cnt st 1))])) := by rw [hV_49, xu_n (hf_50 _ _ hpl_2)]; exact hpl_2
                have hp_56 : V_52 (g 0 2) = some (.inr (8, [.int mc_2, .ref (g 1 0), .int (nI (cnt st 1))])) := by rw [hF_53, xu_n (hf_50 _ _ hpl_2)]; exact hp_55
                obtain ⟨cap_0, f1_0, hpe_0, hcap_0, hle_0, hel_0⟩ := hR.pe (j := 0) (by decide)
                replace hle_0 : cnt st 1 ≤ cap_0 := hle_0
                replace hel_0 : ∀ q, q < cnt st 1 → f1_0 q = some (g 2 q) := hel_0
                have hp_57 : V_48 (g 1 0) = some (.inl (D.2.2.2.2, cap_0, .inr (.inr (.inr (.inr f1_0))))) := by rw [hV_49, xu_n (hf_50 _ _ hpe_0)]; exact hpe_0
                have hp_58 : V_52 (g 1 0) = some (.inl (D.2.2.2.2, cap_0, .inr (.inr (.inr (.inr f1_0))))) := by rw [hF_53, xu_n (x_ne hp_57 hp_51 (by intro h; cases h))]; exact hp_57
                have he_59 : ∀ i y, i < cnt st 1 → f1_0 i = some y → y ≠ g 0 2 ∧ ∃ ci fs C T N, V_52 y = some (.inr (ci, fs)) ∧ xCl[ci]? = some (C, T, N) ∧ Cond.castable C "java/lang/Object" ∈ lw_tbl := by
                  intro i y hi hy
                  rw [hel_0 i hi] at hy
                  cases hy
                  refine ⟨hR.ne (i := 2) (j := i) (i' := 0) (j' := 2) (by unfold xVal; omega) (by unfold xVal; omega) (by omega) (by omega), ?_⟩
                  obtain ⟨ci, fs, C, T, N, h1_, h2_, h3_⟩ := road_obj hR hi
                  exact ⟨ci, fs, C, T, N, by rw [hF_53, xu_n (hf_50 _ _ h1_), hV_49, xu_n (hf_50 _ _ h1_)]; exact h1_, h2_, h3_⟩
                have hp_60 : V_48 (g 0 0) = some (.inr (0, [.int (st 0 0), .int (st 0 42), .ref (g 0 2), .ref (g 0 3), .int (nI (cnt st 12)), .ref (g 0 5), .ref (g 0 6), .int b7, .long b8, .int b9, .int (st 0 14), .ref (g 0 11), .int (nI (cnt st 24)), .int (st 0 25), .ref (g 0 14), .ref (g 0 15), .int (nI (cnt st 27)), .ref (g 0 17), .ref (g 0 18), .ref (g 0 19)])) := by rw [hV_49, xu_n (hf_50 _ _ hpx)]; exact hpx
                have hp_61 : V_52 (g 0 0) = some (.inr (0, [.int (st 0 0), .int (st 0 42), .ref (g 0 2), .ref (g 0 3), .int (nI (cnt st 12)), .ref (g 0 5), .ref (g 0 6), .int b7, .long b8, .int b9, .int (st 0 14), .ref (g 0 11), .int (nI (cnt st 24)), .int (st 0 25), .ref (g 0 14), .ref (g 0 15), .int (nI (cnt st 27)), .ref (g 0 17), .ref (g 0 18), .ref (g 0 19)])) := by rw [hF_53, xu_n (hf_50 _ _ hpx)]; exact hp_60
                refine x_goWv5 hw (x_runF (pc := 120) (As := [.ref a_47]) (rest := []) E hml hl.1 hw.2 hw.1 hp_56 (C := RJ2) (T := TJ2) (N := 3) rfl (xtJ2_add l D A V_52 (g 0 2) (g 1 0) (cnt st 1) cap_0 a_47 mc_2 f1_0 1 [.int a, .int b, .int d, .int 0, .ref (g 0 0)] RX2 TX2 5 hp_56 hp_58 hle_0 (by omega) hcap_0 he_59 hp_54 rfl q1507 (Ne.symm (hf_50 _ _ hpl_2))) E.2.2.2.2.1.2.1.2.2.2.2.2.2.2.1 q262 q265 q267 q51 q269 hdF_add ⟨Nat.le_of_ble_eq_true rfl, Nat.le_of_ble_eq_true rfl⟩ rfl rfl rfl (Nat.le_of_ble_eq_true rfl) dX0_road_120 ⟨Nat.le_of_ble_eq_true rfl, Nat.le_of_ble_eq_true rfl⟩) (fun V_62 H locs hF_63 hw => ?_)
                obtain ⟨ed_, cap_, fn_, hed_, hcap_, hlt_, hfo_, hfn_, hVa⟩ := hF_63
                have hp_64 : V_62 (g 0 2) = some (.inr (8, [.int (mc_2 + 1), .ref ed_, .int (nI (cnt st 1 + 1))])) := by rw [hVa]; exact xu_s _ _ _
                have hp_65 : V_62 (g 0 0) = some (.inr (0, [.int (st 0 0), .int (st 0 42), .ref (g 0 2), .ref (g 0 3), .int (nI (cnt st 12)), .ref (g 0 5), .ref (g 0 6), .int b7, .long b8, .int b9, .int (st 0 14), .ref (g 0 11), .int (nI (cnt st 24)), .int (st 0 25), .ref (g 0 14), .ref (g 0 15), .int (nI (cnt st 27)), .ref (g 0 17), .ref (g 0 18), .ref (g 0 19)])) := by
                  rw [hVa, xu_n (hR.ne (i := 0) (j := 0) (i' := 0) (j' := 2) (by unfold xVal; omega) (by unfold xVal; omega) (by omega) (by omega))]
                  rcases hed_ with ⟨e_, -⟩ | e_
                  · rw [e_, xu_n (hR.ne (i := 0) (j := 0) (i' := 1) (j' := 0) (by unfold xVal; omega) (by unfold xVal; omega) (by omega) (by omega))]; exact hp_61
                  · rw [xu_n (e_ _ _ hp_61)]; exact hp_61
                refine lv_pop (pc := 125) hx hb dX0_road_125 rfl ?_
                refine lv_aload_n (pc := 126) hx hb dX0_road_126 rfl (lv_at hl 0 rfl) ?_
                refine x_rd (pc := 127) (v := .ref (g 0 2)) E hw.1 2 hp_65 (C := RX0) (T := TX0) (N := 20) rfl in_X0 (Nat.le_of_ble_eq_true rfl) q115 (fun _ h => h) rfl dX0_road_127 ?_
                refine x_goR5 (x_runF (pc := 130) (As := []) (rest := []) E hml hl.1 hw.2 hw.1 hp_64 (C := RJ2) (T := TJ2) (N := 3) rfl (xtJ2_size l D A V_62 (g 0 2) ed_ (cnt st 1 + 1) (mc_2 + 1) hp_64) E.2.2.2.2.1.2.1.2.2.2.2.2.1 q190 q194 q196 q51 q198 hdF_size ⟨Nat.le_of_ble_eq_true rfl, Nat.le_of_ble_eq_true rfl⟩ rfl rfl rfl (Nat.le_of_ble_eq_true rfl) dX0_road_130 ⟨Nat.le_of_ble_eq_true rfl, Nat.le_of_ble_eq_true rfl⟩) ?_
                refine lv_iconst (pc := 135) (v := 1) hx hb dX0_road_135 (by decide) ?_
                refine lv_isub (pc := 136) hx hb dX0_road_136 ?_
                refine li_top (v' := .int (nI (cnt st 1))) (congrArg Value.int (nI_pred _)) ?_
                refine x_more 2 29 (Nat.le_of_ble_eq_true rfl) (Nat.le_of_ble_eq_true rfl) ?_
                have hV2 : V_52 = xu V a_47 (.inr (1, [.int a, .int b, .int d, .int 0, .ref (g 0 0)])) := by rw [hF_53, hV_49, xu_xu]
                rw [hV2] at hed_ hVa
                have hkd : k = 0 := c_7
                exact x_iret E hr hlk hw dX0_road_137 ⟨by simp only [sp_road, if_pos c_1, if_pos c_2, if_neg c_3, if_pos c_4, if_pos c_5, if_neg c_6, Nat.add_sub_cancel], by simp only [sp_road, if_pos c_1, if_pos c_2, if_neg c_3, if_pos c_4, if_pos c_5, if_neg c_6]; exact ⟨lgx g 0 (cnt st 1) a_47 ed_, (if_neg (by omega)).trans (if_neg (by omega)), road_R hR hI (by omega) hf_50 hpe_0 hed_ hcap_ hlt_ (fun i hi => (hfo_ i hi).trans (hel_0 i hi)) hfn_ hVa (by rw [hkd]; rfl)⟩⟩
            · have hlt16 : cnt st 1 = 16 := by omega
              refine lv_bipush (pc := 63) (v := (-4)) hx hb dX0_road_63 (by decide) ?_
              refine x_more 2 29 (Nat.le_of_ble_eq_true rfl) (Nat.le_of_ble_eq_true rfl) ?_
              exact x_iret E hr hlk hw dX0_road_65 ⟨by simp only [sp_road, if_pos c_1, if_pos c_2, if_neg c_3, if_pos c_4, if_pos c_5, if_pos c_6], by simp only [sp_road, if_pos c_1, if_pos c_2, if_neg c_3, if_pos c_4, if_pos c_5, if_pos c_6]; exact xF.of hR⟩
          · refine lv_bipush (pc := 46) (v := (-2)) hx hb dX0_road_46 (by decide) ?_
            refine x_more 2 29 (Nat.le_of_ble_eq_true rfl) (Nat.le_of_ble_eq_true rfl) ?_
            exact x_iret E hr hlk hw dX0_road_48 ⟨by simp only [sp_road, if_pos c_1, if_pos c_2, if_neg c_3, if_pos c_4, if_neg c_5], by simp only [sp_road, if_pos c_1, if_pos c_2, if_neg c_3, if_pos c_4, if_neg c_5]; exact xF.of hR⟩
    · refine lv_iconst (pc := 14) (v := (-1)) hx hb dX0_road_14 (by decide) ?_
      refine x_more 2 29 (Nat.le_of_ble_eq_true rfl) (Nat.le_of_ble_eq_true rfl) ?_
      exact x_iret E hr hlk hw dX0_road_15 ⟨by simp only [sp_road, if_pos c_1, if_neg c_2], by simp only [sp_road, if_pos c_1, if_neg c_2]; exact xF.of hR⟩
theorem ctl_R {D : xD} {st : mS} {g : xG} {V V' : xV} {q ed cap cap' : Nat} {f f' : Nat → Option Nat} {mc d : Int32} {E : va_E} (h : xR D st g V) (hI : mI st) (hn : cnt st 30 < 8)
    (hq : ∀ b e, V b = some e → b ≠ q) (hpe : V (g 1 1) = some (.inl (D.2.2.2.2, cap, .inr (.inr (.inr (.inr f)))))) (hed : ed = g 1 1 ∧ cap' = cap ∨ ∀ b e, xu V q E b = some e → b ≠ ed) (hc : cap' = 10 ∨ cap' = 15 ∨ cap' = 22) (hlt : cnt st 30 < cap') (hf : ∀ i, i < cnt st 30 → f' i = some (g 3 i)) (hfn : f' (cnt st 30) = some q)
    (hV : V' = xu (xu (xu V q E) ed (.inl (D.2.2.2.2, cap', .inr (.inr (.inr (.inr f')))))) (g 0 17) (.inr (8, [.int mc, .ref ed, .int (nI (cnt st 30 + 1))]))) (hE : E = .inr (4, [.int d, .int 0, .int 0, .int 0, .int 0, .int 0, .int 0])) :
    xR D (mu (mu (mu (mu st 31 (cnt st 30) d) 32 (cnt st 30) 0) 33 (cnt st 30) 0) 0 30 (nI (cnt st 30 + 1))) (lgx g 1 (cnt st 30) q ed) V' := by
  have e1 : cnt (mu (mu (mu (mu st 31 (cnt st 30) d) 32 (cnt st 30) 0) 33 (cnt st 30) 0) 0 30 (nI (cnt st 30 + 1))) 30 = cnt st 30 + 1 := by
    show (mu _ 0 30 _ 0 30).toNatClampNeg = _
    rw [mu_s]
    exact nI_clamp (by omega)
  refine list_R (jl := 1) h hI (by decide) rfl e1 (fun c hc hne => ?_) (fun j => ?_) hq hpe hed hc hlt hf hfn hV (fun i j k p a1 a2 a3 hv hd => ?_) ?_ ?_
  · rcases hc with rfl | rfl | rfl
    · rfl
    · exact absurd rfl hne
    · rfl
  · rfl
  · rw [mu_k (fun e => by obtain ⟨e1, e2⟩ := e; subst e1; subst e2; have := xd0_30 hd; unfold xlr at a3; simp at a3; omega), mu_k (fun e => by obtain ⟨e1, e2⟩ := e; subst e1; exact absurd (xd_33 hd) (by omega)), mu_k (fun e => by obtain ⟨e1, e2⟩ := e; subst e1; exact absurd (xd_32 hd) (by omega)), mu_k (fun e => by obtain ⟨e1, e2⟩ := e; subst e1; exact absurd (xd_31 hd) (by omega))]
  · refine ⟨0, 0, 0, 0, ?_, fun q => absurd ?_ q⟩
    · rw [hE]; simp [mu]
    · simp [mu]
  · intro j hj
    have := h.2.2 j hj
    have gg : ∀ i j, 9 ≤ i → lgx g 1 (cnt st 30) q ed i j = g i j := fun i j hi => by unfold lgx; rw [if_neg (by omega), if_neg (by omega)]
    simp only [gg _ _ (show 9 ≤ 9 by decide), gg _ _ (show 9 ≤ 10 + j by omega)]
    exact this
theorem x_toW {p : Program} {l : Launch} {e : Env} {R : Room} {s : State} {m : MethodId} {args : Array Value} {below : List Frame} {meth : Method} {c : Code} {H : Heap} {locs : List Loc} {cells slots mc ms : Nat} {D : xD} {A : Nat → Prop} {a : Array Value} {F : JFrame} {r r' : Option Value} {st st' : mS} {g : xG} (h : r = r' ∧ st = st') (k : W p l e R s m args below meth c H locs cells slots (MQ below (xQ D A (fun ρ V' => ρ = r ∧ xF D g st V')) a s mc ms A) F) : W p l e R s m args below meth c H locs cells slots (MQ below (xQ D A (fun ρ V' => ρ = r' ∧ xF D g st' V')) a s mc ms A) F := by
  obtain ⟨rfl, rfl⟩ := h
  exact k
set_option maxHeartbeats 4000000 in
set_option maxRecDepth 100000 in
theorem xtX0_control (l : Launch) (D : xD) (A : Nat → Prop) (V : xV) (st : mS) (g : xG)  (d : Int32) (hI : mI st) (hR : xR D st g V)  : Met l yX0_control (ws_ yX0_control cX0_control 3 (some .int)) (xRm 10 2 29) (xP D A V [.ref (g 0 0), .int d]) (xQ D A (fun ρ V' => ρ = some (.int (sp_control st d).1) ∧ xF D g ((sp_control st d).2) V')) 2 29 A := by
  refine x_headW (own := RX0) (As := [.ref (g 0 0), .int d]) (bytes := cX0_control) (maxL := 3) (ret := (some .int)) (by decide) rfl (Nat.le_of_ble_eq_true rfl) ?_
  intro p e s m below meth c E hml hr hlk hin2 hw ls hl
  have hx := E.1
  have hb := E.2.1
  have hts := E.2.2.1
  have hown := E.2.2.2.1
  have hl : lv_has ls 3 [(0, .ref (g 0 0)), (1, .int d)] := hl
  have h16 := hI.r16
  have h10 := hI.l10
  have hv8 := hI.v8
  have hc8 := hI.c8
  have hk8 := hI.k8
  have hb8 := hI.b8
  refine lv_aload_n (pc := 0) hx hb dX0_control_0 rfl (lv_at hl 0 rfl) ?_
  obtain ⟨b7, b8, b9, hpx⟩ := hR.px hI
  replace hpx : V (g 0 0) = some (.inr (0, [.int (st 0 0), .int (st 0 42), .ref (g 0 2), .ref (g 0 3), .int (nI (cnt st 12)), .ref (g 0 5), .ref (g 0 6), .int b7, .long b8, .int b9, .int (st 0 14), .ref (g 0 11), .int (nI (cnt st 24)), .int (st 0 25), .ref (g 0 14), .ref (g 0 15), .int (nI (cnt st 27)), .ref (g 0 17), .ref (g 0 18), .ref (g 0 19)])) := hpx
  refine x_rd (pc := 1) (v := .int (nI (cnt st 24))) E hw.1 12 hpx (C := RX0) (T := TX0) (N := 20) rfl in_X0 (Nat.le_of_ble_eq_true rfl) q125 (fun _ h => h) rfl dX0_control_1 ?_
  refine li_if_neN (pc := 4) (tgt := 10) hx hb (by omega) dX0_control_4 (by decide) (fun c_1 => ?_) (fun c_1 => ?_)
  · refine lv_iload_n (pc := 10) hx hb dX0_control_10 rfl (lv_at hl 1 rfl) ?_
    refine lv_i2l (pc := 11) (v := d.toInt64) hx hb dX0_control_11 rfl ?_
    refine lv_lconst (pc := 12) (v := 1) hx hb dX0_control_12 (by decide) ?_
    refine lv_aload_n (pc := 13) hx hb dX0_control_13 rfl (lv_at hl 0 rfl) ?_
    refine x_rd (pc := 14) (v := .int (st 0 25)) E hw.1 13 hpx (C := RX0) (T := TX0) (N := 20) rfl in_X0 (Nat.le_of_ble_eq_true rfl) q126 (fun _ h => h) rfl dX0_control_14 ?_
    refine lv_i2l (pc := 17) (v := (st 0 25).toInt64) hx hb dX0_control_17 rfl ?_
    refine x_goR (x_runS (pc := 18) (As := [.long d.toInt64, .long 1, .long (st 0 25).toInt64]) (rest := []) E hml hl.1 (x_preE) (xtX0_isInB l d 1 (st 0 25).toInt64 1 ((st 0 25).toInt) rfl (Int32.toInt_toInt64 _)) q184 q185 q48 q186 hdX0_isIn.2 ⟨Nat.le_of_ble_eq_true rfl, Nat.le_of_ble_eq_true rfl⟩ rfl rfl rfl (Nat.le_of_ble_eq_true rfl) dX0_control_18 ⟨Nat.le_of_ble_eq_true rfl, Nat.le_of_ble_eq_true rfl⟩) ?_
    refine lb_ne (pc := 21) (tgt := 27) hx hb dX0_control_21 (by decide) (fun c_2 => ?_) (fun c_2 => ?_)
    · refine lv_iconst (pc := 27) (v := 0) hx hb dX0_control_27 (by decide) ?_
      refine lv_istore_n (pc := 28) (lv' := [(2, .int 0), (0, .ref (g 0 0)), (1, .int d)]) hx hb dX0_control_28 rfl hl (by decide) rfl (fun ls hl => ?_)
      have loop : ∀ (k : Nat) (i : Nat), i + k = cnt st 30 → ∀ ls : Array Slot, lv_has ls 3 [(0, .ref (g 0 0)), (1, .int d), (2, .int (nI i))] → W p l e (xRm 10 2 29) s m ([.ref (g 0 0), .int d] : List Value).toArray below meth c s.heap [] 0 0 (MQ below (xQ D A (fun ρ V' => ρ = some (.int (ctl st d k i).1) ∧ xF D g (ctl st d k i).2 V')) ([.ref (g 0 0), .int d] : List Value).toArray s 2 29 A) (F0 m 29 ls []) := by
        intro k
        induction k with
        | zero =>
          intro i hi ls hl
          refine lv_iload_n (pc := 29) hx hb dX0_control_29 rfl (lv_at hl 2 rfl) ?_
          refine lv_aload_n (pc := 30) hx hb dX0_control_30 rfl (lv_at hl 0 rfl) ?_
          refine x_rd (pc := 31) (v := .ref (g 0 17)) E hw.1 17 hpx (C := RX0) (T := TX0) (N := 20) rfl in_X0 (Nat.le_of_ble_eq_true rfl) q130 (fun _ h => h) rfl dX0_control_31 ?_
          obtain ⟨mc_17, hpl_17⟩ := hR.p17
          refine x_goR5 (x_runF (pc := 34) (As := []) (rest := [.int (nI i)]) E hml hl.1 hw.2 hw.1 hpl_17 (C := RJ2) (T := TJ2) (N := 3) rfl (xtJ2_size l D A V (g 0 17) (g 1 1) (cnt st 30) mc_17 hpl_17) E.2.2.2.2.1.2.1.2.2.2.2.2.1 q190 q194 q196 q51 q198 hdF_size ⟨Nat.le_of_ble_eq_true rfl, Nat.le_of_ble_eq_true rfl⟩ rfl rfl rfl (Nat.le_of_ble_eq_true rfl) dX0_control_34 ⟨Nat.le_of_ble_eq_true rfl, Nat.le_of_ble_eq_true rfl⟩) ?_
          refine li_icmp_geN (pc := 39) (a := i) (b := cnt st 30) (tgt := 71) hx hb (by omega) (by omega) dX0_control_39 (by decide) (fun c_3 => ?_) (fun c_3 => absurd c_3 (by omega))
          refine lv_aload_n (pc := 71) hx hb dX0_control_71 rfl (lv_at hl 0 rfl) ?_
          refine x_rd (pc := 72) (v := .ref (g 0 17)) E hw.1 17 hpx (C := RX0) (T := TX0) (N := 20) rfl in_X0 (Nat.le_of_ble_eq_true rfl) q130 (fun _ h => h) rfl dX0_control_72 ?_
          refine x_goR5 (x_runF (pc := 75) (As := []) (rest := []) E hml hl.1 hw.2 hw.1 hpl_17 (C := RJ2) (T := TJ2) (N := 3) rfl (xtJ2_size l D A V (g 0 17) (g 1 1) (cnt st 30) mc_17 hpl_17) E.2.2.2.2.1.2.1.2.2.2.2.2.1 q190 q194 q196 q51 q198 hdF_size ⟨Nat.le_of_ble_eq_true rfl, Nat.le_of_ble_eq_true rfl⟩ rfl rfl rfl (Nat.le_of_ble_eq_true rfl) dX0_control_75 ⟨Nat.le_of_ble_eq_true rfl, Nat.le_of_ble_eq_true rfl⟩) ?_
          refine lv_bipush (pc := 80) (v := 8) hx hb dX0_control_80 (by decide) ?_
          refine li_icmp_neN (pc := 82) (a := cnt st 30) (b := 8) (tgt := 88) hx hb (by omega) (by omega) dX0_control_82 (by decide) (fun c_4 => ?_) (fun c_4 => ?_)
          · have hlt8 : cnt st 30 < 8 := by omega
            refine lv_aload_n (pc := 88) hx hb dX0_control_88 rfl (lv_at hl 0 rfl) ?_
            refine x_rd (pc := 89) (v := .ref (g 0 17)) E hw.1 17 hpx (C := RX0) (T := TX0) (N := 20) rfl in_X0 (Nat.le_of_ble_eq_true rfl) q130 (fun _ h => h) rfl dX0_control_89 ?_
            refine x_new1 (pc := 92) (fs := [.int 0, .int 0, .int 0, .int 0, .int 0, .int 0, .int 0]) E hw (ci := 4) (C := RX6) (T := TX6) (N := 7) rfl in_X6 tyX6 tyX6_ok q586 q587 q72 (by decide) (Nat.le_of_ble_eq_true rfl) (Nat.le_of_ble_eq_true rfl) dX0_control_92 (fun a_5 V_6 H hf_8 hV_7 hw => ?_)
            have hp_9 : V_6 a_5 = some (.inr (4, [.int 0, .int 0, .int 0, .int 0, .int 0, .int 0, .int 0])) := by rw [hV_7]; exact xu_s _ _ _
            refine lv_dup (pc := 95) hx hb dX0_control_95 rfl ?_
            refine lv_iload_n (pc := 96) hx hb dX0_control_96 rfl (lv_at hl 1 rfl) ?_
            refine x_goWn hw (x_runI (pc := 97) (As := [.int d]) (rest := [.ref a_5, .ref (g 0 17)]) (b := a_5) E hml hl.1 (x_preS E hw.2 hw.1) (xtX6_init l D A V_6 a_5 d hp_9) q588 q589 q72 q590 rfl hdX6_init.2 ⟨Nat.le_of_ble_eq_true rfl, Nat.le_of_ble_eq_true rfl⟩ rfl rfl rfl (Nat.le_of_ble_eq_true rfl) dX0_control_97 ⟨Nat.le_of_ble_eq_true rfl, Nat.le_of_ble_eq_true rfl⟩) (fun V_10 H locs hF_11 hw => ?_)
            have hp_12 : V_10 a_5 = some (.inr (4, [.int d, .int 0, .int 0, .int 0, .int 0, .int 0, .int 0])) := by rw [hF_11]; exact xu_s _ _ _
            have hp_13 : V_6 (g 0 17) = some (.inr (8, [.int mc_17, .ref (g 1 1), .int (nI (cnt st 30))])) := by rw [hV_7, xu_n (hf_8 _ _ hpl_17)]; exact hpl_17
            have hp_14 : V_10 (g 0 17) = some (.inr (8, [.int mc_17, .ref (g 1 1), .int (nI (cnt st 30))])) := by rw [hF_11, xu_n (hf_8 _ _ hpl_17)]; exact hp_13
            obtain ⟨cap_1, f1_1, hpe_1, hcap_1, hle_1, hel_1⟩ := hR.pe (j := 1) (by decide)
            replace hle_1 : cnt st 30 ≤ cap_1 := hle_1
            replace hel_1 : ∀ q, q < cnt st 30 → f1_1 q = some (g 3 q) := hel_1
            have hp_15 : V_6 (g 1 1) = some (.inl (D.2.2.2.2, cap_1, .inr (.inr (.inr (.inr f1_1))))) := by rw [hV_7, xu_n (hf_8 _ _ hpe_1)]; exact hpe_1
            have hp_16 : V_10 (g 1 1) = some (.inl (D.2.2.2.2, cap_1, .inr (.inr (.inr (.inr f1_1))))) := by rw [hF_11, xu_n (x_ne hp_15 hp_9 (by intro h; cases h))]; exact hp_15
            have he_17 : ∀ i y, i < cnt st 30 → f1_1 i = some y → y ≠ g 0 17 ∧ ∃ ci fs C T N, V_10 y = some (.inr (ci, fs)) ∧ xCl[ci]? = some (C, T, N) ∧ Cond.castable C "java/lang/Object" ∈ lw_tbl := by
              intro i y hi hy
              rw [hel_1 i hi] at hy
              cases hy
              refine ⟨hR.ne (i := 3) (j := i) (i' := 0) (j' := 17) (by unfold xVal; omega) (by unfold xVal; omega) (by omega) (by omega), ?_⟩
              obtain ⟨ci, fs, C, T, N, h1_, h2_, h3_⟩ := ctl_obj hR hi
              exact ⟨ci, fs, C, T, N, by rw [hF_11, xu_n (hf_8 _ _ h1_), hV_7, xu_n (hf_8 _ _ h1_)]; exact h1_, h2_, h3_⟩
            have hp_18 : V_6 (g 0 0) = some (.inr (0, [.int (st 0 0), .int (st 0 42), .ref (g 0 2), .ref (g 0 3), .int (nI (cnt st 12)), .ref (g 0 5), .ref (g 0 6), .int b7, .long b8, .int b9, .int (st 0 14), .ref (g 0 11), .int (nI (cnt st 24)), .int (st 0 25), .ref (g 0 14), .ref (g 0 15), .int (nI (cnt st 27)), .ref (g 0 17), .ref (g 0 18), .ref (g 0 19)])) := by rw [hV_7, xu_n (hf_8 _ _ hpx)]; exact hpx
            have hp_19 : V_10 (g 0 0) = some (.inr (0, [.int (st 0 0), .int (st 0 42), .ref (g 0 2), .ref (g 0 3), .int (nI (cnt st 12)), .ref (g 0 5), .ref (g 0 6), .int b7, .long b8, .int b9, .int (st 0 14), .ref (g 0 11), .int (nI (cnt st 24)), .int (st 0 25), .ref (g 0 14), .ref (g 0 15), .int (nI (cnt st 27)), .ref (g 0 17), .ref (g 0 18), .ref (g 0 19)])) := by rw [hF_11, xu_n (hf_8 _ _ hpx)]; exact hp_18
            refine x_goWv5 hw (x_runF (pc := 100) (As := [.ref a_5]) (rest := []) E hml hl.1 hw.2 hw.1 hp_14 (C := RJ2) (T := TJ2) (N := 3) rfl (xtJ2_add l D A V_10 (g 0 17) (g 1 1) (cnt st 30) cap_1 a_5 mc_17 f1_1 4 [.int d, .int 0, .int 0, .int 0, .int 0, .int 0, .int 0] RX6 TX6 7 hp_14 hp_16 hle_1 (by omega) hcap_1 he_17 hp_12 rfl q1515 (Ne.symm (hf_8 _ _ hpl_17))) E.2.2.2.2.1.2.1.2.2.2.2.2.2.2.1 q262 q265 q267 q51 q269 hdF_add ⟨Nat.le_of_ble_eq_true rfl, Nat.le_of_ble_eq_true rfl⟩ rfl rfl rfl (Nat.le_of_ble_eq_true rfl) dX0_control_100 ⟨Nat.le_of_ble_eq_true rfl, Nat.le_of_ble_eq_true rfl⟩) (fun V_20 H locs hF_21 hw => ?_)
            obtain ⟨ed_, cap_, fn_, hed_, hcap_, hlt_, hfo_, hfn_, hVa⟩ := hF_21
            have hp_22 : V_20 (g 0 17) = some (.inr (8, [.int (mc_17 + 1), .ref ed_, .int (nI (cnt st 30 + 1))])) := by rw [hVa]; exact xu_s _ _ _
            have hp_23 : V_20 (g 0 0) = some (.inr (0, [.int (st 0 0), .int (st 0 42), .ref (g 0 2), .ref (g 0 3), .int (nI (cnt st 12)), .ref (g 0 5), .ref (g 0 6), .int b7, .long b8, .int b9, .int (st 0 14), .ref (g 0 11), .int (nI (cnt st 24)), .int (st 0 25), .ref (g 0 14), .ref (g 0 15), .int (nI (cnt st 27)), .ref (g 0 17), .ref (g 0 18), .ref (g 0 19)])) := by
              rw [hVa, xu_n (hR.ne (i := 0) (j := 0) (i' := 0) (j' := 17) (by unfold xVal; omega) (by unfold xVal; omega) (by omega) (by omega))]
              rcases hed_ with ⟨e_, -⟩ | e_
              · rw [e_, xu_n (hR.ne (i := 0) (j := 0) (i' := 1) (j' := 1) (by unfold xVal; omega) (by unfold xVal; omega) (by omega) (by omega))]; exact hp_19
              · rw [xu_n (e_ _ _ hp_19)]; exact hp_19
            refine lv_pop (pc := 105) hx hb dX0_control_105 rfl ?_
            refine lv_aload_n (pc := 106) hx hb dX0_control_106 rfl (lv_at hl 0 rfl) ?_
            refine x_rd (pc := 107) (v := .ref (g 0 17)) E hw.1 17 hp_23 (C := RX0) (T := TX0) (N := 20) rfl in_X0 (Nat.le_of_ble_eq_true rfl) q130 (fun _ h => h) rfl dX0_control_107 ?_
            refine x_goR5 (x_runF (pc := 110) (As := []) (rest := []) E hml hl.1 hw.2 hw.1 hp_22 (C := RJ2) (T := TJ2) (N := 3) rfl (xtJ2_size l D A V_20 (g 0 17) ed_ (cnt st 30 + 1) (mc_17 + 1) hp_22) E.2.2.2.2.1.2.1.2.2.2.2.2.1 q190 q194 q196 q51 q198 hdF_size ⟨Nat.le_of_ble_eq_true rfl, Nat.le_of_ble_eq_true rfl⟩ rfl rfl rfl (Nat.le_of_ble_eq_true rfl) dX0_control_110 ⟨Nat.le_of_ble_eq_true rfl, Nat.le_of_ble_eq_true rfl⟩) ?_
            refine lv_iconst (pc := 115) (v := 1) hx hb dX0_control_115 (by decide) ?_
            refine lv_isub (pc := 116) hx hb dX0_control_116 ?_
            refine li_top (v' := .int (nI (cnt st 30))) (congrArg Value.int (nI_pred _)) ?_
            refine x_more 2 29 (Nat.le_of_ble_eq_true rfl) (Nat.le_of_ble_eq_true rfl) ?_
            have hV2 : V_10 = xu V a_5 (.inr (4, [.int d, .int 0, .int 0, .int 0, .int 0, .int 0, .int 0])) := by rw [hF_11, hV_7, xu_xu]
            rw [hV2] at hed_ hVa
            exact x_iret E hr hlk hw dX0_control_117 ⟨by simp only [ctl, if_neg c_4, Nat.add_sub_cancel], by simp only [ctl, if_neg c_4]; exact ⟨lgx g 1 (cnt st 30) a_5 ed_, (if_neg (by omega)).trans (if_neg (by omega)), ctl_R hR hI (by omega) hf_8 hpe_1 hed_ hcap_ hlt_ (fun i hi => (hfo_ i hi).trans (hel_1 i hi)) hfn_ hVa rfl⟩⟩
          · have hlt8 : cnt st 30 = 8 := by omega
            refine lv_bipush (pc := 85) (v := (-4)) hx hb dX0_control_85 (by decide) ?_
            refine x_more 2 29 (Nat.le_of_ble_eq_true rfl) (Nat.le_of_ble_eq_true rfl) ?_
            exact x_iret E hr hlk hw dX0_control_87 ⟨by simp only [ctl, if_pos c_4], by simp only [ctl, if_pos c_4]; exact xF.of hR⟩
        | succ k ih_loop =>
          intro i hi ls hl
          refine lv_iload_n (pc := 29) hx hb dX0_control_29 rfl (lv_at hl 2 rfl) ?_
          refine lv_aload_n (pc := 30) hx hb dX0_control_30 rfl (lv_at hl 0 rfl) ?_
          refine x_rd (pc := 31) (v := .ref (g 0 17)) E hw.1 17 hpx (C := RX0) (T := TX0) (N := 20) rfl in_X0 (Nat.le_of_ble_eq_true rfl) q130 (fun _ h => h) rfl dX0_control_31 ?_
          obtain ⟨mc_17, hpl_17⟩ := hR.p17
          refine x_goR5 (x_runF (pc := 34) (As := []) (rest := [.int (nI i)]) E hml hl.1 hw.2 hw.1 hpl_17 (C := RJ2) (T := TJ2) (N := 3) rfl (xtJ2_size l D A V (g 0 17) (g 1 1) (cnt st 30) mc_17 hpl_17) E.2.2.2.2.1.2.1.2.2.2.2.2.1 q190 q194 q196 q51 q198 hdF_size ⟨Nat.le_of_ble_eq_true rfl, Nat.le_of_ble_eq_true rfl⟩ rfl rfl rfl (Nat.le_of_ble_eq_true rfl) dX0_control_34 ⟨Nat.le_of_ble_eq_true rfl, Nat.le_of_ble_eq_true rfl⟩) ?_
          refine li_icmp_geN (pc := 39) (a := i) (b := cnt st 30) (tgt := 71) hx hb (by omega) (by omega) dX0_control_39 (by decide) (fun c_24 => absurd c_24 (by omega)) (fun c_24 => ?_)
          refine lv_aload_n (pc := 42) hx hb dX0_control_42 rfl (lv_at hl 0 rfl) ?_
          refine x_rd (pc := 43) (v := .ref (g 0 17)) E hw.1 17 hpx (C := RX0) (T := TX0) (N := 20) rfl in_X0 (Nat.le_of_ble_eq_true rfl) q130 (fun _ h => h) rfl dX0_control_43 ?_
          refine lv_iload_n (pc := 46) hx hb dX0_control_46 rfl (lv_at hl 2 rfl) ?_
          obtain ⟨cap_1, f1_1, hpe_1, hcap_1, hle_1, hel_1⟩ := hR.pe (j := 1) (by decide)
          replace hle_1 : cnt st 30 ≤ cap_1 := hle_1
          replace hel_1 : ∀ q, q < cnt st 30 → f1_1 q = some (g 3 q) := hel_1
          refine x_goR5 (x_runF (pc := 47) (As := [.int (nI i)]) (rest := []) E hml hl.1 hw.2 hw.1 hpl_17 (C := RJ2) (T := TJ2) (N := 3) rfl (xtJ2_get l D A V (g 0 17) (g 1 1) (cnt st 30) cap_1 (g 3 i) i mc_17 f1_1 hpl_17 hpe_1 (show i < cnt st 30 from (by omega)) hle_1 (by have := hcap_1; omega) (hel_1 _ (by omega))) E.2.2.2.2.1.2.1.2.2.2.2.2.2.1 q337 q340 q342 q51 q344 hdF_get ⟨Nat.le_of_ble_eq_true rfl, Nat.le_of_ble_eq_true rfl⟩ rfl rfl rfl (Nat.le_of_ble_eq_true rfl) dX0_control_47 ⟨Nat.le_of_ble_eq_true rfl, Nat.le_of_ble_eq_true rfl⟩) ?_
          obtain ⟨k_25a, k_25b, k_25c, k_25d, k_25h, k_25e⟩ := hR.ctl (j := i) (by omega)
          refine x_castS (pc := 52) E hw.1 k_25h (C := RX6) (T := TX6) (N := 7) rfl q586 dX0_control_52 ?_
          refine x_rdN (pc := 55) (v := .int (st 31 i)) E hw.1 0 k_25h (C := RX6) (T := TX6) (N := 7) rfl in_X6 (Nat.le_of_ble_eq_true rfl) q594 (fun _ h => h) rfl dX0_control_55 ?_
          refine lv_iload_n (pc := 58) hx hb dX0_control_58 rfl (lv_at hl 1 rfl) ?_
          refine li_icne (pc := 59) (tgt := 65) hx hb dX0_control_59 (by decide) (fun c_26 => ?_) (fun c_26 => ?_)
          · refine lv_iinc (pc := 65) (v := (nI (i + 1))) (lv' := [(2, .int (nI (i + 1))), (0, .ref (g 0 0)), (1, .int d)]) hx hb dX0_control_65 hl (k := 2) rfl (nI_1 _) (by decide) rfl (fun ls hl => ?_)
            refine lv_goto (pc := 68) (tgt := 29) hx hb dX0_control_68 (by decide) ?_
            exact x_toW (⟨by simp only [ctl, if_neg c_26], by simp only [ctl, if_neg c_26]⟩) (ih_loop (i + 1) (by omega) _ (lv_sub hl [1, 2, 0] rfl))
          · refine lv_bipush (pc := 62) (v := (-3)) hx hb dX0_control_62 (by decide) ?_
            refine x_more 2 29 (Nat.le_of_ble_eq_true rfl) (Nat.le_of_ble_eq_true rfl) ?_
            exact x_iret E hr hlk hw dX0_control_64 ⟨by simp only [ctl, if_pos c_26], by simp only [ctl, if_pos c_26]; exact xF.of hR⟩
      exact x_toW (⟨by simp only [sp_control, if_neg c_1, if_pos c_2], by simp only [sp_control, if_neg c_1, if_pos c_2]⟩) (loop (cnt st 30) 0 (by omega) _ (lv_sub hl [1, 2, 0] rfl))
    · refine lv_bipush (pc := 24) (v := (-2)) hx hb dX0_control_24 (by decide) ?_
      refine x_more 2 29 (Nat.le_of_ble_eq_true rfl) (Nat.le_of_ble_eq_true rfl) ?_
      exact x_iret E hr hlk hw dX0_control_26 ⟨by simp only [sp_control, if_neg c_1, if_neg c_2], by simp only [sp_control, if_neg c_1, if_neg c_2]; exact xF.of hR⟩
  · refine lv_bipush (pc := 7) (v := (-3)) hx hb dX0_control_7 (by decide) ?_
    refine x_more 2 29 (Nat.le_of_ble_eq_true rfl) (Nat.le_of_ble_eq_true rfl) ?_
    exact x_iret E hr hlk hw dX0_control_9 ⟨by simp only [sp_control, if_pos c_1], by simp only [sp_control, if_pos c_1]; exact xF.of hR⟩
