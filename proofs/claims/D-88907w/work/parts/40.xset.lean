/-! RegularRally: what changes cells, first part -/
set_option maxHeartbeats 4000000 in
set_option maxRecDepth 100000 in
theorem xtX0_shut (l : Launch) (D : xD) (A : Nat → Prop) (V : xV) (st : mS) (g : xG)  (r : Int32) (is : Int32) (hI : mI st) (hR : xR D st g V) (his : is = 0 ∨ is = 1) : Met l yX0_shut (ws_ yX0_shut cX0_shut 5 (some .int)) (xRm 6 0 0) (xP D A V [.ref (g 0 0), .int r, .int is]) (xQ D A (fun ρ V' => ρ = some (.int (sp_shut st r is).1) ∧ xF D g ((sp_shut st r is).2) V')) 0 0 A := by
  refine x_headW (own := RX0) (As := [.ref (g 0 0), .int r, .int is]) (bytes := cX0_shut) (maxL := 5) (ret := (some .int)) (by decide) rfl (Nat.le_of_ble_eq_true rfl) ?_
  intro p e s m below meth c E hml hr hlk hin2 hw ls hl
  have hx := E.1
  have hb := E.2.1
  have hts := E.2.2.1
  have hown := E.2.2.2.1
  have hl : lv_has ls 5 [(0, .ref (g 0 0)), (1, .int r), (2, .int is)] := hl
  have h16 := hI.r16
  have h10 := hI.l10
  have hv8 := hI.v8
  have hc8 := hI.c8
  have hk8 := hI.k8
  have hb8 := hI.b8
  refine lv_aload_n (pc := 0) hx hb dX0_shut_0 rfl (lv_at hl 0 rfl) ?_
  refine lv_iload_n (pc := 1) hx hb dX0_shut_1 rfl (lv_at hl 1 rfl) ?_
  obtain ⟨b7, b8, b9, hpx⟩ := hR.px hI
  replace hpx : V (g 0 0) = some (.inr (0, [.int (st 0 0), .int (st 0 42), .ref (g 0 2), .ref (g 0 3), .int (nI (cnt st 12)), .ref (g 0 5), .ref (g 0 6), .int b7, .long b8, .int b9, .int (st 0 14), .ref (g 0 11), .int (nI (cnt st 24)), .int (st 0 25), .ref (g 0 14), .ref (g 0 15), .int (nI (cnt st 27)), .ref (g 0 17), .ref (g 0 18), .ref (g 0 19)])) := hpx
  refine x_goR (x_runV (pc := 2) (As := [.int r]) (rest := []) E hml hl.1 hw.2 hw.1 hpx (C := RX0) (T := TX0) (N := 20) rfl (xtX0_isRoad l D A V st g r hI hR) q332 q334 qs3 q48 q335 hdX0_isRoad ⟨Nat.le_of_ble_eq_true rfl, Nat.le_of_ble_eq_true rfl⟩ rfl rfl rfl (Nat.le_of_ble_eq_true rfl) dX0_shut_2 ⟨Nat.le_of_ble_eq_true rfl, Nat.le_of_ble_eq_true rfl⟩) ?_
  refine lb_ne (pc := 5) (tgt := 10) hx hb dX0_shut_5 (by decide) (fun c_1 => ?_) (fun c_1 => ?_)
  · have hrn := clamp_n (x := r) c_1.1
    have hri := clamp_i (x := r) c_1.1
    have hrl : r.toNatClampNeg < cnt st 1 := by have := cnt_i (st := st) (k := 1) (by omega); omega
    refine lv_aload_n (pc := 10) hx hb dX0_shut_10 rfl (lv_at hl 0 rfl) ?_
    refine x_rd (pc := 11) (v := .ref (g 0 2)) E hw.1 2 hpx (C := RX0) (T := TX0) (N := 20) rfl in_X0 (Nat.le_of_ble_eq_true rfl) q115 (fun _ h => h) rfl dX0_shut_11 ?_
    refine lv_iload_n (pc := 14) hx hb dX0_shut_14 rfl (lv_at hl 1 rfl) ?_
    refine li_top (v' := .int (nI r.toNatClampNeg)) (congrArg Value.int hrn) ?_
    obtain ⟨mc_2, hpl_2⟩ := hR.p2
    obtain ⟨cap_0, f1_0, hpe_0, hcap_0, hle_0, hel_0⟩ := hR.pe (j := 0) (by decide)
    replace hle_0 : cnt st 1 ≤ cap_0 := hle_0
    replace hel_0 : ∀ q, q < cnt st 1 → f1_0 q = some (g 2 q) := hel_0
    refine x_goR5 (x_runF (pc := 15) (As := [.int (nI r.toNatClampNeg)]) (rest := []) E hml hl.1 hw.2 hw.1 hpl_2 (C := RJ2) (T := TJ2) (N := 3) rfl (xtJ2_get l D A V (g 0 2) (g 1 0) (cnt st 1) cap_0 (g 2 r.toNatClampNeg) r.toNatClampNeg mc_2 f1_0 hpl_2 hpe_0 (show r.toNatClampNeg < cnt st 1 from (by omega)) hle_0 (by have := hcap_0; omega) (hel_0 _ (by omega))) E.2.2.2.2.1.2.1.2.2.2.2.2.2.1 q337 q340 q342 q51 q344 hdF_get ⟨Nat.le_of_ble_eq_true rfl, Nat.le_of_ble_eq_true rfl⟩ rfl rfl rfl (Nat.le_of_ble_eq_true rfl) dX0_shut_15 ⟨Nat.le_of_ble_eq_true rfl, Nat.le_of_ble_eq_true rfl⟩) ?_
    have hpr_2 := hR.road (j := r.toNatClampNeg) (by omega)
    refine x_castRo (pc := 20) E hw.1 hpr_2 q199 dX0_shut_20 ?_
    refine lv_astore_n (pc := 23) (lv' := [(3, .ref (g 2 r.toNatClampNeg)), (0, .ref (g 0 0)), (1, .int r), (2, .int is)]) hx hb dX0_shut_23 rfl hl (by decide) rfl (fun ls hl => ?_)
    refine lv_aload_n (pc := 24) hx hb dX0_shut_24 rfl (lv_at hl 0 rfl) ?_
    refine x_rdRoN (pc := 25) (v := (st 6 r.toNatClampNeg)) E hw.1 hpr_2 3 (Nat.le_of_ble_eq_true rfl) q214 rfl dX0_shut_25 ?_
    refine lv_iload_n (pc := 28) hx hb dX0_shut_28 rfl (lv_at hl 3 rfl) ?_
    refine li_icne (pc := 29) (tgt := 36) hx hb dX0_shut_29 (by decide) (fun c_3 => ?_) (fun c_3 => ?_)
    · refine lv_iconst (pc := 36) (v := 1) hx hb dX0_shut_36 (by decide) ?_
      refine lv_istore (pc := 37) (lv' := [(4, .int 1), (3, .ref (g 2 r.toNatClampNeg)), (0, .ref (g 0 0)), (1, .int r), (2, .int is)]) hx hb dX0_shut_37 hl (by decide) rfl (fun ls hl => ?_)
      refine lv_aload_n (pc := 39) hx hb dX0_shut_39 rfl (lv_at hl 1 rfl) ?_
      refine lv_iload_n (pc := 40) hx hb dX0_shut_40 rfl (lv_at hl 4 rfl) ?_
      refine x_putRo (pc := 41) E hw hpr_2 his dX0_shut_41 (fun V_4 H locs hV_5 hw => ?_)
      have hp_6 : V_4 (g 2 r.toNatClampNeg) = some (xRoE (st 5 r.toNatClampNeg) (st 2 r.toNatClampNeg) (st 3 r.toNatClampNeg) (st 4 r.toNatClampNeg) is (st 7 r.toNatClampNeg) (g 0 0)) := by rw [hV_5]; exact xu_s _ _ _
      refine lv_iload (pc := 44) hx hb dX0_shut_44 (lv_at hl 0 rfl) ?_
      have hfin : xR D (mu st 6 r.toNatClampNeg is) g V_4 := by
        refine hR.w0 hI [(2, r.toNatClampNeg)] (fun i j h => h) ?_ ?_ ?_ ?_ (hR.2.2)
        · intro r hr
          simp only [List.mem_cons, List.not_mem_nil, or_false] at hr
          rcases hr with rfl
          · exact ⟨by unfold xVal; dsimp only; omega, fun h => absurd (show (2 : Nat) = 1 from h) (by decide)⟩
        · intro b hb
          rw [hV_5, xu_n (hb (2, r.toNatClampNeg) (by simp))]
        · intro i j k q hv hn hq
          simp only [List.mem_cons, List.not_mem_nil, or_false, Prod.mk.injEq, not_or] at hn
          rw [mu_k (fun e => by obtain ⟨e1, e2⟩ := e; subst e1; exact absurd (xd_6 hq) (by omega))]
        · intro r hr hv
          simp only [List.mem_cons, List.not_mem_nil, or_false] at hr
          rcases hr with rfl
          · exact ⟨_, hp_6, (by show _ = xRoE _ _ _ _ _ _ _; rw [mu_s, mu_r (by decide), mu_r (by decide), mu_r (by decide), mu_r (by decide), mu_r (by decide)])⟩
      exact x_iret E hr hlk hw dX0_shut_46 ⟨by simp only [sp_shut, if_pos c_1, if_neg c_3], by simp only [sp_shut, if_pos c_1, if_neg c_3]; exact xF.of hfin⟩
    · refine lv_iconst (pc := 32) (v := 0) hx hb dX0_shut_32 (by decide) ?_
      refine lv_goto (pc := 33) (tgt := 37) hx hb dX0_shut_33 (by decide) ?_
      refine lv_istore (pc := 37) (lv' := [(4, .int 0), (3, .ref (g 2 r.toNatClampNeg)), (0, .ref (g 0 0)), (1, .int r), (2, .int is)]) hx hb dX0_shut_37 hl (by decide) rfl (fun ls hl => ?_)
      refine lv_aload_n (pc := 39) hx hb dX0_shut_39 rfl (lv_at hl 1 rfl) ?_
      refine lv_iload_n (pc := 40) hx hb dX0_shut_40 rfl (lv_at hl 4 rfl) ?_
      refine x_putRo (pc := 41) E hw hpr_2 his dX0_shut_41 (fun V_7 H locs hV_8 hw => ?_)
      have hp_9 : V_7 (g 2 r.toNatClampNeg) = some (xRoE (st 5 r.toNatClampNeg) (st 2 r.toNatClampNeg) (st 3 r.toNatClampNeg) (st 4 r.toNatClampNeg) is (st 7 r.toNatClampNeg) (g 0 0)) := by rw [hV_8]; exact xu_s _ _ _
      refine lv_iload (pc := 44) hx hb dX0_shut_44 (lv_at hl 0 rfl) ?_
      have hfin : xR D (mu st 6 r.toNatClampNeg is) g V_7 := by
        refine hR.w0 hI [(2, r.toNatClampNeg)] (fun i j h => h) ?_ ?_ ?_ ?_ (hR.2.2)
        · intro r hr
          simp only [List.mem_cons, List.not_mem_nil, or_false] at hr
          rcases hr with rfl
          · exact ⟨by unfold xVal; dsimp only; omega, fun h => absurd (show (2 : Nat) = 1 from h) (by decide)⟩
        · intro b hb
          rw [hV_8, xu_n (hb (2, r.toNatClampNeg) (by simp))]
        · intro i j k q hv hn hq
          simp only [List.mem_cons, List.not_mem_nil, or_false, Prod.mk.injEq, not_or] at hn
          rw [mu_k (fun e => by obtain ⟨e1, e2⟩ := e; subst e1; exact absurd (xd_6 hq) (by omega))]
        · intro r hr hv
          simp only [List.mem_cons, List.not_mem_nil, or_false] at hr
          rcases hr with rfl
          · exact ⟨_, hp_9, (by show _ = xRoE _ _ _ _ _ _ _; rw [mu_s, mu_r (by decide), mu_r (by decide), mu_r (by decide), mu_r (by decide), mu_r (by decide)])⟩
      exact x_iret E hr hlk hw dX0_shut_46 ⟨by simp only [sp_shut, if_pos c_1, if_pos c_3], by simp only [sp_shut, if_pos c_1, if_pos c_3]; exact xF.of hfin⟩
  · refine lv_iconst (pc := 8) (v := (-1)) hx hb dX0_shut_8 (by decide) ?_
    exact x_iret E hr hlk hw dX0_shut_9 ⟨by simp only [sp_shut, if_neg c_1], by simp only [sp_shut, if_neg c_1]; exact xF.of hR⟩
set_option maxHeartbeats 4000000 in
set_option maxRecDepth 100000 in
theorem xtX0_strike (l : Launch) (D : xD) (A : Nat → Prop) (V : xV) (st : mS) (g : xG)  (c_ : Int32) (is : Int32) (hI : mI st) (hR : xR D st g V) (his : is = 0 ∨ is = 1) : Met l yX0_strike (ws_ yX0_strike cX0_strike 5 (some .int)) (xRm 6 0 0) (xP D A V [.ref (g 0 0), .int c_, .int is]) (xQ D A (fun ρ V' => ρ = some (.int (sp_strike st c_ is).1) ∧ xF D g ((sp_strike st c_ is).2) V')) 0 0 A := by
  refine x_headW (own := RX0) (As := [.ref (g 0 0), .int c_, .int is]) (bytes := cX0_strike) (maxL := 5) (ret := (some .int)) (by decide) rfl (Nat.le_of_ble_eq_true rfl) ?_
  intro p e s m below meth c E hml hr hlk hin2 hw ls hl
  have hx := E.1
  have hb := E.2.1
  have hts := E.2.2.1
  have hown := E.2.2.2.1
  have hl : lv_has ls 5 [(0, .ref (g 0 0)), (1, .int c_), (2, .int is)] := hl
  have h16 := hI.r16
  have h10 := hI.l10
  have hv8 := hI.v8
  have hc8 := hI.c8
  have hk8 := hI.k8
  have hb8 := hI.b8
  refine lv_aload_n (pc := 0) hx hb dX0_strike_0 rfl (lv_at hl 0 rfl) ?_
  refine lv_iload_n (pc := 1) hx hb dX0_strike_1 rfl (lv_at hl 1 rfl) ?_
  obtain ⟨b7, b8, b9, hpx⟩ := hR.px hI
  replace hpx : V (g 0 0) = some (.inr (0, [.int (st 0 0), .int (st 0 42), .ref (g 0 2), .ref (g 0 3), .int (nI (cnt st 12)), .ref (g 0 5), .ref (g 0 6), .int b7, .long b8, .int b9, .int (st 0 14), .ref (g 0 11), .int (nI (cnt st 24)), .int (st 0 25), .ref (g 0 14), .ref (g 0 15), .int (nI (cnt st 27)), .ref (g 0 17), .ref (g 0 18), .ref (g 0 19)])) := hpx
  refine x_goR (x_runV (pc := 2) (As := [.int c_]) (rest := []) E hml hl.1 hw.2 hw.1 hpx (C := RX0) (T := TX0) (N := 20) rfl (xtX0_isControl l D A V st g c_ hI hR) q626 q628 qs14 q48 q629 hdX0_isControl ⟨Nat.le_of_ble_eq_true rfl, Nat.le_of_ble_eq_true rfl⟩ rfl rfl rfl (Nat.le_of_ble_eq_true rfl) dX0_strike_2 ⟨Nat.le_of_ble_eq_true rfl, Nat.le_of_ble_eq_true rfl⟩) ?_
  refine lb_ne (pc := 5) (tgt := 10) hx hb dX0_strike_5 (by decide) (fun c_1 => ?_) (fun c_1 => ?_)
  · have hc_n := clamp_n (x := c_) c_1.1
    have hc_i := clamp_i (x := c_) c_1.1
    have hc_l : c_.toNatClampNeg < cnt st 30 := by have := cnt_i (st := st) (k := 30) (by omega); omega
    refine lv_aload_n (pc := 10) hx hb dX0_strike_10 rfl (lv_at hl 0 rfl) ?_
    refine x_rd (pc := 11) (v := .ref (g 0 17)) E hw.1 17 hpx (C := RX0) (T := TX0) (N := 20) rfl in_X0 (Nat.le_of_ble_eq_true rfl) q130 (fun _ h => h) rfl dX0_strike_11 ?_
    refine lv_iload_n (pc := 14) hx hb dX0_strike_14 rfl (lv_at hl 1 rfl) ?_
    refine li_top (v' := .int (nI c_.toNatClampNeg)) (congrArg Value.int hc_n) ?_
    obtain ⟨mc_17, hpl_17⟩ := hR.p17
    obtain ⟨cap_1, f1_1, hpe_1, hcap_1, hle_1, hel_1⟩ := hR.pe (j := 1) (by decide)
    replace hle_1 : cnt st 30 ≤ cap_1 := hle_1
    replace hel_1 : ∀ q, q < cnt st 30 → f1_1 q = some (g 3 q) := hel_1
    refine x_goR5 (x_runF (pc := 15) (As := [.int (nI c_.toNatClampNeg)]) (rest := []) E hml hl.1 hw.2 hw.1 hpl_17 (C := RJ2) (T := TJ2) (N := 3) rfl (xtJ2_get l D A V (g 0 17) (g 1 1) (cnt st 30) cap_1 (g 3 c_.toNatClampNeg) c_.toNatClampNeg mc_17 f1_1 hpl_17 hpe_1 (show c_.toNatClampNeg < cnt st 30 from (by omega)) hle_1 (by have := hcap_1; omega) (hel_1 _ (by omega))) E.2.2.2.2.1.2.1.2.2.2.2.2.2.1 q337 q340 q342 q51 q344 hdF_get ⟨Nat.le_of_ble_eq_true rfl, Nat.le_of_ble_eq_true rfl⟩ rfl rfl rfl (Nat.le_of_ble_eq_true rfl) dX0_strike_15 ⟨Nat.le_of_ble_eq_true rfl, Nat.le_of_ble_eq_true rfl⟩) ?_
    obtain ⟨k_2a, k_2b, k_2c, k_2d, k_2h, k_2e⟩ := hR.ctl (j := c_.toNatClampNeg) (by omega)
    refine x_castS (pc := 20) E hw.1 k_2h (C := RX6) (T := TX6) (N := 7) rfl q586 dX0_strike_20 ?_
    refine lv_astore_n (pc := 23) (lv' := [(3, .ref (g 3 c_.toNatClampNeg)), (0, .ref (g 0 0)), (1, .int c_), (2, .int is)]) hx hb dX0_strike_23 rfl hl (by decide) rfl (fun ls hl => ?_)
    refine lv_aload_n (pc := 24) hx hb dX0_strike_24 rfl (lv_at hl 0 rfl) ?_
    refine x_rdN (pc := 25) (v := .int (st 32 c_.toNatClampNeg)) E hw.1 1 k_2h (C := RX6) (T := TX6) (N := 7) rfl in_X6 (Nat.le_of_ble_eq_true rfl) q596 (fun _ h => h) rfl dX0_strike_25 ?_
    refine lv_iload_n (pc := 28) hx hb dX0_strike_28 rfl (lv_at hl 3 rfl) ?_
    refine li_icne (pc := 29) (tgt := 36) hx hb dX0_strike_29 (by decide) (fun c_3 => ?_) (fun c_3 => ?_)
    · refine lv_iconst (pc := 36) (v := 1) hx hb dX0_strike_36 (by decide) ?_
      refine lv_istore (pc := 37) (lv' := [(4, .int 1), (3, .ref (g 3 c_.toNatClampNeg)), (0, .ref (g 0 0)), (1, .int c_), (2, .int is)]) hx hb dX0_strike_37 hl (by decide) rfl (fun ls hl => ?_)
      refine lv_aload_n (pc := 39) hx hb dX0_strike_39 rfl (lv_at hl 1 rfl) ?_
      refine lv_iload_n (pc := 40) hx hb dX0_strike_40 rfl (lv_at hl 4 rfl) ?_
      refine x_putN1 (pc := 41) (v := .int is) E hw 1 k_2h (C := RX6) (T := TX6) (N := 7) rfl in_X6 tyX6 tyX6_ok (Nat.le_of_ble_eq_true rfl) q596 (fun _ h => h) rfl (tyX6_ok 1 (Nat.le_of_ble_eq_true rfl)) (b01_nar his) (by rcases his with rfl | rfl <;> rfl) (Nat.le_of_ble_eq_true rfl) (fun j hj hne => Or.inl (nmX6 j hj 1 (Nat.le_of_ble_eq_true rfl) hne)) dX0_strike_41 (fun V_4 H locs hV_5 hw => ?_)
      replace hV_5 : V_4 = xu V (g 3 c_.toNatClampNeg) (.inr (4, [.int (st 31 c_.toNatClampNeg), .int is, .int (st 33 c_.toNatClampNeg), .int k_2a, .int k_2b, .int k_2c, .int k_2d])) := hV_5
      have hp_6 : V_4 (g 3 c_.toNatClampNeg) = some (.inr (4, [.int (st 31 c_.toNatClampNeg), .int is, .int (st 33 c_.toNatClampNeg), .int k_2a, .int k_2b, .int k_2c, .int k_2d])) := by rw [hV_5]; exact xu_s _ _ _
      refine lv_iload (pc := 44) hx hb dX0_strike_44 (lv_at hl 0 rfl) ?_
      have hfin : xR D (mu st 32 c_.toNatClampNeg is) g V_4 := by
        refine hR.w0 hI [(3, c_.toNatClampNeg)] (fun i j h => h) ?_ ?_ ?_ ?_ (hR.2.2)
        · intro r hr
          simp only [List.mem_cons, List.not_mem_nil, or_false] at hr
          rcases hr with rfl
          · exact ⟨by unfold xVal; dsimp only; omega, fun h => absurd (show (3 : Nat) = 1 from h) (by decide)⟩
        · intro b hb
          rw [hV_5, xu_n (hb (3, c_.toNatClampNeg) (by simp))]
        · intro i j k q hv hn hq
          simp only [List.mem_cons, List.not_mem_nil, or_false, Prod.mk.injEq, not_or] at hn
          rw [mu_k (fun e => by obtain ⟨e1, e2⟩ := e; subst e1; exact absurd (xd_32 hq) (by omega))]
        · intro r hr hv
          simp only [List.mem_cons, List.not_mem_nil, or_false] at hr
          rcases hr with rfl
          · exact ⟨_, hp_6, ⟨_, _, _, _, by rw [mu_s, mu_r (by decide), mu_r (by decide)], by rw [mu_r (by decide), mu_r (by decide), mu_r (by decide), mu_r (by decide), mu_r (by decide)]; exact k_2e⟩⟩
      exact x_iret E hr hlk hw dX0_strike_46 ⟨by simp only [sp_strike, if_pos c_1, if_neg c_3], by simp only [sp_strike, if_pos c_1, if_neg c_3]; exact xF.of hfin⟩
    · refine lv_iconst (pc := 32) (v := 0) hx hb dX0_strike_32 (by decide) ?_
      refine lv_goto (pc := 33) (tgt := 37) hx hb dX0_strike_33 (by decide) ?_
      refine lv_istore (pc := 37) (lv' := [(4, .int 0), (3, .ref (g 3 c_.toNatClampNeg)), (0, .ref (g 0 0)), (1, .int c_), (2, .int is)]) hx hb dX0_strike_37 hl (by decide) rfl (fun ls hl => ?_)
      refine lv_aload_n (pc := 39) hx hb dX0_strike_39 rfl (lv_at hl 1 rfl) ?_
      refine lv_iload_n (pc := 40) hx hb dX0_strike_40 rfl (lv_at hl 4 rfl) ?_
      refine x_putN1 (pc := 41) (v := .int is) E hw 1 k_2h (C := RX6) (T := TX6) (N := 7) rfl in_X6 tyX6 tyX6_ok (Nat.le_of_ble_eq_true rfl) q596 (fun _ h => h) rfl (tyX6_ok 1 (Nat.le_of_ble_eq_true rfl)) (b01_nar his) (by rcases his with rfl | rfl <;> rfl) (Nat.le_of_ble_eq_true rfl) (fun j hj hne => Or.inl (nmX6 j hj 1 (Nat.le_of_ble_eq_true rfl) hne)) dX0_strike_41 (fun V_7 H locs hV_8 hw => ?_)
      replace hV_8 : V_7 = xu V (g 3 c_.toNatClampNeg) (.inr (4, [.int (st 31 c_.toNatClampNeg), .int is, .int (st 33 c_.toNatClampNeg), .int k_2a, .int k_2b, .int k_2c, .int k_2d])) := hV_8
      have hp_9 : V_7 (g 3 c_.toNatClampNeg) = some (.inr (4, [.int (st 31 c_.toNatClampNeg), .int is, .int (st 33 c_.toNatClampNeg), .int k_2a, .int k_2b, .int k_2c, .int k_2d])) := by rw [hV_8]; exact xu_s _ _ _
      refine lv_iload (pc := 44) hx hb dX0_strike_44 (lv_at hl 0 rfl) ?_
      have hfin : xR D (mu st 32 c_.toNatClampNeg is) g V_7 := by
        refine hR.w0 hI [(3, c_.toNatClampNeg)] (fun i j h => h) ?_ ?_ ?_ ?_ (hR.2.2)
        · intro r hr
          simp only [List.mem_cons, List.not_mem_nil, or_false] at hr
          rcases hr with rfl
          · exact ⟨by unfold xVal; dsimp only; omega, fun h => absurd (show (3 : Nat) = 1 from h) (by decide)⟩
        · intro b hb
          rw [hV_8, xu_n (hb (3, c_.toNatClampNeg) (by simp))]
        · intro i j k q hv hn hq
          simp only [List.mem_cons, List.not_mem_nil, or_false, Prod.mk.injEq, not_or] at hn
          rw [mu_k (fun e => by obtain ⟨e1, e2⟩ := e; subst e1; exact absurd (xd_32 hq) (by omega))]
        · intro r hr hv
          simp only [List.mem_cons, List.not_mem_nil, or_false] at hr
          rcases hr with rfl
          · exact ⟨_, hp_9, ⟨_, _, _, _, by rw [mu_s, mu_r (by decide), mu_r (by decide)], by rw [mu_r (by decide), mu_r (by decide), mu_r (by decide), mu_r (by decide), mu_r (by decide)]; exact k_2e⟩⟩
      exact x_iret E hr hlk hw dX0_strike_46 ⟨by simp only [sp_strike, if_pos c_1, if_pos c_3], by simp only [sp_strike, if_pos c_1, if_pos c_3]; exact xF.of hfin⟩
  · refine lv_iconst (pc := 8) (v := (-1)) hx hb dX0_strike_8 (by decide) ?_
    exact x_iret E hr hlk hw dX0_strike_9 ⟨by simp only [sp_strike, if_neg c_1], by simp only [sp_strike, if_neg c_1]; exact xF.of hR⟩
set_option maxHeartbeats 4000000 in
set_option maxRecDepth 100000 in
theorem xtX0_watch (l : Launch) (D : xD) (A : Nat → Prop) (V : xV) (st : mS) (g : xG)  (c_ : Int32) (a : Int32) (b : Int32) (x : Int32) (y : Int32) (hI : mI st) (hR : xR D st g V)  : Met l yX0_watch (ws_ yX0_watch cX0_watch 7 (some .int)) (xRm 6 0 0) (xP D A V [.ref (g 0 0), .int c_, .int a, .int b, .int x, .int y]) (xQ D A (fun ρ V' => ρ = some (.int (sp_watch st c_ a b x y).1) ∧ xF D g ((sp_watch st c_ a b x y).2) V')) 0 0 A := by
  refine x_headW (own := RX0) (As := [.ref (g 0 0), .int c_, .int a, .int b, .int x, .int y]) (bytes := cX0_watch) (maxL := 7) (ret := (some .int)) (by decide) rfl (Nat.le_of_ble_eq_true rfl) ?_
  intro p e s m below meth c E hml hr hlk hin2 hw ls hl
  have hx := E.1
  have hb := E.2.1
  have hts := E.2.2.1
  have hown := E.2.2.2.1
  have hl : lv_has ls 7 [(0, .ref (g 0 0)), (1, .int c_), (2, .int a), (3, .int b), (4, .int x), (5, .int y)] := hl
  have h16 := hI.r16
  have h10 := hI.l10
  have hv8 := hI.v8
  have hc8 := hI.c8
  have hk8 := hI.k8
  have hb8 := hI.b8
  refine lv_aload_n (pc := 0) hx hb dX0_watch_0 rfl (lv_at hl 0 rfl) ?_
  refine lv_iload_n (pc := 1) hx hb dX0_watch_1 rfl (lv_at hl 1 rfl) ?_
  obtain ⟨b7, b8, b9, hpx⟩ := hR.px hI
  replace hpx : V (g 0 0) = some (.inr (0, [.int (st 0 0), .int (st 0 42), .ref (g 0 2), .ref (g 0 3), .int (nI (cnt st 12)), .ref (g 0 5), .ref (g 0 6), .int b7, .long b8, .int b9, .int (st 0 14), .ref (g 0 11), .int (nI (cnt st 24)), .int (st 0 25), .ref (g 0 14), .ref (g 0 15), .int (nI (cnt st 27)), .ref (g 0 17), .ref (g 0 18), .ref (g 0 19)])) := hpx
  refine x_goR (x_runV (pc := 2) (As := [.int c_]) (rest := []) E hml hl.1 hw.2 hw.1 hpx (C := RX0) (T := TX0) (N := 20) rfl (xtX0_isControl l D A V st g c_ hI hR) q626 q628 qs14 q48 q629 hdX0_isControl ⟨Nat.le_of_ble_eq_true rfl, Nat.le_of_ble_eq_true rfl⟩ rfl rfl rfl (Nat.le_of_ble_eq_true rfl) dX0_watch_2 ⟨Nat.le_of_ble_eq_true rfl, Nat.le_of_ble_eq_true rfl⟩) ?_
  refine lb_ne (pc := 5) (tgt := 10) hx hb dX0_watch_5 (by decide) (fun c_1 => ?_) (fun c_1 => ?_)
  · have hc_n := clamp_n (x := c_) c_1.1
    have hc_i := clamp_i (x := c_) c_1.1
    have hc_l : c_.toNatClampNeg < cnt st 30 := by have := cnt_i (st := st) (k := 30) (by omega); omega
    refine lv_iload_n (pc := 10) hx hb dX0_watch_10 rfl (lv_at hl 2 rfl) ?_
    refine x_goR (x_runS (pc := 11) (As := [.int a]) (rest := []) E hml hl.1 (x_preE) (xtX0_isTime l a) q630 q631 q48 q632 hdX0_isTime.2 ⟨Nat.le_of_ble_eq_true rfl, Nat.le_of_ble_eq_true rfl⟩ rfl rfl rfl (Nat.le_of_ble_eq_true rfl) dX0_watch_11 ⟨Nat.le_of_ble_eq_true rfl, Nat.le_of_ble_eq_true rfl⟩) ?_
    refine lb_eq (pc := 14) (tgt := 52) hx hb dX0_watch_14 (by decide) (fun c_2 => ?_) (fun c_2 => ?_)
    · refine lv_bipush (pc := 52) (v := (-2)) hx hb dX0_watch_52 (by decide) ?_
      exact x_iret E hr hlk hw dX0_watch_54 ⟨by simp only [sp_watch, if_pos c_1, if_neg c_2], by simp only [sp_watch, if_pos c_1, if_neg c_2]; exact xF.of hR⟩
    · refine lv_iload_n (pc := 17) hx hb dX0_watch_17 rfl (lv_at hl 3 rfl) ?_
      refine x_goR (x_runS (pc := 18) (As := [.int b]) (rest := []) E hml hl.1 (x_preE) (xtX0_isTime l b) q630 q631 q48 q632 hdX0_isTime.2 ⟨Nat.le_of_ble_eq_true rfl, Nat.le_of_ble_eq_true rfl⟩ rfl rfl rfl (Nat.le_of_ble_eq_true rfl) dX0_watch_18 ⟨Nat.le_of_ble_eq_true rfl, Nat.le_of_ble_eq_true rfl⟩) ?_
      refine lb_eq (pc := 21) (tgt := 52) hx hb dX0_watch_21 (by decide) (fun c_3 => ?_) (fun c_3 => ?_)
      · refine lv_bipush (pc := 52) (v := (-2)) hx hb dX0_watch_52 (by decide) ?_
        exact x_iret E hr hlk hw dX0_watch_54 ⟨by simp only [sp_watch, if_pos c_1, if_pos c_2, if_neg c_3], by simp only [sp_watch, if_pos c_1, if_pos c_2, if_neg c_3]; exact xF.of hR⟩
      · refine lv_iload (pc := 24) hx hb dX0_watch_24 (lv_at hl 4 rfl) ?_
        refine x_goR (x_runS (pc := 26) (As := [.int x]) (rest := []) E hml hl.1 (x_preE) (xtX0_isTime l x) q630 q631 q48 q632 hdX0_isTime.2 ⟨Nat.le_of_ble_eq_true rfl, Nat.le_of_ble_eq_true rfl⟩ rfl rfl rfl (Nat.le_of_ble_eq_true rfl) dX0_watch_26 ⟨Nat.le_of_ble_eq_true rfl, Nat.le_of_ble_eq_true rfl⟩) ?_
        refine lb_eq (pc := 29) (tgt := 52) hx hb dX0_watch_29 (by decide) (fun c_4 => ?_) (fun c_4 => ?_)
        · refine lv_bipush (pc := 52) (v := (-2)) hx hb dX0_watch_52 (by decide) ?_
          exact x_iret E hr hlk hw dX0_watch_54 ⟨by simp only [sp_watch, if_pos c_1, if_pos c_2, if_pos c_3, if_neg c_4], by simp only [sp_watch, if_pos c_1, if_pos c_2, if_pos c_3, if_neg c_4]; exact xF.of hR⟩
        · refine lv_iload (pc := 32) hx hb dX0_watch_32 (lv_at hl 5 rfl) ?_
          refine x_goR (x_runS (pc := 34) (As := [.int y]) (rest := []) E hml hl.1 (x_preE) (xtX0_isTime l y) q630 q631 q48 q632 hdX0_isTime.2 ⟨Nat.le_of_ble_eq_true rfl, Nat.le_of_ble_eq_true rfl⟩ rfl rfl rfl (Nat.le_of_ble_eq_true rfl) dX0_watch_34 ⟨Nat.le_of_ble_eq_true rfl, Nat.le_of_ble_eq_true rfl⟩) ?_
          refine lb_eq (pc := 37) (tgt := 52) hx hb dX0_watch_37 (by decide) (fun c_5 => ?_) (fun c_5 => ?_)
          · refine lv_bipush (pc := 52) (v := (-2)) hx hb dX0_watch_52 (by decide) ?_
            exact x_iret E hr hlk hw dX0_watch_54 ⟨by simp only [sp_watch, if_pos c_1, if_pos c_2, if_pos c_3, if_pos c_4, if_neg c_5], by simp only [sp_watch, if_pos c_1, if_pos c_2, if_pos c_3, if_pos c_4, if_neg c_5]; exact xF.of hR⟩
          · refine lv_iload_n (pc := 40) hx hb dX0_watch_40 rfl (lv_at hl 2 rfl) ?_
            refine lv_iload_n (pc := 41) hx hb dX0_watch_41 rfl (lv_at hl 3 rfl) ?_
            refine li_icmp_ge (pc := 42) (tgt := 52) hx hb dX0_watch_42 (by decide) (fun c_6 => ?_) (fun c_6 => ?_)
            · refine lv_bipush (pc := 52) (v := (-2)) hx hb dX0_watch_52 (by decide) ?_
              exact x_iret E hr hlk hw dX0_watch_54 ⟨by simp only [sp_watch, if_pos c_1, if_pos c_2, if_pos c_3, if_pos c_4, if_pos c_5, if_neg c_6], by simp only [sp_watch, if_pos c_1, if_pos c_2, if_pos c_3, if_pos c_4, if_pos c_5, if_neg c_6]; exact xF.of hR⟩
            · refine lv_iload (pc := 45) hx hb dX0_watch_45 (lv_at hl 4 rfl) ?_
              refine lv_iload (pc := 47) hx hb dX0_watch_47 (lv_at hl 5 rfl) ?_
              refine li_icmp_lt (pc := 49) (tgt := 55) hx hb dX0_watch_49 (by decide) (fun c_7 => ?_) (fun c_7 => ?_)
              · refine lv_aload_n (pc := 55) hx hb dX0_watch_55 rfl (lv_at hl 0 rfl) ?_
                refine x_rd (pc := 56) (v := .ref (g 0 17)) E hw.1 17 hpx (C := RX0) (T := TX0) (N := 20) rfl in_X0 (Nat.le_of_ble_eq_true rfl) q130 (fun _ h => h) rfl dX0_watch_56 ?_
                refine lv_iload_n (pc := 59) hx hb dX0_watch_59 rfl (lv_at hl 1 rfl) ?_
                refine li_top (v' := .int (nI c_.toNatClampNeg)) (congrArg Value.int hc_n) ?_
                obtain ⟨mc_17, hpl_17⟩ := hR.p17
                obtain ⟨cap_1, f1_1, hpe_1, hcap_1, hle_1, hel_1⟩ := hR.pe (j := 1) (by decide)
                replace hle_1 : cnt st 30 ≤ cap_1 := hle_1
                replace hel_1 : ∀ q, q < cnt st 30 → f1_1 q = some (g 3 q) := hel_1
                refine x_goR5 (x_runF (pc := 60) (As := [.int (nI c_.toNatClampNeg)]) (rest := []) E hml hl.1 hw.2 hw.1 hpl_17 (C := RJ2) (T := TJ2) (N := 3) rfl (xtJ2_get l D A V (g 0 17) (g 1 1) (cnt st 30) cap_1 (g 3 c_.toNatClampNeg) c_.toNatClampNeg mc_17 f1_1 hpl_17 hpe_1 (show c_.toNatClampNeg < cnt st 30 from (by omega)) hle_1 (by have := hcap_1; omega) (hel_1 _ (by omega))) E.2.2.2.2.1.2.1.2.2.2.2.2.2.1 q337 q340 q342 q51 q344 hdF_get ⟨Nat.le_of_ble_eq_true rfl, Nat.le_of_ble_eq_true rfl⟩ rfl rfl rfl (Nat.le_of_ble_eq_true rfl) dX0_watch_60 ⟨Nat.le_of_ble_eq_true rfl, Nat.le_of_ble_eq_true rfl⟩) ?_
                obtain ⟨k_8a, k_8b, k_8c, k_8d, k_8h, k_8e⟩ := hR.ctl (j := c_.toNatClampNeg) (by omega)
                refine x_castS (pc := 65) E hw.1 k_8h (C := RX6) (T := TX6) (N := 7) rfl q586 dX0_watch_65 ?_
                refine lv_astore (pc := 68) (lv' := [(6, .ref (g 3 c_.toNatClampNeg)), (0, .ref (g 0 0)), (1, .int c_), (2, .int a), (3, .int b), (4, .int x), (5, .int y)]) hx hb dX0_watch_68 hl (by decide) rfl (fun ls hl => ?_)
                refine lv_aload (pc := 70) hx hb dX0_watch_70 (lv_at hl 0 rfl) ?_
                refine lv_iconst (pc := 72) (v := 1) hx hb dX0_watch_72 (by decide) ?_
                refine x_putN1 (pc := 73) (v := .int 1) E hw 2 k_8h (C := RX6) (T := TX6) (N := 7) rfl in_X6 tyX6 tyX6_ok (Nat.le_of_ble_eq_true rfl) q598 (fun _ h => h) rfl (tyX6_ok 2 (Nat.le_of_ble_eq_true rfl)) rfl rfl (Nat.le_of_ble_eq_true rfl) (fun j hj hne => Or.inl (nmX6 j hj 2 (Nat.le_of_ble_eq_true rfl) hne)) dX0_watch_73 (fun V_9 H locs hV_10 hw => ?_)
                replace hV_10 : V_9 = xu V (g 3 c_.toNatClampNeg) (.inr (4, [.int (st 31 c_.toNatClampNeg), .int (st 32 c_.toNatClampNeg), .int 1, .int k_8a, .int k_8b, .int k_8c, .int k_8d])) := hV_10
                have hp_11 : V_9 (g 3 c_.toNatClampNeg) = some (.inr (4, [.int (st 31 c_.toNatClampNeg), .int (st 32 c_.toNatClampNeg), .int 1, .int k_8a, .int k_8b, .int k_8c, .int k_8d])) := by rw [hV_10]; exact xu_s _ _ _
                refine lv_aload (pc := 76) hx hb dX0_watch_76 (lv_at hl 0 rfl) ?_
                refine lv_iload_n (pc := 78) hx hb dX0_watch_78 rfl (lv_at hl 3 rfl) ?_
                refine x_putN1 (pc := 79) (v := .int a) E hw 3 hp_11 (C := RX6) (T := TX6) (N := 7) rfl in_X6 tyX6 tyX6_ok (Nat.le_of_ble_eq_true rfl) q600 (fun _ h => h) rfl (tyX6_ok 3 (Nat.le_of_ble_eq_true rfl)) rfl rfl (Nat.le_of_ble_eq_true rfl) (fun j hj hne => Or.inl (nmX6 j hj 3 (Nat.le_of_ble_eq_true rfl) hne)) dX0_watch_79 (fun V_12 H locs hV_13 hw => ?_)
                replace hV_13 : V_12 = xu V_9 (g 3 c_.toNatClampNeg) (.inr (4, [.int (st 31 c_.toNatClampNeg), .int (st 32 c_.toNatClampNeg), .int 1, .int a, .int k_8b, .int k_8c, .int k_8d])) := hV_13
                have hp_14 : V_12 (g 3 c_.toNatClampNeg) = some (.inr (4, [.int (st 31 c_.toNatClampNeg), .int (st 32 c_.toNatClampNeg), .int 1, .int a, .int k_8b, .int k_8c, .int k_8d])) := by rw [hV_13]; exact xu_s _ _ _
                refine lv_aload (pc := 82) hx hb dX0_watch_82 (lv_at hl 0 rfl) ?_
                refine lv_iload_n (pc := 84) hx hb dX0_watch_84 rfl (lv_at hl 4 rfl) ?_
                refine x_putN1 (pc := 85) (v := .int b) E hw 4 hp_14 (C := RX6) (T := TX6) (N := 7) rfl in_X6 tyX6 tyX6_ok (Nat.le_of_ble_eq_true rfl) q602 (fun _ h => h) rfl (tyX6_ok 4 (Nat.le_of_ble_eq_true rfl)) rfl rfl (Nat.le_of_ble_eq_true rfl) (fun j hj hne => Or.inl (nmX6 j hj 4 (Nat.le_of_ble_eq_true rfl) hne)) dX0_watch_85 (fun V_15 H locs hV_16 hw => ?_)
                replace hV_16 : V_15 = xu V_12 (g 3 c_.toNatClampNeg) (.inr (4, [.int (st 31 c_.toNatClampNeg), .int (st 32 c_.toNatClampNeg), .int 1, .int a, .int b, .int k_8c, .int k_8d])) := hV_16
                have hp_17 : V_15 (g 3 c_.toNatClampNeg) = some (.inr (4, [.int (st 31 c_.toNatClampNeg), .int (st 32 c_.toNatClampNeg), .int 1, .int a, .int b, .int k_8c, .int k_8d])) := by rw [hV_16]; exact xu_s _ _ _
                refine lv_aload (pc := 88) hx hb dX0_watch_88 (lv_at hl 0 rfl) ?_
                refine lv_iload (pc := 90) hx hb dX0_watch_90 (lv_at hl 5 rfl) ?_
                refine x_putN1 (pc := 92) (v := .int x) E hw 5 hp_17 (C := RX6) (T := TX6) (N := 7) rfl in_X6 tyX6 tyX6_ok (Nat.le_of_ble_eq_true rfl) q604 (fun _ h => h) rfl (tyX6_ok 5 (Nat.le_of_ble_eq_true rfl)) rfl rfl (Nat.le_of_ble_eq_true rfl) (fun j hj hne => Or.inl (nmX6 j hj 5 (Nat.le_of_ble_eq_true rfl) hne)) dX0_watch_92 (fun V_18 H locs hV_19 hw => ?_)
                replace hV_19 : V_18 = xu V_15 (g 3 c_.toNatClampNeg) (.inr (4, [.int (st 31 c_.toNatClampNeg), .int (st 32 c_.toNatClampNeg), .int 1, .int a, .int b, .int x, .int k_8d])) := hV_19
                have hp_20 : V_18 (g 3 c_.toNatClampNeg) = some (.inr (4, [.int (st 31 c_.toNatClampNeg), .int (st 32 c_.toNatClampNeg), .int 1, .int a, .int b, .int x, .int k_8d])) := by rw [hV_19]; exact xu_s _ _ _
                refine lv_aload (pc := 95) hx hb dX0_watch_95 (lv_at hl 0 rfl) ?_
                refine lv_iload (pc := 97) hx hb dX0_watch_97 (lv_at hl 6 rfl) ?_
                refine x_putN1 (pc := 99) (v := .int y) E hw 6 hp_20 (C := RX6) (T := TX6) (N := 7) rfl in_X6 tyX6 tyX6_ok (Nat.le_of_ble_eq_true rfl) q606 (fun _ h => h) rfl (tyX6_ok 6 (Nat.le_of_ble_eq_true rfl)) rfl rfl (Nat.le_of_ble_eq_true rfl) (fun j hj hne => Or.inl (nmX6 j hj 6 (Nat.le_of_ble_eq_true rfl) hne)) dX0_watch_99 (fun V_21 H locs hV_22 hw => ?_)
                replace hV_22 : V_21 = xu V_18 (g 3 c_.toNatClampNeg) (.inr (4, [.int (st 31 c_.toNatClampNeg), .int (st 32 c_.toNatClampNeg), .int 1, .int a, .int b, .int x, .int y])) := hV_22
                have hp_23 : V_21 (g 3 c_.toNatClampNeg) = some (.inr (4, [.int (st 31 c_.toNatClampNeg), .int (st 32 c_.toNatClampNeg), .int 1, .int a, .int b, .int x, .int y])) := by rw [hV_22]; exact xu_s _ _ _
                refine lv_iconst (pc := 102) (v := 1) hx hb dX0_watch_102 (by decide) ?_
                have hfin : xR D (mu (mu (mu (mu (mu st 33 c_.toNatClampNeg 1) 34 (4 * c_.toNatClampNeg) a) 34 (4 * c_.toNatClampNeg + 1) b) 34 (4 * c_.toNatClampNeg + 2) x) 34 (4 * c_.toNatClampNeg + 3) y) g V_21 := by
                  refine hR.w0 hI [(3, c_.toNatClampNeg)] (fun i j h => h) ?_ ?_ ?_ ?_ (hR.2.2)
                  · intro r hr
                    simp only [List.mem_cons, List.not_mem_nil, or_false] at hr
                    rcases hr with rfl
                    · exact ⟨by unfold xVal; dsimp only; omega, fun h => absurd (show (3 : Nat) = 1 from h) (by decide)⟩
                  · intro b hb
                    rw [hV_22, xu_n (hb (3, c_.toNatClampNeg) (by simp)), hV_19, xu_n (hb (3, c_.toNatClampNeg) (by simp)), hV_16, xu_n (hb (3, c_.toNatClampNeg) (by simp)), hV_13, xu_n (hb (3, c_.toNatClampNeg) (by simp)), hV_10, xu_n (hb (3, c_.toNatClampNeg) (by simp))]
                  · intro i j k q hv hn hq
                    simp only [List.mem_cons, List.not_mem_nil, or_false, Prod.mk.injEq, not_or] at hn
                    rw [mu_k (fun e => by obtain ⟨e1, e2⟩ := e; subst e1; exact absurd (xd_34 hq) (by omega))]
                    rw [mu_k (fun e => by obtain ⟨e1, e2⟩ := e; subst e1; exact absurd (xd_34 hq) (by omega))]
                    rw [mu_k (fun e => by obtain ⟨e1, e2⟩ := e; subst e1; exact absurd (xd_34 hq) (by omega))]
                    rw [mu_k (fun e => by obtain ⟨e1, e2⟩ := e; subst e1; exact absurd (xd_34 hq) (by omega))]
                    rw [mu_k (fun e => by obtain ⟨e1, e2⟩ := e; subst e1; exact absurd (xd_33 hq) (by omega))]
                  · intro r hr hv
                    simp only [List.mem_cons, List.not_mem_nil, or_false] at hr
                    rcases hr with rfl
                    · exact ⟨_, hp_23, ⟨a, b, x, y, by simp [mu], fun _ => ⟨by simp [mu], by simp [mu], by simp [mu], by simp [mu]⟩⟩⟩
                exact x_iret E hr hlk hw dX0_watch_103 ⟨by simp only [sp_watch, if_pos c_1, if_pos c_2, if_pos c_3, if_pos c_4, if_pos c_5, if_pos c_6, if_pos c_7], by simp only [sp_watch, if_pos c_1, if_pos c_2, if_pos c_3, if_pos c_4, if_pos c_5, if_pos c_6, if_pos c_7]; exact xF.of hfin⟩
              · refine lv_bipush (pc := 52) (v := (-2)) hx hb dX0_watch_52 (by decide) ?_
                exact x_iret E hr hlk hw dX0_watch_54 ⟨by simp only [sp_watch, if_pos c_1, if_pos c_2, if_pos c_3, if_pos c_4, if_pos c_5, if_pos c_6, if_neg c_7], by simp only [sp_watch, if_pos c_1, if_pos c_2, if_pos c_3, if_pos c_4, if_pos c_5, if_pos c_6, if_neg c_7]; exact xF.of hR⟩
  · refine lv_iconst (pc := 8) (v := (-1)) hx hb dX0_watch_8 (by decide) ?_
    exact x_iret E hr hlk hw dX0_watch_9 ⟨by simp only [sp_watch, if_neg c_1], by simp only [sp_watch, if_neg c_1]; exact xF.of hR⟩
set_option maxHeartbeats 4000000 in
set_option maxRecDepth 100000 in
theorem xtX0_speed (l : Launch) (D : xD) (A : Nat → Prop) (V : xV) (st : mS) (g : xG)  (d : Int32) (v : Int32) (hI : mI st) (hR : xR D st g V)  : Met l yX0_speed (ws_ yX0_speed cX0_speed 3 (some .int)) (xRm 3 0 0) (xP D A V [.ref (g 0 0), .int d, .int v]) (xQ D A (fun ρ V' => ρ = some (.int (sp_speed st d v).1) ∧ xF D g ((sp_speed st d v).2) V')) 0 0 A := by
  refine x_headW (own := RX0) (As := [.ref (g 0 0), .int d, .int v]) (bytes := cX0_speed) (maxL := 3) (ret := (some .int)) (by decide) rfl (Nat.le_of_ble_eq_true rfl) ?_
  intro p e s m below meth c E hml hr hlk hin2 hw ls hl
  have hx := E.1
  have hb := E.2.1
  have hts := E.2.2.1
  have hown := E.2.2.2.1
  have hl : lv_has ls 3 [(0, .ref (g 0 0)), (1, .int d), (2, .int v)] := hl
  have h16 := hI.r16
  have h10 := hI.l10
  have hv8 := hI.v8
  have hc8 := hI.c8
  have hk8 := hI.k8
  have hb8 := hI.b8
  refine lv_iload_n (pc := 0) hx hb dX0_speed_0 rfl (lv_at hl 2 rfl) ?_
  refine lv_i2l (pc := 1) (v := v.toInt64) hx hb dX0_speed_1 rfl ?_
  refine lv_lconst (pc := 2) (v := 1) hx hb dX0_speed_2 (by decide) ?_
  refine lv_ldc2 (pc := 3) hx hb hown (hts _ q554) dX0_speed_3 ?_
  refine x_goR (x_runS (pc := 6) (As := [.long v.toInt64, .long 1, .long 3000]) (rest := []) E hml hl.1 (x_preE) (xtX0_isInB l v 1 3000 1 3000 rfl rfl) q184 q185 q48 q186 hdX0_isIn.2 ⟨Nat.le_of_ble_eq_true rfl, Nat.le_of_ble_eq_true rfl⟩ rfl rfl rfl (Nat.le_of_ble_eq_true rfl) dX0_speed_6 ⟨Nat.le_of_ble_eq_true rfl, Nat.le_of_ble_eq_true rfl⟩) ?_
  refine lb_ne (pc := 9) (tgt := 15) hx hb dX0_speed_9 (by decide) (fun c_1 => ?_) (fun c_1 => ?_)
  · refine lv_aload_n (pc := 15) hx hb dX0_speed_15 rfl (lv_at hl 0 rfl) ?_
    obtain ⟨b7, b8, b9, hpx⟩ := hR.px hI
    replace hpx : V (g 0 0) = some (.inr (0, [.int (st 0 0), .int (st 0 42), .ref (g 0 2), .ref (g 0 3), .int (nI (cnt st 12)), .ref (g 0 5), .ref (g 0 6), .int b7, .long b8, .int b9, .int (st 0 14), .ref (g 0 11), .int (nI (cnt st 24)), .int (st 0 25), .ref (g 0 14), .ref (g 0 15), .int (nI (cnt st 27)), .ref (g 0 17), .ref (g 0 18), .ref (g 0 19)])) := hpx
    refine x_rd (pc := 16) (v := .int (nI (cnt st 24))) E hw.1 12 hpx (C := RX0) (T := TX0) (N := 20) rfl in_X0 (Nat.le_of_ble_eq_true rfl) q125 (fun _ h => h) rfl dX0_speed_16 ?_
    refine li_if_neN (pc := 19) (tgt := 25) hx hb (by omega) dX0_speed_19 (by decide) (fun c_2 => ?_) (fun c_2 => ?_)
    · refine lv_iload_n (pc := 25) hx hb dX0_speed_25 rfl (lv_at hl 1 rfl) ?_
      refine lv_i2l (pc := 26) (v := d.toInt64) hx hb dX0_speed_26 rfl ?_
      refine lv_lconst (pc := 27) (v := 0) hx hb dX0_speed_27 (by decide) ?_
      refine lv_aload_n (pc := 28) hx hb dX0_speed_28 rfl (lv_at hl 0 rfl) ?_
      refine x_rd (pc := 29) (v := .int (st 0 25)) E hw.1 13 hpx (C := RX0) (T := TX0) (N := 20) rfl in_X0 (Nat.le_of_ble_eq_true rfl) q126 (fun _ h => h) rfl dX0_speed_29 ?_
      refine lv_i2l (pc := 32) (v := (st 0 25).toInt64) hx hb dX0_speed_32 rfl ?_
      refine x_goR (x_runS (pc := 33) (As := [.long d.toInt64, .long 0, .long (st 0 25).toInt64]) (rest := []) E hml hl.1 (x_preE) (xtX0_isInB l d 0 (st 0 25).toInt64 0 ((st 0 25).toInt) rfl (Int32.toInt_toInt64 _)) q184 q185 q48 q186 hdX0_isIn.2 ⟨Nat.le_of_ble_eq_true rfl, Nat.le_of_ble_eq_true rfl⟩ rfl rfl rfl (Nat.le_of_ble_eq_true rfl) dX0_speed_33 ⟨Nat.le_of_ble_eq_true rfl, Nat.le_of_ble_eq_true rfl⟩) ?_
      refine lb_ne (pc := 36) (tgt := 42) hx hb dX0_speed_36 (by decide) (fun c_3 => ?_) (fun c_3 => ?_)
      · refine lv_aload_n (pc := 42) hx hb dX0_speed_42 rfl (lv_at hl 0 rfl) ?_
        refine x_rd (pc := 43) (v := .int (nI (cnt st 27))) E hw.1 16 hpx (C := RX0) (T := TX0) (N := 20) rfl in_X0 (Nat.le_of_ble_eq_true rfl) q129 (fun _ h => h) rfl dX0_speed_43 ?_
        refine lv_bipush (pc := 46) (v := 8) hx hb dX0_speed_46 (by decide) ?_
        refine li_icmp_neN (pc := 48) (a := cnt st 27) (b := 8) (tgt := 54) hx hb (by omega) (by omega) dX0_speed_48 (by decide) (fun c_4 => ?_) (fun c_4 => ?_)
        · have hlt : cnt st 27 < 8 := by omega
          refine lv_aload_n (pc := 54) hx hb dX0_speed_54 rfl (lv_at hl 0 rfl) ?_
          refine x_rd (pc := 55) (v := .ref (g 0 14)) E hw.1 14 hpx (C := RX0) (T := TX0) (N := 20) rfl in_X0 (Nat.le_of_ble_eq_true rfl) q127 (fun _ h => h) rfl dX0_speed_55 ?_
          refine lv_aload_n (pc := 58) hx hb dX0_speed_58 rfl (lv_at hl 0 rfl) ?_
          refine x_rd (pc := 59) (v := .int (nI (cnt st 27))) E hw.1 16 hpx (C := RX0) (T := TX0) (N := 20) rfl in_X0 (Nat.le_of_ble_eq_true rfl) q129 (fun _ h => h) rfl dX0_speed_59 ?_
          refine lv_iload_n (pc := 62) hx hb dX0_speed_62 rfl (lv_at hl 1 rfl) ?_
          obtain ⟨f_28, hpa_28, hf_28⟩ := hR.p14
          refine x_istN (pc := 63) (x := d) E hw (cnt st 27) hpa_28 (show cnt st 27 < 8 from (by omega)) (Nat.le_of_ble_eq_true rfl) dX0_speed_63 (fun V_5 H locs hV_6 hw => ?_)
          have hp_7 : V_5 (g 0 14) = some (.inl (D.2.1, 8, .inl (upd f_28 (cnt st 27) d))) := by rw [hV_6]; exact xu_s _ _ _
          refine lv_aload_n (pc := 64) hx hb dX0_speed_64 rfl (lv_at hl 0 rfl) ?_
          have hp_8 : V_5 (g 0 0) = some (.inr (0, [.int (st 0 0), .int (st 0 42), .ref (g 0 2), .ref (g 0 3), .int (nI (cnt st 12)), .ref (g 0 5), .ref (g 0 6), .int b7, .long b8, .int b9, .int (st 0 14), .ref (g 0 11), .int (nI (cnt st 24)), .int (st 0 25), .ref (g 0 14), .ref (g 0 15), .int (nI (cnt st 27)), .ref (g 0 17), .ref (g 0 18), .ref (g 0 19)])) := by rw [hV_6, xu_n (hR.ne (i := 0) (j := 0) (i' := 0) (j' := 14) (Or.inl ⟨rfl, by simp⟩) (Or.inl ⟨rfl, by simp⟩) (by decide) (by decide))]; exact hpx
          refine x_rd (pc := 65) (v := .ref (g 0 15)) E hw.1 15 hp_8 (C := RX0) (T := TX0) (N := 20) rfl in_X0 (Nat.le_of_ble_eq_true rfl) q128 (fun _ h => h) rfl dX0_speed_65 ?_
          refine lv_aload_n (pc := 68) hx hb dX0_speed_68 rfl (lv_at hl 0 rfl) ?_
          refine x_rd (pc := 69) (v := .int (nI (cnt st 27))) E hw.1 16 hp_8 (C := RX0) (T := TX0) (N := 20) rfl in_X0 (Nat.le_of_ble_eq_true rfl) q129 (fun _ h => h) rfl dX0_speed_69 ?_
          refine lv_iload_n (pc := 72) hx hb dX0_speed_72 rfl (lv_at hl 2 rfl) ?_
          obtain ⟨f_29, hpa_29, hf_29⟩ := hR.p15
          have hp_9 : V_5 (g 0 15) = some (.inl (D.2.1, 8, .inl f_29)) := by rw [hV_6, xu_n (hR.ne (i := 0) (j := 15) (i' := 0) (j' := 14) (Or.inl ⟨rfl, by simp⟩) (Or.inl ⟨rfl, by simp⟩) (by decide) (by decide))]; exact hpa_29
          refine x_istN (pc := 73) (x := v) E hw (cnt st 27) hp_9 (show cnt st 27 < 8 from (by omega)) (Nat.le_of_ble_eq_true rfl) dX0_speed_73 (fun V_10 H locs hV_11 hw => ?_)
          have hp_12 : V_10 (g 0 15) = some (.inl (D.2.1, 8, .inl (upd f_29 (cnt st 27) v))) := by rw [hV_11]; exact xu_s _ _ _
          refine lv_aload_n (pc := 74) hx hb dX0_speed_74 rfl (lv_at hl 0 rfl) ?_
          refine lv_dup (pc := 75) hx hb dX0_speed_75 rfl ?_
          have hp_13 : V_10 (g 0 0) = some (.inr (0, [.int (st 0 0), .int (st 0 42), .ref (g 0 2), .ref (g 0 3), .int (nI (cnt st 12)), .ref (g 0 5), .ref (g 0 6), .int b7, .long b8, .int b9, .int (st 0 14), .ref (g 0 11), .int (nI (cnt st 24)), .int (st 0 25), .ref (g 0 14), .ref (g 0 15), .int (nI (cnt st 27)), .ref (g 0 17), .ref (g 0 18), .ref (g 0 19)])) := by rw [hV_11, xu_n (hR.ne (i := 0) (j := 0) (i' := 0) (j' := 15) (Or.inl ⟨rfl, by simp⟩) (Or.inl ⟨rfl, by simp⟩) (by decide) (by decide))]; exact hp_8
          refine x_rd (pc := 76) (v := .int (nI (cnt st 27))) E hw.1 16 hp_13 (C := RX0) (T := TX0) (N := 20) rfl in_X0 (Nat.le_of_ble_eq_true rfl) q129 (fun _ h => h) rfl dX0_speed_76 ?_
          refine lv_iconst (pc := 79) (v := 1) hx hb dX0_speed_79 (by decide) ?_
          refine li_addN (pc := 80) (a := cnt st 27) (b := 1) hx hb dX0_speed_80 ?_
          refine x_put1 (pc := 81) (v := .int (nI ((cnt st 27) + 1))) E hw 16 hp_13 (C := RX0) (T := TX0) (N := 20) rfl in_X0 tyX0 tyX0_ok (Nat.le_of_ble_eq_true rfl) q129 (fun _ h => h) rfl (tyX0_ok 16 (Nat.le_of_ble_eq_true rfl)) rfl rfl (Nat.le_of_ble_eq_true rfl) (fun j hj hne => Or.inl (nmX0 j hj 16 (Nat.le_of_ble_eq_true rfl) hne)) dX0_speed_81 (fun V_14 H locs hV_15 hw => ?_)
          replace hV_15 : V_14 = xu V_10 (g 0 0) (.inr (0, [.int (st 0 0), .int (st 0 42), .ref (g 0 2), .ref (g 0 3), .int (nI (cnt st 12)), .ref (g 0 5), .ref (g 0 6), .int b7, .long b8, .int b9, .int (st 0 14), .ref (g 0 11), .int (nI (cnt st 24)), .int (st 0 25), .ref (g 0 14), .ref (g 0 15), .int (nI ((cnt st 27) + 1)), .ref (g 0 17), .ref (g 0 18), .ref (g 0 19)])) := hV_15
          have hp_16 : V_14 (g 0 0) = some (.inr (0, [.int (st 0 0), .int (st 0 42), .ref (g 0 2), .ref (g 0 3), .int (nI (cnt st 12)), .ref (g 0 5), .ref (g 0 6), .int b7, .long b8, .int b9, .int (st 0 14), .ref (g 0 11), .int (nI (cnt st 24)), .int (st 0 25), .ref (g 0 14), .ref (g 0 15), .int (nI ((cnt st 27) + 1)), .ref (g 0 17), .ref (g 0 18), .ref (g 0 19)])) := by rw [hV_15]; exact xu_s _ _ _
          refine lv_aload_n (pc := 84) hx hb dX0_speed_84 rfl (lv_at hl 0 rfl) ?_
          refine x_rd (pc := 85) (v := .int (nI ((cnt st 27) + 1))) E hw.1 16 hp_16 (C := RX0) (T := TX0) (N := 20) rfl in_X0 (Nat.le_of_ble_eq_true rfl) q129 (fun _ h => h) rfl dX0_speed_85 ?_
          have hp_17 : V_10 (g 0 14) = some (.inl (D.2.1, 8, .inl (upd f_28 (cnt st 27) d))) := by rw [hV_11, xu_n (hR.ne (i := 0) (j := 14) (i' := 0) (j' := 15) (Or.inl ⟨rfl, by simp⟩) (Or.inl ⟨rfl, by simp⟩) (by decide) (by decide))]; exact hp_7
          have hp_18 : V_14 (g 0 14) = some (.inl (D.2.1, 8, .inl (upd f_28 (cnt st 27) d))) := by rw [hV_15, xu_n (hR.ne (i := 0) (j := 14) (i' := 0) (j' := 0) (Or.inl ⟨rfl, by simp⟩) (Or.inl ⟨rfl, by simp⟩) (by decide) (by decide))]; exact hp_17
          have hp_19 : V_14 (g 0 15) = some (.inl (D.2.1, 8, .inl (upd f_29 (cnt st 27) v))) := by rw [hV_15, xu_n (hR.ne (i := 0) (j := 15) (i' := 0) (j' := 0) (Or.inl ⟨rfl, by simp⟩) (Or.inl ⟨rfl, by simp⟩) (by decide) (by decide))]; exact hp_12
          have hfin : xR D (mu (mu (mu st 28 (cnt st 27) d) 29 (cnt st 27) v) 0 27 (nI (cnt st 27 + 1))) g V_14 := by
            refine hR.w0 hI [(0, 14), (0, 15), (0, 0)] (fun i j h => h) ?_ ?_ ?_ ?_ (hR.2.2)
            · intro r hr
              simp only [List.mem_cons, List.not_mem_nil, or_false] at hr
              rcases hr with rfl | rfl | rfl
              · exact ⟨by unfold xVal; dsimp only; omega, fun h => absurd (show (0 : Nat) = 1 from h) (by decide)⟩
              · exact ⟨by unfold xVal; dsimp only; omega, fun h => absurd (show (0 : Nat) = 1 from h) (by decide)⟩
              · exact ⟨by unfold xVal; dsimp only; omega, fun h => absurd (show (0 : Nat) = 1 from h) (by decide)⟩
            · intro b hb
              rw [hV_15, xu_n (hb (0, 0) (by simp)), hV_11, xu_n (hb (0, 15) (by simp)), hV_6, xu_n (hb (0, 14) (by simp))]
            · intro i j k q hv hn hq
              simp only [List.mem_cons, List.not_mem_nil, or_false, Prod.mk.injEq, not_or] at hn
              rw [mu_k (fun e => by obtain ⟨e1, e2⟩ := e; subst e1; subst e2; exact absurd (xd0_27 hq) (by omega))]
              rw [mu_k (fun e => by obtain ⟨e1, e2⟩ := e; subst e1; exact absurd (xd_29 hq) (by omega))]
              rw [mu_k (fun e => by obtain ⟨e1, e2⟩ := e; subst e1; exact absurd (xd_28 hq) (by omega))]
            · intro r hr hv
              simp only [List.mem_cons, List.not_mem_nil, or_false] at hr
              rcases hr with rfl | rfl | rfl
              · exact ⟨_, hp_18, ⟨_, rfl, fun i hi => by by_cases h : i = cnt st 27; (rw [h]; simp [upd, mu]); (simp [upd, mu, h]; exact hf_28 i hi)⟩⟩
              · exact ⟨_, hp_19, ⟨_, rfl, fun i hi => by by_cases h : i = cnt st 27; (rw [h]; simp [upd, mu]); (simp [upd, mu, h]; exact hf_29 i hi)⟩⟩
              · exact ⟨_, hp_16, ⟨b7, b8, b9, by unfold xXE; simp only [← cnt_n hI.B.1, ← cnt_n hI.L.1, ← cnt_n hI.Sp.1]; rfl⟩⟩
          exact x_iret E hr hlk hw dX0_speed_88 ⟨by simp only [sp_speed, if_pos c_1, if_neg c_2, if_pos c_3, if_neg c_4], by simp only [sp_speed, if_pos c_1, if_neg c_2, if_pos c_3, if_neg c_4]; exact xF.of hfin⟩
        · have hlt : cnt st 27 = 8 := by omega
          refine lv_bipush (pc := 51) (v := (-4)) hx hb dX0_speed_51 (by decide) ?_
          exact x_iret E hr hlk hw dX0_speed_53 ⟨by simp only [sp_speed, if_pos c_1, if_neg c_2, if_pos c_3, if_pos c_4], by simp only [sp_speed, if_pos c_1, if_neg c_2, if_pos c_3, if_pos c_4]; exact xF.of hR⟩
      · refine lv_bipush (pc := 39) (v := (-2)) hx hb dX0_speed_39 (by decide) ?_
        exact x_iret E hr hlk hw dX0_speed_41 ⟨by simp only [sp_speed, if_pos c_1, if_neg c_2, if_neg c_3], by simp only [sp_speed, if_pos c_1, if_neg c_2, if_neg c_3]; exact xF.of hR⟩
    · refine lv_bipush (pc := 22) (v := (-3)) hx hb dX0_speed_22 (by decide) ?_
      exact x_iret E hr hlk hw dX0_speed_24 ⟨by simp only [sp_speed, if_pos c_1, if_pos c_2], by simp only [sp_speed, if_pos c_1, if_pos c_2]; exact xF.of hR⟩
  · refine lv_bipush (pc := 12) (v := (-2)) hx hb dX0_speed_12 (by decide) ?_
    exact x_iret E hr hlk hw dX0_speed_14 ⟨by simp only [sp_speed, if_neg c_1], by simp only [sp_speed, if_neg c_1]; exact xF.of hR⟩
set_option maxHeartbeats 4000000 in
set_option maxRecDepth 100000 in
theorem xtX0_allow (l : Launch) (D : xD) (A : Nat → Prop) (V : xV) (st : mS) (g : xG)  (a : Int32) (c_ : Int32) (t : Int32) (hI : mI st) (hR : xR D st g V)  : Met l yX0_allow (ws_ yX0_allow cX0_allow 5 (some .int)) (xRm 6 0 0) (xP D A V [.ref (g 0 0), .int a, .int c_, .int t]) (xQ D A (fun ρ V' => ρ = some (.int (sp_allow st a c_ t).1) ∧ xF D g ((sp_allow st a c_ t).2) V')) 0 0 A := by
  refine x_headW (own := RX0) (As := [.ref (g 0 0), .int a, .int c_, .int t]) (bytes := cX0_allow) (maxL := 5) (ret := (some .int)) (by decide) rfl (Nat.le_of_ble_eq_true rfl) ?_
  intro p e s m below meth c E hml hr hlk hin2 hw ls hl
  have hx := E.1
  have hb := E.2.1
  have hts := E.2.2.1
  have hown := E.2.2.2.1
  have hl : lv_has ls 5 [(0, .ref (g 0 0)), (1, .int a), (2, .int c_), (3, .int t)] := hl
  have h16 := hI.r16
  have h10 := hI.l10
  have hv8 := hI.v8
  have hc8 := hI.c8
  have hk8 := hI.k8
  have hb8 := hI.b8
  refine lv_aload_n (pc := 0) hx hb dX0_allow_0 rfl (lv_at hl 0 rfl) ?_
  refine lv_iload_n (pc := 1) hx hb dX0_allow_1 rfl (lv_at hl 1 rfl) ?_
  obtain ⟨b7, b8, b9, hpx⟩ := hR.px hI
  replace hpx : V (g 0 0) = some (.inr (0, [.int (st 0 0), .int (st 0 42), .ref (g 0 2), .ref (g 0 3), .int (nI (cnt st 12)), .ref (g 0 5), .ref (g 0 6), .int b7, .long b8, .int b9, .int (st 0 14), .ref (g 0 11), .int (nI (cnt st 24)), .int (st 0 25), .ref (g 0 14), .ref (g 0 15), .int (nI (cnt st 27)), .ref (g 0 17), .ref (g 0 18), .ref (g 0 19)])) := hpx
  refine x_goR (x_runV (pc := 2) (As := [.int a]) (rest := []) E hml hl.1 hw.2 hw.1 hpx (C := RX0) (T := TX0) (N := 20) rfl (xtX0_isCar l D A V st g a hI hR) q719 q721 qs15 q48 q722 hdX0_isCar ⟨Nat.le_of_ble_eq_true rfl, Nat.le_of_ble_eq_true rfl⟩ rfl rfl rfl (Nat.le_of_ble_eq_true rfl) dX0_allow_2 ⟨Nat.le_of_ble_eq_true rfl, Nat.le_of_ble_eq_true rfl⟩) ?_
  refine lb_eq (pc := 5) (tgt := 16) hx hb dX0_allow_5 (by decide) (fun c_1 => ?_) (fun c_1 => ?_)
  · refine lv_iconst (pc := 16) (v := (-1)) hx hb dX0_allow_16 (by decide) ?_
    exact x_iret E hr hlk hw dX0_allow_17 ⟨by simp only [sp_allow, if_neg c_1], by simp only [sp_allow, if_neg c_1]; exact xF.of hR⟩
  · have han := clamp_n (x := a) c_1.1
    have hai := clamp_i (x := a) c_1.1
    have hal : a.toNatClampNeg < cnt st 35 := by have := cnt_i (st := st) (k := 35) (by omega); omega
    refine lv_aload_n (pc := 8) hx hb dX0_allow_8 rfl (lv_at hl 0 rfl) ?_
    refine lv_iload_n (pc := 9) hx hb dX0_allow_9 rfl (lv_at hl 2 rfl) ?_
    refine x_goR (x_runV (pc := 10) (As := [.int c_]) (rest := []) E hml hl.1 hw.2 hw.1 hpx (C := RX0) (T := TX0) (N := 20) rfl (xtX0_isControl l D A V st g c_ hI hR) q626 q628 qs14 q48 q629 hdX0_isControl ⟨Nat.le_of_ble_eq_true rfl, Nat.le_of_ble_eq_true rfl⟩ rfl rfl rfl (Nat.le_of_ble_eq_true rfl) dX0_allow_10 ⟨Nat.le_of_ble_eq_true rfl, Nat.le_of_ble_eq_true rfl⟩) ?_
    refine lb_ne (pc := 13) (tgt := 18) hx hb dX0_allow_13 (by decide) (fun c_2 => ?_) (fun c_2 => ?_)
    · have hc_n := clamp_n (x := c_) c_2.1
      have hc_i := clamp_i (x := c_) c_2.1
      have hc_l : c_.toNatClampNeg < cnt st 30 := by have := cnt_i (st := st) (k := 30) (by omega); omega
      refine lv_iload_n (pc := 18) hx hb dX0_allow_18 rfl (lv_at hl 3 rfl) ?_
      refine lv_i2l (pc := 19) (v := t.toInt64) hx hb dX0_allow_19 rfl ?_
      refine lv_lconst (pc := 20) (v := 0) hx hb dX0_allow_20 (by decide) ?_
      refine lv_ldc2 (pc := 21) hx hb hown (hts _ q554) dX0_allow_21 ?_
      refine x_goR (x_runS (pc := 24) (As := [.long t.toInt64, .long 0, .long 3000]) (rest := []) E hml hl.1 (x_preE) (xtX0_isInB l t 0 3000 0 3000 rfl rfl) q184 q185 q48 q186 hdX0_isIn.2 ⟨Nat.le_of_ble_eq_true rfl, Nat.le_of_ble_eq_true rfl⟩ rfl rfl rfl (Nat.le_of_ble_eq_true rfl) dX0_allow_24 ⟨Nat.le_of_ble_eq_true rfl, Nat.le_of_ble_eq_true rfl⟩) ?_
      refine lb_ne (pc := 27) (tgt := 33) hx hb dX0_allow_27 (by decide) (fun c_3 => ?_) (fun c_3 => ?_)
      · refine lv_aload_n (pc := 33) hx hb dX0_allow_33 rfl (lv_at hl 0 rfl) ?_
        refine x_rd (pc := 34) (v := .ref (g 0 18)) E hw.1 18 hpx (C := RX0) (T := TX0) (N := 20) rfl in_X0 (Nat.le_of_ble_eq_true rfl) q132 (fun _ h => h) rfl dX0_allow_34 ?_
        refine lv_iload_n (pc := 37) hx hb dX0_allow_37 rfl (lv_at hl 1 rfl) ?_
        refine li_top (v' := .int (nI a.toNatClampNeg)) (congrArg Value.int han) ?_
        obtain ⟨mc_18, hpl_18⟩ := hR.p18
        obtain ⟨cap_2, f1_2, hpe_2, hcap_2, hle_2, hel_2⟩ := hR.pe (j := 2) (by decide)
        replace hle_2 : cnt st 35 ≤ cap_2 := hle_2
        replace hel_2 : ∀ q, q < cnt st 35 → f1_2 q = some (g 4 q) := hel_2
        refine x_goR5 (x_runF (pc := 38) (As := [.int (nI a.toNatClampNeg)]) (rest := []) E hml hl.1 hw.2 hw.1 hpl_18 (C := RJ2) (T := TJ2) (N := 3) rfl (xtJ2_get l D A V (g 0 18) (g 1 2) (cnt st 35) cap_2 (g 4 a.toNatClampNeg) a.toNatClampNeg mc_18 f1_2 hpl_18 hpe_2 (show a.toNatClampNeg < cnt st 35 from (by omega)) hle_2 (by have := hcap_2; omega) (hel_2 _ (by omega))) E.2.2.2.2.1.2.1.2.2.2.2.2.2.1 q337 q340 q342 q51 q344 hdF_get ⟨Nat.le_of_ble_eq_true rfl, Nat.le_of_ble_eq_true rfl⟩ rfl rfl rfl (Nat.le_of_ble_eq_true rfl) dX0_allow_38 ⟨Nat.le_of_ble_eq_true rfl, Nat.le_of_ble_eq_true rfl⟩) ?_
        have hpc_4 := hR.car (j := a.toNatClampNeg) (by omega)
        refine x_castCa (pc := 43) E hw.1 hpc_4 q538 dX0_allow_43 ?_
        refine x_rdCaN (pc := 46) (v := .ref (g 7 a.toNatClampNeg)) E hw.1 hpc_4 4 (Nat.le_of_ble_eq_true rfl) q662 rfl dX0_allow_46 ?_
        refine lv_iload_n (pc := 49) hx hb dX0_allow_49 rfl (lv_at hl 2 rfl) ?_
        refine li_top (v' := .int (nI c_.toNatClampNeg)) (congrArg Value.int hc_n) ?_
        obtain ⟨v_5f, v_5p, v_5h⟩ := hR.clm (j := a.toNatClampNeg) (by omega)
        refine x_ildN (pc := 50) (v := (st 41 (8 * a.toNatClampNeg + c_.toNatClampNeg))) E hw.1 (c_.toNatClampNeg) v_5p (show c_.toNatClampNeg < 8 from (by omega)) (Nat.le_of_ble_eq_true rfl) (v_5h _ (by omega)) dX0_allow_50 ?_
        refine lv_istore (pc := 51) (lv' := [(4, .int (st 41 (8 * a.toNatClampNeg + c_.toNatClampNeg))), (0, .ref (g 0 0)), (1, .int a), (2, .int c_), (3, .int t)]) hx hb dX0_allow_51 hl (by decide) rfl (fun ls hl => ?_)
        refine lv_aload_n (pc := 53) hx hb dX0_allow_53 rfl (lv_at hl 1 rfl) ?_
        refine x_rd (pc := 54) (v := .ref (g 0 18)) E hw.1 18 hpx (C := RX0) (T := TX0) (N := 20) rfl in_X0 (Nat.le_of_ble_eq_true rfl) q132 (fun _ h => h) rfl dX0_allow_54 ?_
        refine lv_iload_n (pc := 57) hx hb dX0_allow_57 rfl (lv_at hl 2 rfl) ?_
        refine li_top (v' := .int (nI a.toNatClampNeg)) (congrArg Value.int han) ?_
        refine x_goR5 (x_runF (pc := 58) (As := [.int (nI a.toNatClampNeg)]) (rest := []) E hml hl.1 hw.2 hw.1 hpl_18 (C := RJ2) (T := TJ2) (N := 3) rfl (xtJ2_get l D A V (g 0 18) (g 1 2) (cnt st 35) cap_2 (g 4 a.toNatClampNeg) a.toNatClampNeg mc_18 f1_2 hpl_18 hpe_2 (show a.toNatClampNeg < cnt st 35 from (by omega)) hle_2 (by have := hcap_2; omega) (hel_2 _ (by omega))) E.2.2.2.2.1.2.1.2.2.2.2.2.2.1 q337 q340 q342 q51 q344 hdF_get ⟨Nat.le_of_ble_eq_true rfl, Nat.le_of_ble_eq_true rfl⟩ rfl rfl rfl (Nat.le_of_ble_eq_true rfl) dX0_allow_58 ⟨Nat.le_of_ble_eq_true rfl, Nat.le_of_ble_eq_true rfl⟩) ?_
        refine x_castCa (pc := 63) E hw.1 hpc_4 q538 dX0_allow_63 ?_
        refine x_rdCaN (pc := 66) (v := .ref (g 7 a.toNatClampNeg)) E hw.1 hpc_4 4 (Nat.le_of_ble_eq_true rfl) q662 rfl dX0_allow_66 ?_
        refine lv_iload_n (pc := 69) hx hb dX0_allow_69 rfl (lv_at hl 3 rfl) ?_
        refine li_top (v' := .int (nI c_.toNatClampNeg)) (congrArg Value.int hc_n) ?_
        refine lv_iload_n (pc := 70) hx hb dX0_allow_70 rfl (lv_at hl 4 rfl) ?_
        refine x_istN (pc := 71) (x := t) E hw (c_.toNatClampNeg) v_5p (show c_.toNatClampNeg < 8 from (by omega)) (Nat.le_of_ble_eq_true rfl) dX0_allow_71 (fun V_6 H locs hV_7 hw => ?_)
        have hp_8 : V_6 (g 7 a.toNatClampNeg) = some (.inl (D.2.1, 8, .inl (upd v_5f c_.toNatClampNeg t))) := by rw [hV_7]; exact xu_s _ _ _
        refine lv_iload (pc := 72) hx hb dX0_allow_72 (lv_at hl 0 rfl) ?_
        have hfin : xR D (mu st 41 (8 * a.toNatClampNeg + c_.toNatClampNeg) t) g V_6 := by
          refine hR.w0 hI [(7, a.toNatClampNeg)] (fun i j h => h) ?_ ?_ ?_ ?_ (hR.2.2)
          · intro r hr
            simp only [List.mem_cons, List.not_mem_nil, or_false] at hr
            rcases hr with rfl
            · exact ⟨by unfold xVal; dsimp only; omega, fun h => absurd (show (7 : Nat) = 1 from h) (by decide)⟩
          · intro b hb
            rw [hV_7, xu_n (hb (7, a.toNatClampNeg) (by simp))]
          · intro i j k q hv hn hq
            simp only [List.mem_cons, List.not_mem_nil, or_false, Prod.mk.injEq, not_or] at hn
            rw [mu_k (fun e => by obtain ⟨e1, e2⟩ := e; subst e1; exact absurd (xd_41 hq) (by omega))]
          · intro r hr hv
            simp only [List.mem_cons, List.not_mem_nil, or_false] at hr
            rcases hr with rfl
            · exact ⟨_, hp_8, ⟨_, rfl, fun i hi => by by_cases h : i = c_.toNatClampNeg; (rw [h]; simp [upd, mu]); (have h2 : ¬ 8 * a.toNatClampNeg + i = 8 * a.toNatClampNeg + c_.toNatClampNeg := (by omega); simp [upd, mu, h, h2]; exact v_5h i hi)⟩⟩
        exact x_iret E hr hlk hw dX0_allow_74 ⟨by simp only [sp_allow, if_pos c_1, if_pos c_2, if_pos c_3], by simp only [sp_allow, if_pos c_1, if_pos c_2, if_pos c_3]; exact xF.of hfin⟩
      · refine lv_bipush (pc := 30) (v := (-2)) hx hb dX0_allow_30 (by decide) ?_
        exact x_iret E hr hlk hw dX0_allow_32 ⟨by simp only [sp_allow, if_pos c_1, if_pos c_2, if_neg c_3], by simp only [sp_allow, if_pos c_1, if_pos c_2, if_neg c_3]; exact xF.of hR⟩
    · refine lv_iconst (pc := 16) (v := (-1)) hx hb dX0_allow_16 (by decide) ?_
      exact x_iret E hr hlk hw dX0_allow_17 ⟨by simp only [sp_allow, if_pos c_1, if_neg c_2], by simp only [sp_allow, if_pos c_1, if_neg c_2]; exact xF.of hR⟩
theorem xts_keep (kd : Int32) (st : mS) : xkeep st (xts kd st) := by
  unfold xts
  split
  · exact xkeep.tr1 st 1
  · split
    · exact (xkeep.tr1 st 2).tr (xkeep.tr1 _ 1)
    · exact (xkeep.tr1 st 3).tr (xkeep.tr1 _ 1)
theorem tell_eq {st : mS} (hI : mI st) {j : Nat} (hj : j < cnt st 1) : xtl (st 5 j) (st 4 j) (st 7 j) = (if st 5 j = 1 then 1 + st 4 j else if st 7 j = 0 then st 4 j else -st 4 j) ∧ xts (st 5 j) st = tr1 (if 0 < (st 5 j).toInt then if st 5 j = 1 then tr1 st 2 else tr1 st 3 else st) 1 := by
  have h := hI.2.1 j (by have := hI.r16; omega)
  rcases (h.2.2.2.2 hj).1 with e | e | e
  · have e7 := h.2.2.1 (by rw [e]; decide)
    rw [e, e7]
    exact ⟨rfl, rfl⟩
  · rw [e]; exact ⟨rfl, rfl⟩
  · rw [e]; exact ⟨rfl, rfl⟩
theorem xXF_e {st st' : mS} {g : xG} {b7 : Int32} {b8 : Int64} {b9 : Int32} (hI : mI st) (h1 : st' 0 12 = st 0 12) (h2 : st' 0 24 = st 0 24) (h3 : st' 0 27 = st 0 27) : xXF st' g b7 b8 b9 = xXE st' g b7 b8 b9 := by
  unfold xXE xXF
  rw [← cnt_n (st := st') (k := 12) (by rw [h1]; exact hI.B.1), ← cnt_n (st := st') (k := 24) (by rw [h2]; exact hI.L.1), ← cnt_n (st := st') (k := 27) (by rw [h3]; exact hI.Sp.1)]
theorem xts_x {st : mS} {g : xG} {b7 : Int32} {b8 : Int64} {b9 : Int32} (hI : mI st) (kd : Int32) : xXF (xts kd st) g b7 b8 b9 = xXE (xts kd st) g b7 b8 b9 := by
  refine xXF_e hI ?_ ?_ ?_ <;> (unfold xts; split; rfl; split <;> rfl)
set_option maxHeartbeats 4000000 in
set_option maxRecDepth 100000 in
theorem xtX0_tell (l : Launch) (D : xD) (A : Nat → Prop) (V : xV) (st : mS) (g : xG)  (r : Int32) (hI : mI st) (hR : xR D st g V)  : Met l yX0_tell (ws_ yX0_tell cX0_tell 2 (some .int)) (xRm 6 0 0) (xP D A V [.ref (g 0 0), .int r]) (xQ D A (fun ρ V' => ρ = some (.int (sp_tell st r).1) ∧ xF D g ((sp_tell st r).2) V')) 0 0 A := by
  refine x_headW (own := RX0) (As := [.ref (g 0 0), .int r]) (bytes := cX0_tell) (maxL := 2) (ret := (some .int)) (by decide) rfl (Nat.le_of_ble_eq_true rfl) ?_
  intro p e s m below meth c E hml hr hlk hin2 hw ls hl
  have hx := E.1
  have hb := E.2.1
  have hts := E.2.2.1
  have hown := E.2.2.2.1
  have hl : lv_has ls 2 [(0, .ref (g 0 0)), (1, .int r)] := hl
  have h16 := hI.r16
  have h10 := hI.l10
  have hv8 := hI.v8
  have hc8 := hI.c8
  have hk8 := hI.k8
  have hb8 := hI.b8
  refine lv_aload_n (pc := 0) hx hb dX0_tell_0 rfl (lv_at hl 0 rfl) ?_
  refine lv_iload_n (pc := 1) hx hb dX0_tell_1 rfl (lv_at hl 1 rfl) ?_
  obtain ⟨b7, b8, b9, hpx⟩ := hR.px hI
  replace hpx : V (g 0 0) = some (.inr (0, [.int (st 0 0), .int (st 0 42), .ref (g 0 2), .ref (g 0 3), .int (nI (cnt st 12)), .ref (g 0 5), .ref (g 0 6), .int b7, .long b8, .int b9, .int (st 0 14), .ref (g 0 11), .int (nI (cnt st 24)), .int (st 0 25), .ref (g 0 14), .ref (g 0 15), .int (nI (cnt st 27)), .ref (g 0 17), .ref (g 0 18), .ref (g 0 19)])) := hpx
  refine x_goR (x_runV (pc := 2) (As := [.int r]) (rest := []) E hml hl.1 hw.2 hw.1 hpx (C := RX0) (T := TX0) (N := 20) rfl (xtX0_isRoad l D A V st g r hI hR) q332 q334 qs3 q48 q335 hdX0_isRoad ⟨Nat.le_of_ble_eq_true rfl, Nat.le_of_ble_eq_true rfl⟩ rfl rfl rfl (Nat.le_of_ble_eq_true rfl) dX0_tell_2 ⟨Nat.le_of_ble_eq_true rfl, Nat.le_of_ble_eq_true rfl⟩) ?_
  refine lb_eq (pc := 5) (tgt := 27) hx hb dX0_tell_5 (by decide) (fun c_1 => ?_) (fun c_1 => ?_)
  · refine lv_iconst (pc := 27) (v := (-1)) hx hb dX0_tell_27 (by decide) ?_
    exact x_iret E hr hlk hw dX0_tell_28 ⟨by simp only [sp_tell, if_neg c_1], by simp only [sp_tell, if_neg c_1]; exact xF.of hR⟩
  · have hrn := clamp_n (x := r) c_1.1
    have hri := clamp_i (x := r) c_1.1
    have hrl : r.toNatClampNeg < cnt st 1 := by have := cnt_i (st := st) (k := 1) (by omega); omega
    refine lv_aload_n (pc := 8) hx hb dX0_tell_8 rfl (lv_at hl 0 rfl) ?_
    refine x_rd (pc := 9) (v := .ref (g 0 2)) E hw.1 2 hpx (C := RX0) (T := TX0) (N := 20) rfl in_X0 (Nat.le_of_ble_eq_true rfl) q115 (fun _ h => h) rfl dX0_tell_9 ?_
    refine lv_iload_n (pc := 12) hx hb dX0_tell_12 rfl (lv_at hl 1 rfl) ?_
    refine li_top (v' := .int (nI r.toNatClampNeg)) (congrArg Value.int hrn) ?_
    obtain ⟨mc_2, hpl_2⟩ := hR.p2
    obtain ⟨cap_0, f1_0, hpe_0, hcap_0, hle_0, hel_0⟩ := hR.pe (j := 0) (by decide)
    replace hle_0 : cnt st 1 ≤ cap_0 := hle_0
    replace hel_0 : ∀ q, q < cnt st 1 → f1_0 q = some (g 2 q) := hel_0
    refine x_goR5 (x_runF (pc := 13) (As := [.int (nI r.toNatClampNeg)]) (rest := []) E hml hl.1 hw.2 hw.1 hpl_2 (C := RJ2) (T := TJ2) (N := 3) rfl (xtJ2_get l D A V (g 0 2) (g 1 0) (cnt st 1) cap_0 (g 2 r.toNatClampNeg) r.toNatClampNeg mc_2 f1_0 hpl_2 hpe_0 (show r.toNatClampNeg < cnt st 1 from (by omega)) hle_0 (by have := hcap_0; omega) (hel_0 _ (by omega))) E.2.2.2.2.1.2.1.2.2.2.2.2.2.1 q337 q340 q342 q51 q344 hdF_get ⟨Nat.le_of_ble_eq_true rfl, Nat.le_of_ble_eq_true rfl⟩ rfl rfl rfl (Nat.le_of_ble_eq_true rfl) dX0_tell_13 ⟨Nat.le_of_ble_eq_true rfl, Nat.le_of_ble_eq_true rfl⟩) ?_
    have hpr_2 := hR.road (j := r.toNatClampNeg) (by omega)
    refine x_castRo (pc := 18) E hw.1 hpr_2 q199 dX0_tell_18 ?_
    refine x_cRo_tell (pc := 21) (rest := []) g E hw hpr_2 st hpx dX0_tell_21 ⟨Nat.le_of_ble_eq_true rfl, Nat.le_of_ble_eq_true rfl⟩ ⟨Nat.le_of_ble_eq_true rfl, Nat.le_of_ble_eq_true rfl⟩ (Nat.le_of_ble_eq_true rfl) hml hl (fun V_3 H locs hV_4 hw => ?_)
    refine lv_goto (pc := 24) (tgt := 28) hx hb dX0_tell_24 (by decide) ?_
    exact x_iret E hr hlk hw dX0_tell_28 ⟨by simp only [sp_tell, if_pos c_1]; rw [(tell_eq hI (by omega)).1], by simp only [sp_tell, if_pos c_1]; rw [← (tell_eq hI (j := r.toNatClampNeg) (by omega)).2]; exact xF.of (hR.x0 hI (xts_keep _ _) (by rw [hV_4, xts_x hI]))⟩
theorem lose_val {st : mS} {k i j : Nat} (h : xVal (mu st 8 k (-1)) i j) : xVal st i j := by
  unfold xVal at h ⊢
  rcases h with h | h | h | h | h | ⟨h1, h2, h3⟩
  · exact Or.inl h
  · exact Or.inr (Or.inl h)
  · exact Or.inr (Or.inr (Or.inl h))
  · exact Or.inr (Or.inr (Or.inr (Or.inl h)))
  · exact Or.inr (Or.inr (Or.inr (Or.inr (Or.inl h))))
  · refine Or.inr (Or.inr (Or.inr (Or.inr (Or.inr ⟨h1, h2, ?_⟩))))
    by_cases hj : j = k
    · rw [hj, mu_s] at h3; exact absurd h3 (by decide)
    · rw [mu_c hj] at h3; exact h3
theorem lose_no {st : mS} {K i j k q : Nat} (hv : xVal (mu st 8 K (-1)) i j) (hn : ¬ (i = 0 ∧ j = 19)) (hq : xDep i j k q) : ¬ (k = 8 ∧ q = K) := fun ⟨e1, e2⟩ => by
  subst e1
  subst e2
  rcases xd_8 hq with ⟨h1, h2⟩ | ⟨h1, h2, -⟩
  · subst h1
    subst h2
    rcases hv with ⟨h, -⟩ | ⟨h, -⟩ | ⟨h, -⟩ | ⟨h, -⟩ | ⟨h, -⟩ | ⟨-, -, h⟩
    · omega
    · omega
    · omega
    · omega
    · omega
    · rw [mu_s] at h; exact absurd h (by decide)
  · exact hn ⟨h1, h2⟩
set_option maxHeartbeats 4000000 in
set_option maxRecDepth 100000 in
theorem xtX0_lose (l : Launch) (D : xD) (A : Nat → Prop) (V : xV) (st : mS) (g : xG)  (k : Int32) (hI : mI st) (hR : xR D st g V)  : Met l yX0_lose (ws_ yX0_lose cX0_lose 3 (some .int)) (xRm 3 0 0) (xP D A V [.ref (g 0 0), .int k]) (xQ D A (fun ρ V' => ρ = some (.int (sp_lose st k).1) ∧ xF D g ((sp_lose st k).2) V')) 0 0 A := by
  refine x_headW (own := RX0) (As := [.ref (g 0 0), .int k]) (bytes := cX0_lose) (maxL := 3) (ret := (some .int)) (by decide) rfl (Nat.le_of_ble_eq_true rfl) ?_
  intro p e s m below meth c E hml hr hlk hin2 hw ls hl
  have hx := E.1
  have hb := E.2.1
  have hts := E.2.2.1
  have hown := E.2.2.2.1
  have hl : lv_has ls 3 [(0, .ref (g 0 0)), (1, .int k)] := hl
  have h16 := hI.r16
  have h10 := hI.l10
  have hv8 := hI.v8
  have hc8 := hI.c8
  have hk8 := hI.k8
  have hb8 := hI.b8
  refine lv_iload_n (pc := 0) hx hb dX0_lose_0 rfl (lv_at hl 1 rfl) ?_
  refine x_goR (x_runS (pc := 1) (As := [.int k]) (rest := []) E hml hl.1 (x_preE) (xtX0_isSheet l k) q849 q850 q48 q851 hdX0_isSheet.2 ⟨Nat.le_of_ble_eq_true rfl, Nat.le_of_ble_eq_true rfl⟩ rfl rfl rfl (Nat.le_of_ble_eq_true rfl) dX0_lose_1 ⟨Nat.le_of_ble_eq_true rfl, Nat.le_of_ble_eq_true rfl⟩) ?_
  refine lb_ne (pc := 4) (tgt := 9) hx hb dX0_lose_4 (by decide) (fun c_1 => ?_) (fun c_1 => ?_)
  · have hkn := clamp_n (x := k) c_1.1
    have hki := clamp_i (x := k) c_1.1
    refine lv_aload_n (pc := 9) hx hb dX0_lose_9 rfl (lv_at hl 0 rfl) ?_
    obtain ⟨b7, b8, b9, hpx⟩ := hR.px hI
    replace hpx : V (g 0 0) = some (.inr (0, [.int (st 0 0), .int (st 0 42), .ref (g 0 2), .ref (g 0 3), .int (nI (cnt st 12)), .ref (g 0 5), .ref (g 0 6), .int b7, .long b8, .int b9, .int (st 0 14), .ref (g 0 11), .int (nI (cnt st 24)), .int (st 0 25), .ref (g 0 14), .ref (g 0 15), .int (nI (cnt st 27)), .ref (g 0 17), .ref (g 0 18), .ref (g 0 19)])) := hpx
    refine x_rd (pc := 10) (v := .ref (g 0 19)) E hw.1 19 hpx (C := RX0) (T := TX0) (N := 20) rfl in_X0 (Nat.le_of_ble_eq_true rfl) q133 (fun _ h => h) rfl dX0_lose_10 ?_
    refine lv_iload_n (pc := 13) hx hb dX0_lose_13 rfl (lv_at hl 1 rfl) ?_
    refine li_top (v' := .int (nI k.toNatClampNeg)) (congrArg Value.int hkn) ?_
    obtain ⟨f_19, hpa_19, hs_19⟩ := hR.p19
    by_cases hs_2 : (st 8 k.toNatClampNeg).toInt < 0
    · refine x_oldN (pc := 14) (v := .null) E hw.1 (k.toNatClampNeg) hpa_19 (show k.toNatClampNeg < 4 from (by omega)) (Nat.le_of_ble_eq_true rfl) (by rw [hs_19 _ (by omega), if_pos hs_2]; rfl) dX0_lose_14 ?_
      refine lv_ifnonnullN (pc := 15) hx hb dX0_lose_15 ?_
      refine lv_iconst (pc := 18) (v := 0) hx hb dX0_lose_18 (by decide) ?_
      refine lv_goto (pc := 19) (tgt := 23) hx hb dX0_lose_19 (by decide) ?_
      refine lv_istore_n (pc := 23) (lv' := [(2, .int 0), (0, .ref (g 0 0)), (1, .int k)]) hx hb dX0_lose_23 rfl hl (by decide) rfl (fun ls hl => ?_)
      refine lv_aload_n (pc := 24) hx hb dX0_lose_24 rfl (lv_at hl 1 rfl) ?_
      refine x_rd (pc := 25) (v := .ref (g 0 19)) E hw.1 19 hpx (C := RX0) (T := TX0) (N := 20) rfl in_X0 (Nat.le_of_ble_eq_true rfl) q133 (fun _ h => h) rfl dX0_lose_25 ?_
      refine lv_iload_n (pc := 28) hx hb dX0_lose_28 rfl (lv_at hl 2 rfl) ?_
      refine li_top (v' := .int (nI k.toNatClampNeg)) (congrArg Value.int hkn) ?_
      refine lv_null (pc := 29) hx hb dX0_lose_29 ?_
      refine x_ostN1 (pc := 30) E hw (k.toNatClampNeg) hpa_19 (show k.toNatClampNeg < 4 from (by omega)) (Nat.le_of_ble_eq_true rfl) dX0_lose_30 (fun V_3 H locs hV_4 hw => ?_)
      have hp_5 : V_3 (g 0 19) = some (.inl (D.2.2.2.2, 4, .inr (.inr (.inr (.inr (va_up f_19 k.toNatClampNeg none)))))) := by rw [hV_4]; exact xu_s _ _ _
      refine lv_iload_n (pc := 31) hx hb dX0_lose_31 rfl (lv_at hl 0 rfl) ?_
      have hfin : xR D (mu st 8 k.toNatClampNeg (-1)) g V_3 := by
        refine hR.w0 hI [(0, 19)] (fun i j h => lose_val h) ?_ ?_ ?_ ?_ (hR.2.2)
        · intro r hr
          simp only [List.mem_cons, List.not_mem_nil, or_false] at hr
          rcases hr with rfl
          · exact ⟨by unfold xVal; dsimp only; omega, fun h => absurd (show (0 : Nat) = 1 from h) (by decide)⟩
        · intro b hb
          rw [hV_4, xu_n (hb (0, 19) (by simp))]
        · intro i j k q hv hn hq
          simp only [List.mem_cons, List.not_mem_nil, or_false, Prod.mk.injEq, not_or] at hn
          rw [mu_k (lose_no hv hn hq)]
        · intro r hr hv
          simp only [List.mem_cons, List.not_mem_nil, or_false] at hr
          rcases hr with rfl
          · exact ⟨_, hp_5, ⟨_, rfl, fun q hq => by by_cases h : q = k.toNatClampNeg; (rw [h]; simp [va_up, mu]); (simp only [va_up, mu, h, if_false, and_false]; exact hs_19 q hq)⟩⟩
      exact x_iret E hr hlk hw dX0_lose_32 ⟨by simp only [sp_lose, if_pos c_1, if_pos hs_2], by simp only [sp_lose, if_pos c_1, if_pos hs_2]; exact xF.of hfin⟩
    · refine x_oldN (pc := 14) (v := .ref (g 8 k.toNatClampNeg)) E hw.1 (k.toNatClampNeg) hpa_19 (show k.toNatClampNeg < 4 from (by omega)) (Nat.le_of_ble_eq_true rfl) (by rw [hs_19 _ (by omega), if_neg hs_2]; rfl) dX0_lose_14 ?_
      refine lv_ifnonnull (pc := 15) (tgt := 22) hx hb dX0_lose_15 (by decide) ?_
      refine lv_iconst (pc := 22) (v := 1) hx hb dX0_lose_22 (by decide) ?_
      refine lv_istore_n (pc := 23) (lv' := [(2, .int 1), (0, .ref (g 0 0)), (1, .int k)]) hx hb dX0_lose_23 rfl hl (by decide) rfl (fun ls hl => ?_)
      refine lv_aload_n (pc := 24) hx hb dX0_lose_24 rfl (lv_at hl 1 rfl) ?_
      refine x_rd (pc := 25) (v := .ref (g 0 19)) E hw.1 19 hpx (C := RX0) (T := TX0) (N := 20) rfl in_X0 (Nat.le_of_ble_eq_true rfl) q133 (fun _ h => h) rfl dX0_lose_25 ?_
      refine lv_iload_n (pc := 28) hx hb dX0_lose_28 rfl (lv_at hl 2 rfl) ?_
      refine li_top (v' := .int (nI k.toNatClampNeg)) (congrArg Value.int hkn) ?_
      refine lv_null (pc := 29) hx hb dX0_lose_29 ?_
      refine x_ostN1 (pc := 30) E hw (k.toNatClampNeg) hpa_19 (show k.toNatClampNeg < 4 from (by omega)) (Nat.le_of_ble_eq_true rfl) dX0_lose_30 (fun V_6 H locs hV_7 hw => ?_)
      have hp_8 : V_6 (g 0 19) = some (.inl (D.2.2.2.2, 4, .inr (.inr (.inr (.inr (va_up f_19 k.toNatClampNeg none)))))) := by rw [hV_7]; exact xu_s _ _ _
      refine lv_iload_n (pc := 31) hx hb dX0_lose_31 rfl (lv_at hl 0 rfl) ?_
      have hfin : xR D (mu st 8 k.toNatClampNeg (-1)) g V_6 := by
        refine hR.w0 hI [(0, 19)] (fun i j h => lose_val h) ?_ ?_ ?_ ?_ (hR.2.2)
        · intro r hr
          simp only [List.mem_cons, List.not_mem_nil, or_false] at hr
          rcases hr with rfl
          · exact ⟨by unfold xVal; dsimp only; omega, fun h => absurd (show (0 : Nat) = 1 from h) (by decide)⟩
        · intro b hb
          rw [hV_7, xu_n (hb (0, 19) (by simp))]
        · intro i j k q hv hn hq
          simp only [List.mem_cons, List.not_mem_nil, or_false, Prod.mk.injEq, not_or] at hn
          rw [mu_k (lose_no hv hn hq)]
        · intro r hr hv
          simp only [List.mem_cons, List.not_mem_nil, or_false] at hr
          rcases hr with rfl
          · exact ⟨_, hp_8, ⟨_, rfl, fun q hq => by by_cases h : q = k.toNatClampNeg; (rw [h]; simp [va_up, mu]); (simp only [va_up, mu, h, if_false, and_false]; exact hs_19 q hq)⟩⟩
      exact x_iret E hr hlk hw dX0_lose_32 ⟨by simp only [sp_lose, if_pos c_1, if_neg hs_2], by simp only [sp_lose, if_pos c_1, if_neg hs_2]; exact xF.of hfin⟩
  · refine lv_iconst (pc := 7) (v := (-1)) hx hb dX0_lose_7 (by decide) ?_
    exact x_iret E hr hlk hw dX0_lose_8 ⟨by simp only [sp_lose, if_neg c_1], by simp only [sp_lose, if_neg c_1]; exact xF.of hR⟩
