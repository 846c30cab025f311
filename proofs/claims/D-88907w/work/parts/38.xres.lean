/-! RegularRally: error, points, results -/
theorem pos39 {st : mS} (hI : mI st) {q : Nat} (hq : q < 64) : 0 < (st 39 q).toInt ↔ ¬ st 39 q = 0 := by
  have h := (hI.2.2.2.1.2 q hq).1.1
  constructor
  · intro k e; rw [e] at k; exact absurd k (by decide)
  · intro k
    rcases Int.lt_or_eq_of_le h with r | r
    · exact r
    · exact absurd (Int32.toInt_inj.mp (by rw [← r]; rfl)) k
set_option maxHeartbeats 4000000 in
set_option maxRecDepth 100000 in
theorem xtX0_error (l : Launch) (D : xD) (A : Nat → Prop) (V : xV) (st : mS) (g : xG)  (a : Int32) (c_ : Int32) (hI : mI st) (hR : xR D st g V)  : Met l yX0_error (ws_ yX0_error cX0_error 3 (some .long)) (xRm 8 0 0) (xP D A V [.ref (g 0 0), .int a, .int c_]) (k2_QcV (.long (sp_error st a c_))) 0 0 (fun _ => False) := by
  refine x_headR (own := RX0) (As := [.ref (g 0 0), .int a, .int c_]) (bytes := cX0_error) (maxL := 3) (ret := (some .long)) (by decide) rfl (Nat.le_of_ble_eq_true rfl) ?_
  intro p e s m below meth c E hml hr hlk hw0 ls hl
  have hw : xWd D A s V s.heap [] := ⟨hw0, va_S.rf⟩
  have hx := E.1
  have hb := E.2.1
  have hts := E.2.2.1
  have hown := E.2.2.2.1
  have hl : lv_has ls 3 [(0, .ref (g 0 0)), (1, .int a), (2, .int c_)] := hl
  have h16 := hI.r16
  have h10 := hI.l10
  have hv8 := hI.v8
  have hc8 := hI.c8
  have hk8 := hI.k8
  have hb8 := hI.b8
  refine lv_aload_n (pc := 0) hx hb dX0_error_0 rfl (lv_at hl 0 rfl) ?_
  refine lv_iload_n (pc := 1) hx hb dX0_error_1 rfl (lv_at hl 1 rfl) ?_
  obtain ⟨b7, b8, b9, hpx⟩ := hR.px hI
  replace hpx : V (g 0 0) = some (.inr (0, [.int (st 0 0), .int (st 0 42), .ref (g 0 2), .ref (g 0 3), .int (nI (cnt st 12)), .ref (g 0 5), .ref (g 0 6), .int b7, .long b8, .int b9, .int (st 0 14), .ref (g 0 11), .int (nI (cnt st 24)), .int (st 0 25), .ref (g 0 14), .ref (g 0 15), .int (nI (cnt st 27)), .ref (g 0 17), .ref (g 0 18), .ref (g 0 19)])) := hpx
  refine x_goR (x_runV (pc := 2) (As := [.int a]) (rest := []) E hml hl.1 hw.2 hw.1 hpx (C := RX0) (T := TX0) (N := 20) rfl (xtX0_isCar l D A V st g a hI hR) q719 q721 qs15 q48 q722 hdX0_isCar ⟨Nat.le_of_ble_eq_true rfl, Nat.le_of_ble_eq_true rfl⟩ rfl rfl rfl (Nat.le_of_ble_eq_true rfl) dX0_error_2 ⟨Nat.le_of_ble_eq_true rfl, Nat.le_of_ble_eq_true rfl⟩) ?_
  refine lb_eq (pc := 5) (tgt := 63) hx hb dX0_error_5 (by decide) (fun c_1 => ?_) (fun c_1 => ?_)
  · refine lv_ldc2 (pc := 63) hx hb hown (hts _ q577) dX0_error_63 ?_
    exact m_lretS hx hb hr hlk dX0_error_66 (by simp only [sp_error, if_neg c_1])
  · have han := clamp_n (x := a) c_1.1
    have hai := clamp_i (x := a) c_1.1
    have hal : a.toNatClampNeg < cnt st 35 := by have := cnt_i (st := st) (k := 35) (by omega); omega
    refine lv_aload_n (pc := 8) hx hb dX0_error_8 rfl (lv_at hl 0 rfl) ?_
    refine lv_iload_n (pc := 9) hx hb dX0_error_9 rfl (lv_at hl 2 rfl) ?_
    refine x_goR (x_runV (pc := 10) (As := [.int c_]) (rest := []) E hml hl.1 hw.2 hw.1 hpx (C := RX0) (T := TX0) (N := 20) rfl (xtX0_isControl l D A V st g c_ hI hR) q626 q628 qs14 q48 q629 hdX0_isControl ⟨Nat.le_of_ble_eq_true rfl, Nat.le_of_ble_eq_true rfl⟩ rfl rfl rfl (Nat.le_of_ble_eq_true rfl) dX0_error_10 ⟨Nat.le_of_ble_eq_true rfl, Nat.le_of_ble_eq_true rfl⟩) ?_
    refine lb_eq (pc := 13) (tgt := 63) hx hb dX0_error_13 (by decide) (fun c_2 => ?_) (fun c_2 => ?_)
    · refine lv_ldc2 (pc := 63) hx hb hown (hts _ q577) dX0_error_63 ?_
      exact m_lretS hx hb hr hlk dX0_error_66 (by simp only [sp_error, if_pos c_1, if_neg c_2])
    · have hc_n := clamp_n (x := c_) c_2.1
      have hc_i := clamp_i (x := c_) c_2.1
      have hc_l : c_.toNatClampNeg < cnt st 30 := by have := cnt_i (st := st) (k := 30) (by omega); omega
      refine lv_aload_n (pc := 16) hx hb dX0_error_16 rfl (lv_at hl 0 rfl) ?_
      refine x_rd (pc := 17) (v := .ref (g 0 18)) E hw.1 18 hpx (C := RX0) (T := TX0) (N := 20) rfl in_X0 (Nat.le_of_ble_eq_true rfl) q132 (fun _ h => h) rfl dX0_error_17 ?_
      refine lv_iload_n (pc := 20) hx hb dX0_error_20 rfl (lv_at hl 1 rfl) ?_
      refine li_top (v' := .int (nI a.toNatClampNeg)) (congrArg Value.int han) ?_
      obtain ⟨mc_18, hpl_18⟩ := hR.p18
      obtain ⟨cap_2, f1_2, hpe_2, hcap_2, hle_2, hel_2⟩ := hR.pe (j := 2) (by decide)
      replace hle_2 : cnt st 35 ≤ cap_2 := hle_2
      replace hel_2 : ∀ q, q < cnt st 35 → f1_2 q = some (g 4 q) := hel_2
      refine x_goR5 (x_runF (pc := 21) (As := [.int (nI a.toNatClampNeg)]) (rest := []) E hml hl.1 hw.2 hw.1 hpl_18 (C := RJ2) (T := TJ2) (N := 3) rfl (xtJ2_get l D A V (g 0 18) (g 1 2) (cnt st 35) cap_2 (g 4 a.toNatClampNeg) a.toNatClampNeg mc_18 f1_2 hpl_18 hpe_2 (show a.toNatClampNeg < cnt st 35 from (by omega)) hle_2 (by have := hcap_2; omega) (hel_2 _ (by omega))) E.2.2.2.2.1.2.1.2.2.2.2.2.2.1 q337 q340 q342 q51 q344 hdF_get ⟨Nat.le_of_ble_eq_true rfl, Nat.le_of_ble_eq_true rfl⟩ rfl rfl rfl (Nat.le_of_ble_eq_true rfl) dX0_error_21 ⟨Nat.le_of_ble_eq_true rfl, Nat.le_of_ble_eq_true rfl⟩) ?_
      have hpc_3 := hR.car (j := a.toNatClampNeg) (by omega)
      refine x_castCa (pc := 26) E hw.1 hpc_3 q538 dX0_error_26 ?_
      refine lv_iload_n (pc := 29) hx hb dX0_error_29 rfl (lv_at hl 2 rfl) ?_
      refine li_top (v' := .int (nI c_.toNatClampNeg)) (congrArg Value.int hc_n) ?_
      refine x_cCa_isClocked (pc := 30) (rest := []) st g a.toNatClampNeg E hw hI hR (by omega) (by omega) dX0_error_30 ⟨Nat.le_of_ble_eq_true rfl, Nat.le_of_ble_eq_true rfl⟩ ⟨Nat.le_of_ble_eq_true rfl, Nat.le_of_ble_eq_true rfl⟩ (Nat.le_of_ble_eq_true rfl) hml hl ?_
      refine lb_eq (pc := 33) (tgt := 63) hx hb dX0_error_33 (by decide) (fun c_4 => ?_) (fun c_4 => ?_)
      · refine lv_ldc2 (pc := 63) hx hb hown (hts _ q577) dX0_error_63 ?_
        exact m_lretS hx hb hr hlk dX0_error_66 (by simp only [sp_error, if_pos c_1, if_pos c_2, if_pos (Classical.not_not.mp c_4)])
      · refine lv_aload_n (pc := 36) hx hb dX0_error_36 rfl (lv_at hl 0 rfl) ?_
        refine x_goR (x_runV (pc := 37) (As := []) (rest := []) E hml hl.1 hw.2 hw.1 hpx (C := RX0) (T := TX0) (N := 20) rfl (xtX0_isTimed l D A V st g hI hR) q559 q561 qs10 q48 q562 hdX0_isTimed ⟨Nat.le_of_ble_eq_true rfl, Nat.le_of_ble_eq_true rfl⟩ rfl rfl rfl (Nat.le_of_ble_eq_true rfl) dX0_error_37 ⟨Nat.le_of_ble_eq_true rfl, Nat.le_of_ble_eq_true rfl⟩) ?_
        refine lb_eq (pc := 40) (tgt := 63) hx hb dX0_error_40 (by decide) (fun c_5 => ?_) (fun c_5 => ?_)
        · refine lv_ldc2 (pc := 63) hx hb hown (hts _ q577) dX0_error_63 ?_
          exact m_lretS hx hb hr hlk dX0_error_66 (by simp only [sp_error, if_pos c_1, if_pos c_2, if_neg c_4, if_neg c_5])
        · refine lv_aload_n (pc := 43) hx hb dX0_error_43 rfl (lv_at hl 0 rfl) ?_
          refine x_rd (pc := 44) (v := .ref (g 0 18)) E hw.1 18 hpx (C := RX0) (T := TX0) (N := 20) rfl in_X0 (Nat.le_of_ble_eq_true rfl) q132 (fun _ h => h) rfl dX0_error_44 ?_
          refine lv_iload_n (pc := 47) hx hb dX0_error_47 rfl (lv_at hl 1 rfl) ?_
          refine li_top (v' := .int (nI a.toNatClampNeg)) (congrArg Value.int han) ?_
          refine x_goR5 (x_runF (pc := 48) (As := [.int (nI a.toNatClampNeg)]) (rest := []) E hml hl.1 hw.2 hw.1 hpl_18 (C := RJ2) (T := TJ2) (N := 3) rfl (xtJ2_get l D A V (g 0 18) (g 1 2) (cnt st 35) cap_2 (g 4 a.toNatClampNeg) a.toNatClampNeg mc_18 f1_2 hpl_18 hpe_2 (show a.toNatClampNeg < cnt st 35 from (by omega)) hle_2 (by have := hcap_2; omega) (hel_2 _ (by omega))) E.2.2.2.2.1.2.1.2.2.2.2.2.2.1 q337 q340 q342 q51 q344 hdF_get ⟨Nat.le_of_ble_eq_true rfl, Nat.le_of_ble_eq_true rfl⟩ rfl rfl rfl (Nat.le_of_ble_eq_true rfl) dX0_error_48 ⟨Nat.le_of_ble_eq_true rfl, Nat.le_of_ble_eq_true rfl⟩) ?_
          refine x_castCa (pc := 53) E hw.1 hpc_3 q538 dX0_error_53 ?_
          refine lv_iload_n (pc := 56) hx hb dX0_error_56 rfl (lv_at hl 2 rfl) ?_
          refine li_top (v' := .int (nI c_.toNatClampNeg)) (congrArg Value.int hc_n) ?_
          refine x_cCa_error (pc := 57) (rest := []) st g a.toNatClampNeg E hw hI hR (by omega) (by omega) c_5 dX0_error_57 ⟨Nat.le_of_ble_eq_true rfl, Nat.le_of_ble_eq_true rfl⟩ ⟨Nat.le_of_ble_eq_true rfl, Nat.le_of_ble_eq_true rfl⟩ (Nat.le_of_ble_eq_true rfl) hml hl ?_
          refine lv_goto (pc := 60) (tgt := 66) hx hb dX0_error_60 (by decide) ?_
          exact m_lretS hx hb hr hlk dX0_error_66 (by simp only [sp_error, if_pos c_1, if_pos c_2, if_neg c_4, if_pos c_5])
set_option maxHeartbeats 4000000 in
set_option maxRecDepth 100000 in
theorem xtX0_points (l : Launch) (D : xD) (A : Nat → Prop) (V : xV) (st : mS) (g : xG)  (a : Int32) (c_ : Int32) (hI : mI st) (hR : xR D st g V)  : Met l yX0_points (ws_ yX0_points cX0_points 3 (some .int)) (xRm 9 0 0) (xP D A V [.ref (g 0 0), .int a, .int c_]) (k2_QcV (.int (sp_points st a c_))) 0 0 (fun _ => False) := by
  refine x_headR (own := RX0) (As := [.ref (g 0 0), .int a, .int c_]) (bytes := cX0_points) (maxL := 3) (ret := (some .int)) (by decide) rfl (Nat.le_of_ble_eq_true rfl) ?_
  intro p e s m below meth c E hml hr hlk hw0 ls hl
  have hw : xWd D A s V s.heap [] := ⟨hw0, va_S.rf⟩
  have hx := E.1
  have hb := E.2.1
  have hts := E.2.2.1
  have hown := E.2.2.2.1
  have hl : lv_has ls 3 [(0, .ref (g 0 0)), (1, .int a), (2, .int c_)] := hl
  have h16 := hI.r16
  have h10 := hI.l10
  have hv8 := hI.v8
  have hc8 := hI.c8
  have hk8 := hI.k8
  have hb8 := hI.b8
  refine lv_aload_n (pc := 0) hx hb dX0_points_0 rfl (lv_at hl 0 rfl) ?_
  refine lv_iload_n (pc := 1) hx hb dX0_points_1 rfl (lv_at hl 1 rfl) ?_
  obtain ⟨b7, b8, b9, hpx⟩ := hR.px hI
  replace hpx : V (g 0 0) = some (.inr (0, [.int (st 0 0), .int (st 0 42), .ref (g 0 2), .ref (g 0 3), .int (nI (cnt st 12)), .ref (g 0 5), .ref (g 0 6), .int b7, .long b8, .int b9, .int (st 0 14), .ref (g 0 11), .int (nI (cnt st 24)), .int (st 0 25), .ref (g 0 14), .ref (g 0 15), .int (nI (cnt st 27)), .ref (g 0 17), .ref (g 0 18), .ref (g 0 19)])) := hpx
  refine x_goR (x_runV (pc := 2) (As := [.int a]) (rest := []) E hml hl.1 hw.2 hw.1 hpx (C := RX0) (T := TX0) (N := 20) rfl (xtX0_isCar l D A V st g a hI hR) q719 q721 qs15 q48 q722 hdX0_isCar ⟨Nat.le_of_ble_eq_true rfl, Nat.le_of_ble_eq_true rfl⟩ rfl rfl rfl (Nat.le_of_ble_eq_true rfl) dX0_points_2 ⟨Nat.le_of_ble_eq_true rfl, Nat.le_of_ble_eq_true rfl⟩) ?_
  refine lb_eq (pc := 5) (tgt := 16) hx hb dX0_points_5 (by decide) (fun c_1 => ?_) (fun c_1 => ?_)
  · refine lv_iconst (pc := 16) (v := (-1)) hx hb dX0_points_16 (by decide) ?_
    exact m_iretS hx hb hr hlk dX0_points_17 (by simp only [sp_points, if_neg c_1])
  · have han := clamp_n (x := a) c_1.1
    have hai := clamp_i (x := a) c_1.1
    have hal : a.toNatClampNeg < cnt st 35 := by have := cnt_i (st := st) (k := 35) (by omega); omega
    refine lv_aload_n (pc := 8) hx hb dX0_points_8 rfl (lv_at hl 0 rfl) ?_
    refine lv_iload_n (pc := 9) hx hb dX0_points_9 rfl (lv_at hl 2 rfl) ?_
    refine x_goR (x_runV (pc := 10) (As := [.int c_]) (rest := []) E hml hl.1 hw.2 hw.1 hpx (C := RX0) (T := TX0) (N := 20) rfl (xtX0_isControl l D A V st g c_ hI hR) q626 q628 qs14 q48 q629 hdX0_isControl ⟨Nat.le_of_ble_eq_true rfl, Nat.le_of_ble_eq_true rfl⟩ rfl rfl rfl (Nat.le_of_ble_eq_true rfl) dX0_points_10 ⟨Nat.le_of_ble_eq_true rfl, Nat.le_of_ble_eq_true rfl⟩) ?_
    refine lb_ne (pc := 13) (tgt := 18) hx hb dX0_points_13 (by decide) (fun c_2 => ?_) (fun c_2 => ?_)
    · have hc_n := clamp_n (x := c_) c_2.1
      have hc_i := clamp_i (x := c_) c_2.1
      have hc_l : c_.toNatClampNeg < cnt st 30 := by have := cnt_i (st := st) (k := 30) (by omega); omega
      refine lv_aload_n (pc := 18) hx hb dX0_points_18 rfl (lv_at hl 0 rfl) ?_
      refine x_goR (x_runV (pc := 19) (As := []) (rest := []) E hml hl.1 hw.2 hw.1 hpx (C := RX0) (T := TX0) (N := 20) rfl (xtX0_isTimed l D A V st g hI hR) q559 q561 qs10 q48 q562 hdX0_isTimed ⟨Nat.le_of_ble_eq_true rfl, Nat.le_of_ble_eq_true rfl⟩ rfl rfl rfl (Nat.le_of_ble_eq_true rfl) dX0_points_19 ⟨Nat.le_of_ble_eq_true rfl, Nat.le_of_ble_eq_true rfl⟩) ?_
      refine lb_eq (pc := 22) (tgt := 45) hx hb dX0_points_22 (by decide) (fun c_3 => ?_) (fun c_3 => ?_)
      · refine lv_bipush (pc := 45) (v := (-3)) hx hb dX0_points_45 (by decide) ?_
        exact m_iretS hx hb hr hlk dX0_points_47 (by simp only [sp_points, if_pos c_1, if_pos c_2, if_neg c_3])
      · refine lv_aload_n (pc := 25) hx hb dX0_points_25 rfl (lv_at hl 0 rfl) ?_
        refine x_rd (pc := 26) (v := .ref (g 0 18)) E hw.1 18 hpx (C := RX0) (T := TX0) (N := 20) rfl in_X0 (Nat.le_of_ble_eq_true rfl) q132 (fun _ h => h) rfl dX0_points_26 ?_
        refine lv_iload_n (pc := 29) hx hb dX0_points_29 rfl (lv_at hl 1 rfl) ?_
        refine li_top (v' := .int (nI a.toNatClampNeg)) (congrArg Value.int han) ?_
        obtain ⟨mc_18, hpl_18⟩ := hR.p18
        obtain ⟨cap_2, f1_2, hpe_2, hcap_2, hle_2, hel_2⟩ := hR.pe (j := 2) (by decide)
        replace hle_2 : cnt st 35 ≤ cap_2 := hle_2
        replace hel_2 : ∀ q, q < cnt st 35 → f1_2 q = some (g 4 q) := hel_2
        refine x_goR5 (x_runF (pc := 30) (As := [.int (nI a.toNatClampNeg)]) (rest := []) E hml hl.1 hw.2 hw.1 hpl_18 (C := RJ2) (T := TJ2) (N := 3) rfl (xtJ2_get l D A V (g 0 18) (g 1 2) (cnt st 35) cap_2 (g 4 a.toNatClampNeg) a.toNatClampNeg mc_18 f1_2 hpl_18 hpe_2 (show a.toNatClampNeg < cnt st 35 from (by omega)) hle_2 (by have := hcap_2; omega) (hel_2 _ (by omega))) E.2.2.2.2.1.2.1.2.2.2.2.2.2.1 q337 q340 q342 q51 q344 hdF_get ⟨Nat.le_of_ble_eq_true rfl, Nat.le_of_ble_eq_true rfl⟩ rfl rfl rfl (Nat.le_of_ble_eq_true rfl) dX0_points_30 ⟨Nat.le_of_ble_eq_true rfl, Nat.le_of_ble_eq_true rfl⟩) ?_
        have hpc_4 := hR.car (j := a.toNatClampNeg) (by omega)
        refine x_castCa (pc := 35) E hw.1 hpc_4 q538 dX0_points_35 ?_
        refine lv_iload_n (pc := 38) hx hb dX0_points_38 rfl (lv_at hl 2 rfl) ?_
        refine li_top (v' := .int (nI c_.toNatClampNeg)) (congrArg Value.int hc_n) ?_
        refine x_cCa_points (pc := 39) (rest := []) st g a.toNatClampNeg E hw hI hR (by omega) (by omega) c_3 dX0_points_39 ⟨Nat.le_of_ble_eq_true rfl, Nat.le_of_ble_eq_true rfl⟩ ⟨Nat.le_of_ble_eq_true rfl, Nat.le_of_ble_eq_true rfl⟩ (Nat.le_of_ble_eq_true rfl) hml hl ?_
        refine lv_goto (pc := 42) (tgt := 47) hx hb dX0_points_42 (by decide) ?_
        exact m_iretS hx hb hr hlk dX0_points_47 (by simp only [sp_points, if_pos c_1, if_pos c_2, if_pos c_3])
    · refine lv_iconst (pc := 16) (v := (-1)) hx hb dX0_points_16 (by decide) ?_
      exact m_iretS hx hb hr hlk dX0_points_17 (by simp only [sp_points, if_pos c_1, if_neg c_2])
/-- the control that is next behind z, so far as i -/
def Pnx (st : mS) (z : Int32) (i : Nat) (u : Int32) : Prop := (u = -9 ∧ ∀ k, k < i → st 32 k = 0 → ¬ z.toInt < (st 31 k).toInt) ∨ ∃ j, j < i ∧ u = nI j ∧ st 32 j = 0 ∧ z.toInt < (st 31 j).toInt ∧ ∀ k, k < i → st 32 k = 0 → z.toInt < (st 31 k).toInt → (st 31 j).toInt ≤ (st 31 k).toInt
theorem nI_ne9 {j : Nat} (h : j < 8) : ¬ nI j = (-9 : Int32) := fun e => by
  have q := congrArg Int32.toInt e
  rw [nI_toInt (by omega)] at q
  have e9 : (-9 : Int32).toInt = -9 := rfl
  omega
theorem xnc_P {st : mS} {z : Int32} : ∀ (n i : Nat) (u : Int32), i + n ≤ 8 → Pnx st z i u → Pnx st z (i + n) (xnc st z n i u) := by
  intro n
  induction n with
  | zero => intro i u _ h; exact h
  | succ n ih =>
    intro i u hn h
    simp only [xnc]
    rw [show i + (n + 1) = (i + 1) + n by omega]
    refine ih (i + 1) _ (by omega) ?_
    by_cases h1 : st 32 i = 0
    · rw [if_pos h1]
      by_cases h2 : z.toInt < (st 31 i).toInt
      · rw [if_pos h2]
        rcases h with ⟨rfl, h3⟩ | ⟨j, hj, rfl, h4, h5, h6⟩
        · rw [if_pos rfl]
          refine Or.inr ⟨i, by omega, rfl, h1, h2, fun k hk g1 g2 => ?_⟩
          rcases Nat.lt_or_ge k i with q | q
          · exact absurd g2 (h3 k q g1)
          · rw [show k = i by omega]; exact Int.le_refl _
        · rw [if_neg (nI_ne9 (by omega)), nI_clamp (by omega)]
          by_cases h7 : (st 31 i).toInt < (st 31 j).toInt
          · rw [if_pos h7]
            refine Or.inr ⟨i, by omega, rfl, h1, h2, fun k hk g1 g2 => ?_⟩
            rcases Nat.lt_or_ge k i with q | q
            · have := h6 k q g1 g2; omega
            · rw [show k = i by omega]; exact Int.le_refl _
          · rw [if_neg h7]
            refine Or.inr ⟨j, by omega, rfl, h4, h5, fun k hk g1 g2 => ?_⟩
            rcases Nat.lt_or_ge k i with q | q
            · exact h6 k q g1 g2
            · rw [show k = i by omega]; omega
      · rw [if_neg h2]
        rcases h with ⟨rfl, h3⟩ | ⟨j, hj, rfl, h4, h5, h6⟩
        · refine Or.inl ⟨rfl, fun k hk g1 => ?_⟩
          rcases Nat.lt_or_ge k i with q | q
          · exact h3 k q g1
          · rw [show k = i by omega]; exact h2
        · refine Or.inr ⟨j, by omega, rfl, h4, h5, fun k hk g1 g2 => ?_⟩
          rcases Nat.lt_or_ge k i with q | q
          · exact h6 k q g1 g2
          · rw [show k = i by omega] at g2; exact absurd g2 h2
    · rw [if_neg h1]
      rcases h with ⟨rfl, h3⟩ | ⟨j, hj, rfl, h4, h5, h6⟩
      · refine Or.inl ⟨rfl, fun k hk g1 => ?_⟩
        rcases Nat.lt_or_ge k i with q | q
        · exact h3 k q g1
        · rw [show k = i by omega] at g1; exact absurd g1 h1
      · refine Or.inr ⟨j, by omega, rfl, h4, h5, fun k hk g1 g2 => ?_⟩
        rcases Nat.lt_or_ge k i with q | q
        · exact h6 k q g1 g2
        · rw [show k = i by omega] at g1; exact absurd g1 h1
theorem xnc_all {st : mS} (hI : mI st) (z : Int32) : Pnx st z (cnt st 30) (xnc st z (cnt st 30) 0 (-9)) := by
  have h := xnc_P (st := st) (z := z) (cnt st 30) 0 (-9) (by have := hI.c8; omega) (Or.inl ⟨rfl, fun k hk => absurd hk (Nat.not_lt_zero _)⟩)
  rw [Nat.zero_add] at h
  exact h
theorem xnc_top {st : mS} (hI : mI st) {z : Int32} (hz : 200000 < z.toInt) : xnc st z (cnt st 30) 0 (-9) = -9 := by
  rcases xnc_all hI z with h | ⟨j, hj, -, -, h, -⟩
  · exact h.1
  · have := (hI.2.2.1.2.2.2.2.2 j hj).2.1
    have := hI.2.2.1.2.1
    omega
/-- the first control by place where two cars are unlike, so far as i -/
def Pfs (st : mS) (a b i : Nat) (z : Int32) : Prop := (z.toInt < 0 ∧ ∀ k, k < i → pts st a k = pts st b k) ∨ ∃ j, j < i ∧ z = nI j ∧ ¬ pts st a j = pts st b j ∧ ∀ k, k < i → ¬ pts st a k = pts st b k → (st 31 j).toInt ≤ (st 31 k).toInt
theorem fsu_P {st : mS} {a b : Nat} : ∀ (n i : Nat) (z : Int32), i + n ≤ 8 → Pfs st a b i z → Pfs st a b (i + n) (fsu st a b n i z) := by
  intro n
  induction n with
  | zero => intro i u _ h; exact h
  | succ n ih =>
    intro i u hn h
    simp only [fsu]
    rw [show i + (n + 1) = (i + 1) + n by omega]
    refine ih (i + 1) _ (by omega) ?_
    by_cases h1 : pts st a i = pts st b i
    · rw [if_pos h1]
      rcases h with ⟨h2, h3⟩ | ⟨j, hj, rfl, h4, h6⟩
      · refine Or.inl ⟨h2, fun k hk => ?_⟩
        rcases Nat.lt_or_ge k i with q | q
        · exact h3 k q
        · rw [show k = i by omega]; exact h1
      · refine Or.inr ⟨j, by omega, rfl, h4, fun k hk g1 => ?_⟩
        rcases Nat.lt_or_ge k i with q | q
        · exact h6 k q g1
        · rw [show k = i by omega] at g1; exact absurd h1 g1
    · rw [if_neg h1]
      rcases h with ⟨h2, h3⟩ | ⟨j, hj, rfl, h4, h6⟩
      · rw [if_pos h2]
        refine Or.inr ⟨i, by omega, rfl, h1, fun k hk g1 => ?_⟩
        rcases Nat.lt_or_ge k i with q | q
        · exact absurd (h3 k q) g1
        · rw [show k = i by omega]; exact Int.le_refl _
      · rw [if_neg (by rw [nI_toInt (by omega)]; omega), nI_clamp (by omega)]
        by_cases h7 : (st 31 i).toInt < (st 31 j).toInt
        · rw [if_pos h7]
          refine Or.inr ⟨i, by omega, rfl, h1, fun k hk g1 => ?_⟩
          rcases Nat.lt_or_ge k i with q | q
          · have := h6 k q g1; omega
          · rw [show k = i by omega]; exact Int.le_refl _
        · rw [if_neg h7]
          refine Or.inr ⟨j, by omega, rfl, h4, fun k hk g1 => ?_⟩
          rcases Nat.lt_or_ge k i with q | q
          · exact h6 k q g1
          · rw [show k = i by omega]; omega
theorem fsu_all {st : mS} (hI : mI st) (a b : Nat) : Pfs st a b (cnt st 30) (fsu st a b (cnt st 30) 0 (-1)) := by
  have h := fsu_P (st := st) (a := a) (b := b) (cnt st 30) 0 (-1) (by have := hI.c8; omega) (Or.inl ⟨by decide, fun k hk => absurd hk (Nat.not_lt_zero _)⟩)
  rw [Nat.zero_add] at h
  exact h
theorem pts_st {st : mS} {a b k : Nat} (h : ¬ st 32 k = 0) : pts st a k = pts st b k := by simp only [pts, if_neg h]
/-- no more controls -/
theorem bt2_end {st : mS} (hI : mI st) {a b : Nat} {z : Int32} (hv : ∀ k, k < cnt st 30 → st 32 k = 0 → (st 31 k).toInt ≤ z.toInt → pts st a k = pts st b k) (hc : xnc st z (cnt st 30) 0 (-9) = -9) : bt2 st a b (fsu st a b (cnt st 30) 0 (-1)) ↔ a < b := by
  have c8 := hI.c8
  unfold bt2
  rcases fsu_all hI a b with h | ⟨j, hj, -, h, -⟩
  · rw [if_pos h.1]
  · exfalso
    rcases xnc_all hI z with q | ⟨i, hi, q, -⟩
    · by_cases h1 : st 32 j = 0
      · exact h (hv j hj h1 (by have := q.2 j hj h1; omega))
      · exact h (pts_st h1)
    · rw [hc] at q
      exact nI_ne9 (by omega) q.symm
/-- unlike at the next one -/
theorem bt2_at {st : mS} (hI : mI st) {a b j : Nat} {z : Int32} (hv : ∀ k, k < cnt st 30 → st 32 k = 0 → (st 31 k).toInt ≤ z.toInt → pts st a k = pts st b k) (hj : j < cnt st 30) (hm : ∀ k, k < cnt st 30 → st 32 k = 0 → z.toInt < (st 31 k).toInt → (st 31 j).toInt ≤ (st 31 k).toInt) (hu : ¬ pts st a j = pts st b j) : bt2 st a b (fsu st a b (cnt st 30) 0 (-1)) ↔ (pts st a j).toInt < (pts st b j).toInt := by
  have c8 := hI.c8
  unfold bt2
  rcases fsu_all hI a b with h | ⟨i, hi, e, h, h2⟩
  · exact absurd (h.2 j hj) hu
  · have h3 := h2 j hj hu
    have h32 : st 32 i = 0 := Classical.byContradiction fun q => h (pts_st q)
    have h4 : z.toInt < (st 31 i).toInt := by
      rcases Int.lt_or_le z.toInt (st 31 i).toInt with q | q
      · exact q
      · exact absurd (hv i hi h32 q) h
    have h5 := hm i hi h32 h4
    have h6 : i = j := (hI.2.2.1.2.2.2.2.2 i hi).2.2 j hj (Int32.toInt_inj.mp (by omega))
    rw [e, if_neg (by rw [nI_toInt (by omega)]; omega), nI_clamp (by omega), h6]
theorem bt2_on {st : mS} (hI : mI st) {a b j : Nat} {z : Int32} (hv : ∀ k, k < cnt st 30 → st 32 k = 0 → (st 31 k).toInt ≤ z.toInt → pts st a k = pts st b k) (hj : j < cnt st 30) (hm : ∀ k, k < cnt st 30 → st 32 k = 0 → z.toInt < (st 31 k).toInt → (st 31 j).toInt ≤ (st 31 k).toInt) (hu : pts st a j = pts st b j) : ∀ k, k < cnt st 30 → st 32 k = 0 → (st 31 k).toInt ≤ (st 31 j).toInt → pts st a k = pts st b k := by
  intro k hk h1 h2
  rcases Int.lt_or_le z.toInt (st 31 k).toInt with q | q
  · have h3 := hm k hk h1 q
    have h6 : k = j := (hI.2.2.1.2.2.2.2.2 k hk).2.2 j hj (Int32.toInt_inj.mp (by omega))
    rw [h6]; exact hu
  · exact hv k hk h1 q
set_option maxHeartbeats 4000000 in
set_option maxRecDepth 100000 in
theorem xtX0_isBetter (l : Launch) (D : xD) (A : Nat → Prop) (V : xV) (st : mS) (g : xG)  (a : Nat) (b : Nat) (hI : mI st) (hR : xR D st g V) (ha : a < cnt st 35) (hb9 : b < cnt st 35) (hD : hasD st) : Met l yX0_isBetter (ws_ yX0_isBetter cX0_isBetter 6 (some .boolean)) (xRm 9 0 0) (xP D A V [.ref (g 0 0), .ref (g 4 a), .ref (g 4 b)]) (k2_QcV (.int (bI (btr st a b)))) 0 0 (fun _ => False) := by
  refine x_headR (own := RX0) (As := [.ref (g 0 0), .ref (g 4 a), .ref (g 4 b)]) (bytes := cX0_isBetter) (maxL := 6) (ret := (some .boolean)) (by decide) rfl (Nat.le_of_ble_eq_true rfl) ?_
  intro p e s m below meth c E hml hr hlk hw0 ls hl
  have hw : xWd D A s V s.heap [] := ⟨hw0, va_S.rf⟩
  have hx := E.1
  have hb := E.2.1
  have hts := E.2.2.1
  have hown := E.2.2.2.1
  have hl : lv_has ls 6 [(0, .ref (g 0 0)), (1, .ref (g 4 a)), (2, .ref (g 4 b))] := hl
  have h16 := hI.r16
  have h10 := hI.l10
  have hv8 := hI.v8
  have hc8 := hI.c8
  have hk8 := hI.k8
  have hb8 := hI.b8
  refine lv_aload_n (pc := 0) hx hb dX0_isBetter_0 rfl (lv_at hl 1 rfl) ?_
  have hpc_1 := hR.car (j := a) (by omega)
  refine x_cCa_total (pc := 1) (rest := []) st g a E hw hI hR (by omega) hD dX0_isBetter_1 ⟨Nat.le_of_ble_eq_true rfl, Nat.le_of_ble_eq_true rfl⟩ ⟨Nat.le_of_ble_eq_true rfl, Nat.le_of_ble_eq_true rfl⟩ (Nat.le_of_ble_eq_true rfl) hml hl ?_
  refine lv_istore_n (pc := 4) (lv' := [(3, .int (ttl st a)), (0, .ref (g 0 0)), (1, .ref (g 4 a)), (2, .ref (g 4 b))]) hx hb dX0_isBetter_4 rfl hl (by decide) rfl (fun ls hl => ?_)
  refine lv_aload_n (pc := 5) hx hb dX0_isBetter_5 rfl (lv_at hl 3 rfl) ?_
  have hpc_2 := hR.car (j := b) (by omega)
  refine x_cCa_total (pc := 6) (rest := []) st g b E hw hI hR (by omega) hD dX0_isBetter_6 ⟨Nat.le_of_ble_eq_true rfl, Nat.le_of_ble_eq_true rfl⟩ ⟨Nat.le_of_ble_eq_true rfl, Nat.le_of_ble_eq_true rfl⟩ (Nat.le_of_ble_eq_true rfl) hml hl ?_
  refine lv_istore (pc := 9) (lv' := [(4, .int (ttl st b)), (3, .int (ttl st a)), (0, .ref (g 0 0)), (1, .ref (g 4 a)), (2, .ref (g 4 b))]) hx hb dX0_isBetter_9 hl (by decide) rfl (fun ls hl => ?_)
  refine lv_iload_n (pc := 11) hx hb dX0_isBetter_11 rfl (lv_at hl 1 rfl) ?_
  refine lv_iload (pc := 12) hx hb dX0_isBetter_12 (lv_at hl 0 rfl) ?_
  refine lv_icmp_eq (pc := 14) (tgt := 29) hx hb dX0_isBetter_14 (by decide) (fun c_3 => ?_) (fun c_3 => ?_)
  · refine lv_aload_n (pc := 29) hx hb dX0_isBetter_29 rfl (lv_at hl 2 rfl) ?_
    refine lv_iconst (pc := 30) (v := 0) hx hb dX0_isBetter_30 (by decide) ?_
    obtain ⟨b7, b8, b9, hpx⟩ := hR.px hI
    replace hpx : V (g 0 0) = some (.inr (0, [.int (st 0 0), .int (st 0 42), .ref (g 0 2), .ref (g 0 3), .int (nI (cnt st 12)), .ref (g 0 5), .ref (g 0 6), .int b7, .long b8, .int b9, .int (st 0 14), .ref (g 0 11), .int (nI (cnt st 24)), .int (st 0 25), .ref (g 0 14), .ref (g 0 15), .int (nI (cnt st 27)), .ref (g 0 17), .ref (g 0 18), .ref (g 0 19)])) := hpx
    refine x_goR (x_runV (pc := 31) (As := [.int 0]) (rest := []) E hml hl.1 hw.2 hw.1 hpx (C := RX0) (T := TX0) (N := 20) rfl (xtX0_nextControl l D A V st g 0 hI hR) q826 q828 qs18 q48 q829 hdX0_nextControl ⟨Nat.le_of_ble_eq_true rfl, Nat.le_of_ble_eq_true rfl⟩ rfl rfl rfl (Nat.le_of_ble_eq_true rfl) dX0_isBetter_31 ⟨Nat.le_of_ble_eq_true rfl, Nat.le_of_ble_eq_true rfl⟩) ?_
    refine lv_istore (pc := 34) (lv' := [(5, .int (xnc st 0 (cnt st 30) 0 (-9))), (4, .int (ttl st b)), (3, .int (ttl st a)), (0, .ref (g 0 0)), (1, .ref (g 4 a)), (2, .ref (g 4 b))]) hx hb dX0_isBetter_34 hl (by decide) rfl (fun ls hl => ?_)
    have loop : ∀ (f : Nat) (z : Int32) (u : Int32), 200001 - z.toInt ≤ f → u = xnc st z (cnt st 30) 0 (-9) → (∀ k, k < cnt st 30 → st 32 k = 0 → (st 31 k).toInt ≤ z.toInt → pts st a k = pts st b k) → ∀ ls : Array Slot, lv_has ls 6 [(0, .ref (g 0 0)), (1, .ref (g 4 a)), (2, .ref (g 4 b)), (5, .int u)] → W p l e (xRm 9 0 0) s m ([.ref (g 0 0), .ref (g 4 a), .ref (g 4 b)] : List Value).toArray below meth c s.heap [] 0 0 (MQ below (k2_QcV (.int (bI (bt2 st a b (fsu st a b (cnt st 30) 0 (-1)))))) ([.ref (g 0 0), .ref (g 4 a), .ref (g 4 b)] : List Value).toArray s 0 0 (fun _ => False)) (F0 m 36 ls []) := by
      intro f
      induction f with
      | zero =>
        intro z u hf hu hv ls hl
        refine lv_iload (pc := 36) hx hb dX0_isBetter_36 (lv_at hl 3 rfl) ?_
        refine lv_bipush (pc := 38) (v := (-9)) hx hb dX0_isBetter_38 (by decide) ?_
        refine lv_icmp_eq (pc := 40) (tgt := 105) hx hb dX0_isBetter_40 (by decide) (fun c_4 => ?_) (fun c_4 => absurd (hu.trans (xnc_top hI (by omega))) c_4)
        refine lv_aload_n (pc := 105) hx hb dX0_isBetter_105 rfl (lv_at hl 1 rfl) ?_
        refine x_rdCaN (pc := 106) (v := .int (nI a)) E hw.1 hpc_1 0 (Nat.le_of_ble_eq_true rfl) q657 rfl dX0_isBetter_106 ?_
        refine lv_aload_n (pc := 109) hx hb dX0_isBetter_109 rfl (lv_at hl 2 rfl) ?_
        refine x_rdCaN (pc := 110) (v := .int (nI b)) E hw.1 hpc_2 0 (Nat.le_of_ble_eq_true rfl) q657 rfl dX0_isBetter_110 ?_
        refine li_icmp_geN (pc := 113) (a := a) (b := b) (tgt := 120) hx hb (by omega) (by omega) dX0_isBetter_113 (by decide) (fun c_5 => ?_) (fun c_5 => ?_)
        · refine lv_iconst (pc := 120) (v := 0) hx hb dX0_isBetter_120 (by decide) ?_
          exact m_zretS hx hb hr hlk dX0_isBetter_121 rfl (bI_f (fun q => c_5 ((bt2_end hI hv (hu.symm.trans c_4)).mp q))).symm
        · refine lv_iconst (pc := 116) (v := 1) hx hb dX0_isBetter_116 (by decide) ?_
          refine lv_goto (pc := 117) (tgt := 121) hx hb dX0_isBetter_117 (by decide) ?_
          exact m_zretS hx hb hr hlk dX0_isBetter_121 rfl (bI_t ((bt2_end hI hv (hu.symm.trans c_4)).mpr c_5)).symm
      | succ f ih_loop =>
        intro z u hf hu hv ls hl
        refine lv_iload (pc := 36) hx hb dX0_isBetter_36 (lv_at hl 3 rfl) ?_
        refine lv_bipush (pc := 38) (v := (-9)) hx hb dX0_isBetter_38 (by decide) ?_
        refine lv_icmp_eq (pc := 40) (tgt := 105) hx hb dX0_isBetter_40 (by decide) (fun c_6 => ?_) (fun c_6 => ?_)
        · refine lv_aload_n (pc := 105) hx hb dX0_isBetter_105 rfl (lv_at hl 1 rfl) ?_
          refine x_rdCaN (pc := 106) (v := .int (nI a)) E hw.1 hpc_1 0 (Nat.le_of_ble_eq_true rfl) q657 rfl dX0_isBetter_106 ?_
          refine lv_aload_n (pc := 109) hx hb dX0_isBetter_109 rfl (lv_at hl 2 rfl) ?_
          refine x_rdCaN (pc := 110) (v := .int (nI b)) E hw.1 hpc_2 0 (Nat.le_of_ble_eq_true rfl) q657 rfl dX0_isBetter_110 ?_
          refine li_icmp_geN (pc := 113) (a := a) (b := b) (tgt := 120) hx hb (by omega) (by omega) dX0_isBetter_113 (by decide) (fun c_7 => ?_) (fun c_7 => ?_)
          · refine lv_iconst (pc := 120) (v := 0) hx hb dX0_isBetter_120 (by decide) ?_
            exact m_zretS hx hb hr hlk dX0_isBetter_121 rfl (bI_f (fun q => c_7 ((bt2_end hI hv (hu.symm.trans c_6)).mp q))).symm
          · refine lv_iconst (pc := 116) (v := 1) hx hb dX0_isBetter_116 (by decide) ?_
            refine lv_goto (pc := 117) (tgt := 121) hx hb dX0_isBetter_117 (by decide) ?_
            exact m_zretS hx hb hr hlk dX0_isBetter_121 rfl (bI_t ((bt2_end hI hv (hu.symm.trans c_6)).mpr c_7)).symm
        · obtain ⟨j, hj, hcj, hj1, hj2, hj3⟩ : ∃ j, j < cnt st 30 ∧ u = nI j ∧ st 32 j = 0 ∧ z.toInt < (st 31 j).toInt ∧ ∀ k, k < cnt st 30 → st 32 k = 0 → z.toInt < (st 31 k).toInt → (st 31 j).toInt ≤ (st 31 k).toInt := by
            rcases xnc_all hI z with q | q
            · exact absurd (hu.trans q.1) c_6
            · rw [hu]; exact q
          refine lv_aload_n (pc := 43) hx hb dX0_isBetter_43 rfl (lv_at hl 1 rfl) ?_
          refine lv_iload (pc := 44) hx hb dX0_isBetter_44 (lv_at hl 3 rfl) ?_
          refine li_top (v' := .int (nI j)) (congrArg Value.int hcj) ?_
          refine x_cCa_points (pc := 46) (rest := []) st g a E hw hI hR (by omega) (by omega) hD dX0_isBetter_46 ⟨Nat.le_of_ble_eq_true rfl, Nat.le_of_ble_eq_true rfl⟩ ⟨Nat.le_of_ble_eq_true rfl, Nat.le_of_ble_eq_true rfl⟩ (Nat.le_of_ble_eq_true rfl) hml hl ?_
          refine lv_aload_n (pc := 49) hx hb dX0_isBetter_49 rfl (lv_at hl 2 rfl) ?_
          refine lv_iload (pc := 50) hx hb dX0_isBetter_50 (lv_at hl 3 rfl) ?_
          refine li_top (v' := .int (nI j)) (congrArg Value.int hcj) ?_
          refine x_cCa_points (pc := 52) (rest := [.int (pts st a j)]) st g b E hw hI hR (by omega) (by omega) hD dX0_isBetter_52 ⟨Nat.le_of_ble_eq_true rfl, Nat.le_of_ble_eq_true rfl⟩ ⟨Nat.le_of_ble_eq_true rfl, Nat.le_of_ble_eq_true rfl⟩ (Nat.le_of_ble_eq_true rfl) hml hl ?_
          refine lv_icmp_eq (pc := 55) (tgt := 79) hx hb dX0_isBetter_55 (by decide) (fun c_8 => ?_) (fun c_8 => ?_)
          · refine lv_aload_n (pc := 79) hx hb dX0_isBetter_79 rfl (lv_at hl 0 rfl) ?_
            refine lv_aload_n (pc := 80) hx hb dX0_isBetter_80 rfl (lv_at hl 0 rfl) ?_
            refine x_rd (pc := 81) (v := .ref (g 0 17)) E hw.1 17 hpx (C := RX0) (T := TX0) (N := 20) rfl in_X0 (Nat.le_of_ble_eq_true rfl) q130 (fun _ h => h) rfl dX0_isBetter_81 ?_
            refine lv_iload (pc := 84) hx hb dX0_isBetter_84 (lv_at hl 3 rfl) ?_
            refine li_top (v' := .int (nI j)) (congrArg Value.int hcj) ?_
            obtain ⟨mc_17, hpl_17⟩ := hR.p17
            obtain ⟨cap_1, f1_1, hpe_1, hcap_1, hle_1, hel_1⟩ := hR.pe (j := 1) (by decide)
            replace hle_1 : cnt st 30 ≤ cap_1 := hle_1
            replace hel_1 : ∀ q, q < cnt st 30 → f1_1 q = some (g 3 q) := hel_1
            refine x_goR5 (x_runF (pc := 86) (As := [.int (nI j)]) (rest := [.ref (g 0 0)]) E hml hl.1 hw.2 hw.1 hpl_17 (C := RJ2) (T := TJ2) (N := 3) rfl (xtJ2_get l D A V (g 0 17) (g 1 1) (cnt st 30) cap_1 (g 3 j) j mc_17 f1_1 hpl_17 hpe_1 (show j < cnt st 30 from (by omega)) hle_1 (by have := hcap_1; omega) (hel_1 _ (by omega))) E.2.2.2.2.1.2.1.2.2.2.2.2.2.1 q337 q340 q342 q51 q344 hdF_get ⟨Nat.le_of_ble_eq_true rfl, Nat.le_of_ble_eq_true rfl⟩ rfl rfl rfl (Nat.le_of_ble_eq_true rfl) dX0_isBetter_86 ⟨Nat.le_of_ble_eq_true rfl, Nat.le_of_ble_eq_true rfl⟩) ?_
            obtain ⟨k_9a, k_9b, k_9c, k_9d, k_9h, k_9e⟩ := hR.ctl (j := j) (by omega)
            refine x_castS (pc := 91) E hw.1 k_9h (C := RX6) (T := TX6) (N := 7) rfl q586 dX0_isBetter_91 ?_
            refine x_rdN (pc := 94) (v := .int (st 31 j)) E hw.1 0 k_9h (C := RX6) (T := TX6) (N := 7) rfl in_X6 (Nat.le_of_ble_eq_true rfl) q594 (fun _ h => h) rfl dX0_isBetter_94 ?_
            refine x_goR (x_runV (pc := 97) (As := [.int (st 31 j)]) (rest := []) E hml hl.1 hw.2 hw.1 hpx (C := RX0) (T := TX0) (N := 20) rfl (xtX0_nextControl l D A V st g (st 31 j) hI hR) q826 q828 qs18 q48 q829 hdX0_nextControl ⟨Nat.le_of_ble_eq_true rfl, Nat.le_of_ble_eq_true rfl⟩ rfl rfl rfl (Nat.le_of_ble_eq_true rfl) dX0_isBetter_97 ⟨Nat.le_of_ble_eq_true rfl, Nat.le_of_ble_eq_true rfl⟩) ?_
            refine lv_istore (pc := 100) (lv' := [(5, .int (xnc st (st 31 j) (cnt st 30) 0 (-9))), (0, .ref (g 0 0)), (1, .ref (g 4 a)), (2, .ref (g 4 b))]) hx hb dX0_isBetter_100 hl (by decide) rfl (fun ls hl => ?_)
            refine lv_goto (pc := 102) (tgt := 36) hx hb dX0_isBetter_102 (by decide) ?_
            exact x_toR rfl (ih_loop (st 31 j) (xnc st (st 31 j) (cnt st 30) 0 (-9)) (by omega) rfl (bt2_on hI hv hj hj3 c_8) _ (lv_sub hl [1, 2, 3, 0] rfl))
          · refine lv_aload_n (pc := 58) hx hb dX0_isBetter_58 rfl (lv_at hl 1 rfl) ?_
            refine lv_iload (pc := 59) hx hb dX0_isBetter_59 (lv_at hl 3 rfl) ?_
            refine li_top (v' := .int (nI j)) (congrArg Value.int hcj) ?_
            refine x_cCa_points (pc := 61) (rest := []) st g a E hw hI hR (by omega) (by omega) hD dX0_isBetter_61 ⟨Nat.le_of_ble_eq_true rfl, Nat.le_of_ble_eq_true rfl⟩ ⟨Nat.le_of_ble_eq_true rfl, Nat.le_of_ble_eq_true rfl⟩ (Nat.le_of_ble_eq_true rfl) hml hl ?_
            refine lv_aload_n (pc := 64) hx hb dX0_isBetter_64 rfl (lv_at hl 2 rfl) ?_
            refine lv_iload (pc := 65) hx hb dX0_isBetter_65 (lv_at hl 3 rfl) ?_
            refine li_top (v' := .int (nI j)) (congrArg Value.int hcj) ?_
            refine x_cCa_points (pc := 67) (rest := [.int (pts st a j)]) st g b E hw hI hR (by omega) (by omega) hD dX0_isBetter_67 ⟨Nat.le_of_ble_eq_true rfl, Nat.le_of_ble_eq_true rfl⟩ ⟨Nat.le_of_ble_eq_true rfl, Nat.le_of_ble_eq_true rfl⟩ (Nat.le_of_ble_eq_true rfl) hml hl ?_
            refine li_icmp_ge (pc := 70) (tgt := 77) hx hb dX0_isBetter_70 (by decide) (fun c_10 => ?_) (fun c_10 => ?_)
            · refine lv_iconst (pc := 77) (v := 0) hx hb dX0_isBetter_77 (by decide) ?_
              exact m_zretS hx hb hr hlk dX0_isBetter_78 rfl (bI_f (fun q => c_10 ((bt2_at hI hv hj hj3 c_8).mp q))).symm
            · refine lv_iconst (pc := 73) (v := 1) hx hb dX0_isBetter_73 (by decide) ?_
              refine lv_goto (pc := 74) (tgt := 78) hx hb dX0_isBetter_74 (by decide) ?_
              exact m_zretS hx hb hr hlk dX0_isBetter_78 rfl (bI_t ((bt2_at hI hv hj hj3 c_8).mpr c_10)).symm
    exact x_toR (by rw [bI_c (show btr st a b ↔ bt2 st a b (fsu st a b (cnt st 30) 0 (-1)) by unfold btr; rw [if_pos c_3])]) (loop 200001 0 (xnc st 0 (cnt st 30) 0 (-9)) (by decide) rfl (fun k hk _ h => by have := (hI.2.2.1.2.2.2.2.2 k hk).1; have e0 : (0 : Int32).toInt = 0 := rfl; omega) _ (lv_sub hl [3, 4, 5, 0] rfl))
  · refine lv_iload_n (pc := 17) hx hb dX0_isBetter_17 rfl (lv_at hl 1 rfl) ?_
    refine lv_iload (pc := 18) hx hb dX0_isBetter_18 (lv_at hl 0 rfl) ?_
    refine li_icmp_ge (pc := 20) (tgt := 27) hx hb dX0_isBetter_20 (by decide) (fun c_11 => ?_) (fun c_11 => ?_)
    · refine lv_iconst (pc := 27) (v := 0) hx hb dX0_isBetter_27 (by decide) ?_
      exact m_zretS hx hb hr hlk dX0_isBetter_28 rfl (bI_f (by unfold btr; rw [if_neg c_3]; exact c_11)).symm
    · refine lv_iconst (pc := 23) (v := 1) hx hb dX0_isBetter_23 (by decide) ?_
      refine lv_goto (pc := 24) (tgt := 28) hx hb dX0_isBetter_24 (by decide) ?_
      exact m_zretS hx hb hr hlk dX0_isBetter_28 rfl (bI_t (by unfold btr; rw [if_neg c_3]; exact c_11)).symm
noncomputable def xrk (st : mS) (a : Nat) : Nat → Nat → Int32 → Int32
  | 0, _, y => y
  | n + 1, i, y => xrk st a n (i + 1) (y + (if i = a then 0 else bI (btr st i a)))
theorem xrk_eq {st : mS} {a : Nat} : ∀ (n i : Nat) (y : Int32), xrk st a n i (1 + y) = rnk st a n i y := by
  intro n
  induction n with
  | zero => intro i y; exact Int32.add_comm 1 y
  | succ n ih =>
    intro i y
    simp only [xrk, rnk]
    rw [Int32.add_assoc]
    exact ih (i + 1) _
set_option maxHeartbeats 4000000 in
set_option maxRecDepth 100000 in
theorem xtX0_result (l : Launch) (D : xD) (A : Nat → Prop) (V : xV) (st : mS) (g : xG)  (a : Int32) (w : Int32) (hI : mI st) (hR : xR D st g V)  : Met l yX0_result (ws_ yX0_result cX0_result 7 (some .int)) (xRm 10 0 0) (xP D A V [.ref (g 0 0), .int a, .int w]) (k2_QcV (.int (sp_result st a w))) 0 0 (fun _ => False) := by
  refine x_headR (own := RX0) (As := [.ref (g 0 0), .int a, .int w]) (bytes := cX0_result) (maxL := 7) (ret := (some .int)) (by decide) rfl (Nat.le_of_ble_eq_true rfl) ?_
  intro p e s m below meth c E hml hr hlk hw0 ls hl
  have hw : xWd D A s V s.heap [] := ⟨hw0, va_S.rf⟩
  have hx := E.1
  have hb := E.2.1
  have hts := E.2.2.1
  have hown := E.2.2.2.1
  have hl : lv_has ls 7 [(0, .ref (g 0 0)), (1, .int a), (2, .int w)] := hl
  have h16 := hI.r16
  have h10 := hI.l10
  have hv8 := hI.v8
  have hc8 := hI.c8
  have hk8 := hI.k8
  have hb8 := hI.b8
  refine lv_aload_n (pc := 0) hx hb dX0_result_0 rfl (lv_at hl 0 rfl) ?_
  refine lv_iload_n (pc := 1) hx hb dX0_result_1 rfl (lv_at hl 1 rfl) ?_
  obtain ⟨b7, b8, b9, hpx⟩ := hR.px hI
  replace hpx : V (g 0 0) = some (.inr (0, [.int (st 0 0), .int (st 0 42), .ref (g 0 2), .ref (g 0 3), .int (nI (cnt st 12)), .ref (g 0 5), .ref (g 0 6), .int b7, .long b8, .int b9, .int (st 0 14), .ref (g 0 11), .int (nI (cnt st 24)), .int (st 0 25), .ref (g 0 14), .ref (g 0 15), .int (nI (cnt st 27)), .ref (g 0 17), .ref (g 0 18), .ref (g 0 19)])) := hpx
  refine x_goR (x_runV (pc := 2) (As := [.int a]) (rest := []) E hml hl.1 hw.2 hw.1 hpx (C := RX0) (T := TX0) (N := 20) rfl (xtX0_isCar l D A V st g a hI hR) q719 q721 qs15 q48 q722 hdX0_isCar ⟨Nat.le_of_ble_eq_true rfl, Nat.le_of_ble_eq_true rfl⟩ rfl rfl rfl (Nat.le_of_ble_eq_true rfl) dX0_result_2 ⟨Nat.le_of_ble_eq_true rfl, Nat.le_of_ble_eq_true rfl⟩) ?_
  refine lb_ne (pc := 5) (tgt := 10) hx hb dX0_result_5 (by decide) (fun c_1 => ?_) (fun c_1 => ?_)
  · have han := clamp_n (x := a) c_1.1
    have hai := clamp_i (x := a) c_1.1
    have hal : a.toNatClampNeg < cnt st 35 := by have := cnt_i (st := st) (k := 35) (by omega); omega
    refine lv_iload_n (pc := 10) hx hb dX0_result_10 rfl (lv_at hl 2 rfl) ?_
    refine lv_i2l (pc := 11) (v := w.toInt64) hx hb dX0_result_11 rfl ?_
    refine lv_lconst (pc := 12) (v := 0) hx hb dX0_result_12 (by decide) ?_
    refine lv_ldc2 (pc := 13) hx hb hown (hts _ q813) dX0_result_13 ?_
    refine x_goR (x_runS (pc := 16) (As := [.long w.toInt64, .long 0, .long 3]) (rest := []) E hml hl.1 (x_preE) (xtX0_isInB l w 0 3 0 3 rfl rfl) q184 q185 q48 q186 hdX0_isIn.2 ⟨Nat.le_of_ble_eq_true rfl, Nat.le_of_ble_eq_true rfl⟩ rfl rfl rfl (Nat.le_of_ble_eq_true rfl) dX0_result_16 ⟨Nat.le_of_ble_eq_true rfl, Nat.le_of_ble_eq_true rfl⟩) ?_
    refine lb_ne (pc := 19) (tgt := 25) hx hb dX0_result_19 (by decide) (fun c_2 => ?_) (fun c_2 => ?_)
    · refine lv_aload_n (pc := 25) hx hb dX0_result_25 rfl (lv_at hl 0 rfl) ?_
      refine x_goR (x_runV (pc := 26) (As := []) (rest := []) E hml hl.1 hw.2 hw.1 hpx (C := RX0) (T := TX0) (N := 20) rfl (xtX0_isTimed l D A V st g hI hR) q559 q561 qs10 q48 q562 hdX0_isTimed ⟨Nat.le_of_ble_eq_true rfl, Nat.le_of_ble_eq_true rfl⟩ rfl rfl rfl (Nat.le_of_ble_eq_true rfl) dX0_result_26 ⟨Nat.le_of_ble_eq_true rfl, Nat.le_of_ble_eq_true rfl⟩) ?_
      refine lb_ne (pc := 29) (tgt := 35) hx hb dX0_result_29 (by decide) (fun c_3 => ?_) (fun c_3 => ?_)
      · refine lv_aload_n (pc := 35) hx hb dX0_result_35 rfl (lv_at hl 0 rfl) ?_
        refine x_rd (pc := 36) (v := .ref (g 0 18)) E hw.1 18 hpx (C := RX0) (T := TX0) (N := 20) rfl in_X0 (Nat.le_of_ble_eq_true rfl) q132 (fun _ h => h) rfl dX0_result_36 ?_
        refine lv_iload_n (pc := 39) hx hb dX0_result_39 rfl (lv_at hl 1 rfl) ?_
        refine li_top (v' := .int (nI a.toNatClampNeg)) (congrArg Value.int han) ?_
        obtain ⟨mc_18, hpl_18⟩ := hR.p18
        obtain ⟨cap_2, f1_2, hpe_2, hcap_2, hle_2, hel_2⟩ := hR.pe (j := 2) (by decide)
        replace hle_2 : cnt st 35 ≤ cap_2 := hle_2
        replace hel_2 : ∀ q, q < cnt st 35 → f1_2 q = some (g 4 q) := hel_2
        refine x_goR5 (x_runF (pc := 40) (As := [.int (nI a.toNatClampNeg)]) (rest := []) E hml hl.1 hw.2 hw.1 hpl_18 (C := RJ2) (T := TJ2) (N := 3) rfl (xtJ2_get l D A V (g 0 18) (g 1 2) (cnt st 35) cap_2 (g 4 a.toNatClampNeg) a.toNatClampNeg mc_18 f1_2 hpl_18 hpe_2 (show a.toNatClampNeg < cnt st 35 from (by omega)) hle_2 (by have := hcap_2; omega) (hel_2 _ (by omega))) E.2.2.2.2.1.2.1.2.2.2.2.2.2.1 q337 q340 q342 q51 q344 hdF_get ⟨Nat.le_of_ble_eq_true rfl, Nat.le_of_ble_eq_true rfl⟩ rfl rfl rfl (Nat.le_of_ble_eq_true rfl) dX0_result_40 ⟨Nat.le_of_ble_eq_true rfl, Nat.le_of_ble_eq_true rfl⟩) ?_
        have hpc_4 := hR.car (j := a.toNatClampNeg) (by omega)
        refine x_castCa (pc := 45) E hw.1 hpc_4 q538 dX0_result_45 ?_
        refine lv_astore_n (pc := 48) (lv' := [(3, .ref (g 4 a.toNatClampNeg)), (0, .ref (g 0 0)), (1, .int a), (2, .int w)]) hx hb dX0_result_48 rfl hl (by decide) rfl (fun ls hl => ?_)
        refine lv_iload_n (pc := 49) hx hb dX0_result_49 rfl (lv_at hl 3 rfl) ?_
        refine li_ne (pc := 50) (tgt := 58) hx hb dX0_result_50 (by decide) (fun c_5 => ?_) (fun c_5 => ?_)
        · refine lv_iload_n (pc := 58) hx hb dX0_result_58 rfl (lv_at hl 3 rfl) ?_
          refine lv_iconst (pc := 59) (v := 1) hx hb dX0_result_59 (by decide) ?_
          refine li_icne (pc := 60) (tgt := 67) hx hb dX0_result_60 (by decide) (fun c_6 => ?_) (fun c_6 => ?_)
          · have hw2 : ¬ w.toInt ≤ 1 := by
              have q1 : ¬ w.toInt = 0 := fun q => c_5 (Int32.toInt_inj.mp (by rw [q]; rfl))
              have q2 : ¬ w.toInt = 1 := fun q => c_6 (Int32.toInt_inj.mp (by rw [q]; rfl))
              omega
            refine lv_iconst (pc := 67) (v := 0) hx hb dX0_result_67 (by decide) ?_
            refine lv_istore (pc := 68) (lv' := [(4, .int 0), (3, .ref (g 4 a.toNatClampNeg)), (0, .ref (g 0 0)), (1, .int a), (2, .int w)]) hx hb dX0_result_68 hl (by decide) rfl (fun ls hl => ?_)
            refine lv_iconst (pc := 70) (v := 0) hx hb dX0_result_70 (by decide) ?_
            refine lv_istore (pc := 71) (lv' := [(5, .int 0), (4, .int 0), (3, .ref (g 4 a.toNatClampNeg)), (0, .ref (g 0 0)), (1, .int a), (2, .int w)]) hx hb dX0_result_71 hl (by decide) rfl (fun ls hl => ?_)
            refine lv_iload (pc := 73) hx hb dX0_result_73 (lv_at hl 0 rfl) ?_
            refine lv_aload_n (pc := 75) hx hb dX0_result_75 rfl (lv_at hl 3 rfl) ?_
            refine x_rd (pc := 76) (v := .ref (g 0 18)) E hw.1 18 hpx (C := RX0) (T := TX0) (N := 20) rfl in_X0 (Nat.le_of_ble_eq_true rfl) q132 (fun _ h => h) rfl dX0_result_76 ?_
            refine x_goR5 (x_runF (pc := 79) (As := []) (rest := [.int 0]) E hml hl.1 hw.2 hw.1 hpl_18 (C := RJ2) (T := TJ2) (N := 3) rfl (xtJ2_size l D A V (g 0 18) (g 1 2) (cnt st 35) mc_18 hpl_18) E.2.2.2.2.1.2.1.2.2.2.2.2.1 q190 q194 q196 q51 q198 hdF_size ⟨Nat.le_of_ble_eq_true rfl, Nat.le_of_ble_eq_true rfl⟩ rfl rfl rfl (Nat.le_of_ble_eq_true rfl) dX0_result_79 ⟨Nat.le_of_ble_eq_true rfl, Nat.le_of_ble_eq_true rfl⟩) ?_
            refine li_icmp_geN (pc := 84) (a := 0) (b := cnt st 35) (tgt := 136) hx hb (by omega) (by omega) dX0_result_84 (by decide) (fun c_7 => ?_) (fun c_7 => ?_)
            · refine lv_iconst (pc := 136) (v := 0) hx hb dX0_result_136 (by decide) ?_
              refine lv_istore (pc := 137) (lv' := [(5, .int 0), (4, .int 0), (3, .ref (g 4 a.toNatClampNeg)), (0, .ref (g 0 0)), (1, .int a), (2, .int w)]) hx hb dX0_result_137 hl (by decide) rfl (fun ls hl => ?_)
              have l2 : ∀ (k : Nat) (i : Nat) (y : Int32), i + k = cnt st 30 → ∀ ls : Array Slot, lv_has ls 7 [(0, .ref (g 0 0)), (1, .int a), (2, .int w), (3, .ref (g 4 a.toNatClampNeg)), (4, .int y), (5, .int (nI i))] → W p l e (xRm 10 0 0) s m ([.ref (g 0 0), .int a, .int w] : List Value).toArray below meth c s.heap [] 0 0 (MQ below (k2_QcV (.int (cn2 st a.toNatClampNeg w k i y))) ([.ref (g 0 0), .int a, .int w] : List Value).toArray s 0 0 (fun _ => False)) (F0 m 139 ls []) := by
                intro k
                induction k with
                | zero =>
                  intro i y hi ls hl
                  refine lv_iload (pc := 139) hx hb dX0_result_139 (lv_at hl 5 rfl) ?_
                  refine lv_aload_n (pc := 141) hx hb dX0_result_141 rfl (lv_at hl 0 rfl) ?_
                  refine x_rd (pc := 142) (v := .ref (g 0 17)) E hw.1 17 hpx (C := RX0) (T := TX0) (N := 20) rfl in_X0 (Nat.le_of_ble_eq_true rfl) q130 (fun _ h => h) rfl dX0_result_142 ?_
                  obtain ⟨mc_17, hpl_17⟩ := hR.p17
                  refine x_goR5 (x_runF (pc := 145) (As := []) (rest := [.int (nI i)]) E hml hl.1 hw.2 hw.1 hpl_17 (C := RJ2) (T := TJ2) (N := 3) rfl (xtJ2_size l D A V (g 0 17) (g 1 1) (cnt st 30) mc_17 hpl_17) E.2.2.2.2.1.2.1.2.2.2.2.2.1 q190 q194 q196 q51 q198 hdF_size ⟨Nat.le_of_ble_eq_true rfl, Nat.le_of_ble_eq_true rfl⟩ rfl rfl rfl (Nat.le_of_ble_eq_true rfl) dX0_result_145 ⟨Nat.le_of_ble_eq_true rfl, Nat.le_of_ble_eq_true rfl⟩) ?_
                  refine li_icmp_geN (pc := 150) (a := i) (b := cnt st 30) (tgt := 241) hx hb (by omega) (by omega) dX0_result_150 (by decide) (fun c_8 => ?_) (fun c_8 => absurd c_8 (by omega))
                  refine lv_iload (pc := 241) hx hb dX0_result_241 (lv_at hl 4 rfl) ?_
                  exact m_iretS hx hb hr hlk dX0_result_243 rfl
                | succ k ih_l2 =>
                  intro i y hi ls hl
                  refine lv_iload (pc := 139) hx hb dX0_result_139 (lv_at hl 5 rfl) ?_
                  refine lv_aload_n (pc := 141) hx hb dX0_result_141 rfl (lv_at hl 0 rfl) ?_
                  refine x_rd (pc := 142) (v := .ref (g 0 17)) E hw.1 17 hpx (C := RX0) (T := TX0) (N := 20) rfl in_X0 (Nat.le_of_ble_eq_true rfl) q130 (fun _ h => h) rfl dX0_result_142 ?_
                  obtain ⟨mc_17, hpl_17⟩ := hR.p17
                  refine x_goR5 (x_runF (pc := 145) (As := []) (rest := [.int (nI i)]) E hml hl.1 hw.2 hw.1 hpl_17 (C := RJ2) (T := TJ2) (N := 3) rfl (xtJ2_size l D A V (g 0 17) (g 1 1) (cnt st 30) mc_17 hpl_17) E.2.2.2.2.1.2.1.2.2.2.2.2.1 q190 q194 q196 q51 q198 hdF_size ⟨Nat.le_of_ble_eq_true rfl, Nat.le_of_ble_eq_true rfl⟩ rfl rfl rfl (Nat.le_of_ble_eq_true rfl) dX0_result_145 ⟨Nat.le_of_ble_eq_true rfl, Nat.le_of_ble_eq_true rfl⟩) ?_
                  refine li_icmp_geN (pc := 150) (a := i) (b := cnt st 30) (tgt := 241) hx hb (by omega) (by omega) dX0_result_150 (by decide) (fun c_9 => absurd c_9 (by omega)) (fun c_9 => ?_)
                  refine lv_iload_n (pc := 153) hx hb dX0_result_153 rfl (lv_at hl 2 rfl) ?_
                  refine lv_iconst (pc := 154) (v := 1) hx hb dX0_result_154 (by decide) ?_
                  refine li_icmp_leL (pc := 155) (Y := 1) (tgt := 241) hx hb rfl dX0_result_155 (by decide) (fun c_10 => absurd c_10 (by omega)) (fun c_10 => ?_)
                  refine lv_aload_n (pc := 158) hx hb dX0_result_158 rfl (lv_at hl 0 rfl) ?_
                  refine x_rd (pc := 159) (v := .ref (g 0 17)) E hw.1 17 hpx (C := RX0) (T := TX0) (N := 20) rfl in_X0 (Nat.le_of_ble_eq_true rfl) q130 (fun _ h => h) rfl dX0_result_159 ?_
                  refine lv_iload (pc := 162) hx hb dX0_result_162 (lv_at hl 5 rfl) ?_
                  obtain ⟨cap_1, f1_1, hpe_1, hcap_1, hle_1, hel_1⟩ := hR.pe (j := 1) (by decide)
                  replace hle_1 : cnt st 30 ≤ cap_1 := hle_1
                  replace hel_1 : ∀ q, q < cnt st 30 → f1_1 q = some (g 3 q) := hel_1
                  refine x_goR5 (x_runF (pc := 164) (As := [.int (nI i)]) (rest := []) E hml hl.1 hw.2 hw.1 hpl_17 (C := RJ2) (T := TJ2) (N := 3) rfl (xtJ2_get l D A V (g 0 17) (g 1 1) (cnt st 30) cap_1 (g 3 i) i mc_17 f1_1 hpl_17 hpe_1 (show i < cnt st 30 from (by omega)) hle_1 (by have := hcap_1; omega) (hel_1 _ (by omega))) E.2.2.2.2.1.2.1.2.2.2.2.2.2.1 q337 q340 q342 q51 q344 hdF_get ⟨Nat.le_of_ble_eq_true rfl, Nat.le_of_ble_eq_true rfl⟩ rfl rfl rfl (Nat.le_of_ble_eq_true rfl) dX0_result_164 ⟨Nat.le_of_ble_eq_true rfl, Nat.le_of_ble_eq_true rfl⟩) ?_
                  obtain ⟨k_11a, k_11b, k_11c, k_11d, k_11h, k_11e⟩ := hR.ctl (j := i) (by omega)
                  refine x_castS (pc := 169) E hw.1 k_11h (C := RX6) (T := TX6) (N := 7) rfl q586 dX0_result_169 ?_
                  refine x_rdN (pc := 172) (v := .int (st 32 i)) E hw.1 1 k_11h (C := RX6) (T := TX6) (N := 7) rfl in_X6 (Nat.le_of_ble_eq_true rfl) q596 (fun _ h => h) rfl dX0_result_172 ?_
                  refine li_ne (pc := 175) (tgt := 217) hx hb dX0_result_175 (by decide) (fun c_12 => ?_) (fun c_12 => ?_)
                  · refine lv_iconst (pc := 217) (v := 0) hx hb dX0_result_217 (by decide) ?_
                    refine lv_istore (pc := 218) (lv' := [(6, .int 0), (0, .ref (g 0 0)), (1, .int a), (2, .int w), (3, .ref (g 4 a.toNatClampNeg)), (4, .int y), (5, .int (nI i))]) hx hb dX0_result_218 hl (by decide) rfl (fun ls hl => ?_)
                    refine lv_iload (pc := 220) hx hb dX0_result_220 (lv_at hl 5 rfl) ?_
                    refine lv_iload (pc := 222) hx hb dX0_result_222 (lv_at hl 0 rfl) ?_
                    refine lv_if_eq (pc := 224) (tgt := 231) hx hb dX0_result_224 (by decide) (fun _ => ?_) (fun h_ => absurd h_ (by decide))
                    refine lv_iconst (pc := 231) (v := 0) hx hb dX0_result_231 (by decide) ?_
                    refine lv_iadd (pc := 232) hx hb dX0_result_232 ?_
                    refine lv_istore (pc := 233) (lv' := [(4, .int (y + 0)), (6, .int 0), (0, .ref (g 0 0)), (1, .int a), (2, .int w), (3, .ref (g 4 a.toNatClampNeg)), (5, .int (nI i))]) hx hb dX0_result_233 hl (by decide) rfl (fun ls hl => ?_)
                    refine lv_iinc (pc := 235) (v := (nI (i + 1))) (lv' := [(5, .int (nI (i + 1))), (4, .int (y + 0)), (6, .int 0), (0, .ref (g 0 0)), (1, .int a), (2, .int w), (3, .ref (g 4 a.toNatClampNeg))]) hx hb dX0_result_235 hl (k := 6) rfl (nI_1 _) (by decide) rfl (fun ls hl => ?_)
                    refine lv_goto (pc := 238) (tgt := 139) hx hb dX0_result_238 (by decide) ?_
                    exact x_toR (by simp only [cn2, if_neg c_12]) (ih_l2 (i + 1) (y + 0) (by omega) _ (lv_sub hl [3, 4, 5, 6, 1, 0] rfl))
                  · refine lv_iload_n (pc := 178) hx hb dX0_result_178 rfl (lv_at hl 2 rfl) ?_
                    refine lv_iconst (pc := 179) (v := 2) hx hb dX0_result_179 (by decide) ?_
                    refine li_icne (pc := 180) (tgt := 195) hx hb dX0_result_180 (by decide) (fun c_13 => ?_) (fun c_13 => ?_)
                    · refine lv_aload_n (pc := 195) hx hb dX0_result_195 rfl (lv_at hl 3 rfl) ?_
                      refine lv_iload (pc := 196) hx hb dX0_result_196 (lv_at hl 5 rfl) ?_
                      refine x_cCa_isClocked (pc := 198) (rest := []) st g a.toNatClampNeg E hw hI hR (by omega) (by omega) dX0_result_198 ⟨Nat.le_of_ble_eq_true rfl, Nat.le_of_ble_eq_true rfl⟩ ⟨Nat.le_of_ble_eq_true rfl, Nat.le_of_ble_eq_true rfl⟩ (Nat.le_of_ble_eq_true rfl) hml hl ?_
                      refine lb_eq (pc := 201) (tgt := 217) hx hb dX0_result_201 (by decide) (fun c_14 => ?_) (fun c_14 => ?_)
                      · refine lv_iconst (pc := 217) (v := 0) hx hb dX0_result_217 (by decide) ?_
                        refine lv_istore (pc := 218) (lv' := [(6, .int 0), (0, .ref (g 0 0)), (1, .int a), (2, .int w), (3, .ref (g 4 a.toNatClampNeg)), (4, .int y), (5, .int (nI i))]) hx hb dX0_result_218 hl (by decide) rfl (fun ls hl => ?_)
                        refine lv_iload (pc := 220) hx hb dX0_result_220 (lv_at hl 5 rfl) ?_
                        refine lv_iload (pc := 222) hx hb dX0_result_222 (lv_at hl 0 rfl) ?_
                        refine lv_if_eq (pc := 224) (tgt := 231) hx hb dX0_result_224 (by decide) (fun _ => ?_) (fun h_ => absurd h_ (by decide))
                        refine lv_iconst (pc := 231) (v := 0) hx hb dX0_result_231 (by decide) ?_
                        refine lv_iadd (pc := 232) hx hb dX0_result_232 ?_
                        refine lv_istore (pc := 233) (lv' := [(4, .int (y + 0)), (6, .int 0), (0, .ref (g 0 0)), (1, .int a), (2, .int w), (3, .ref (g 4 a.toNatClampNeg)), (5, .int (nI i))]) hx hb dX0_result_233 hl (by decide) rfl (fun ls hl => ?_)
                        refine lv_iinc (pc := 235) (v := (nI (i + 1))) (lv' := [(5, .int (nI (i + 1))), (4, .int (y + 0)), (6, .int 0), (0, .ref (g 0 0)), (1, .int a), (2, .int w), (3, .ref (g 4 a.toNatClampNeg))]) hx hb dX0_result_235 hl (k := 6) rfl (nI_1 _) (by decide) rfl (fun ls hl => ?_)
                        refine lv_goto (pc := 238) (tgt := 139) hx hb dX0_result_238 (by decide) ?_
                        exact x_toR (by simp only [cn2, if_pos c_12, if_neg c_13, if_neg (fun q => c_14 ((pos39 hI (by omega)).mp q))]) (ih_l2 (i + 1) (y + 0) (by omega) _ (lv_sub hl [3, 4, 5, 6, 1, 0] rfl))
                      · refine lv_aload_n (pc := 204) hx hb dX0_result_204 rfl (lv_at hl 3 rfl) ?_
                        refine lv_iload (pc := 205) hx hb dX0_result_205 (lv_at hl 5 rfl) ?_
                        refine x_cCa_isOutOfOrder (pc := 207) (rest := []) st g a.toNatClampNeg E hw hI hR (by omega) (by omega) dX0_result_207 ⟨Nat.le_of_ble_eq_true rfl, Nat.le_of_ble_eq_true rfl⟩ ⟨Nat.le_of_ble_eq_true rfl, Nat.le_of_ble_eq_true rfl⟩ (Nat.le_of_ble_eq_true rfl) hml hl ?_
                        refine lv_if_eq (pc := 210) (tgt := 217) hx hb dX0_result_210 (by decide) (fun c_15 => ?_) (fun c_15 => ?_)
                        · refine lv_iconst (pc := 217) (v := 0) hx hb dX0_result_217 (by decide) ?_
                          refine lv_istore (pc := 218) (lv' := [(6, .int 0), (0, .ref (g 0 0)), (1, .int a), (2, .int w), (3, .ref (g 4 a.toNatClampNeg)), (4, .int y), (5, .int (nI i))]) hx hb dX0_result_218 hl (by decide) rfl (fun ls hl => ?_)
                          refine lv_iload (pc := 220) hx hb dX0_result_220 (lv_at hl 5 rfl) ?_
                          refine lv_iload (pc := 222) hx hb dX0_result_222 (lv_at hl 0 rfl) ?_
                          refine lv_if_eq (pc := 224) (tgt := 231) hx hb dX0_result_224 (by decide) (fun _ => ?_) (fun h_ => absurd h_ (by decide))
                          refine lv_iconst (pc := 231) (v := 0) hx hb dX0_result_231 (by decide) ?_
                          refine lv_iadd (pc := 232) hx hb dX0_result_232 ?_
                          refine lv_istore (pc := 233) (lv' := [(4, .int (y + 0)), (6, .int 0), (0, .ref (g 0 0)), (1, .int a), (2, .int w), (3, .ref (g 4 a.toNatClampNeg)), (5, .int (nI i))]) hx hb dX0_result_233 hl (by decide) rfl (fun ls hl => ?_)
                          refine lv_iinc (pc := 235) (v := (nI (i + 1))) (lv' := [(5, .int (nI (i + 1))), (4, .int (y + 0)), (6, .int 0), (0, .ref (g 0 0)), (1, .int a), (2, .int w), (3, .ref (g 4 a.toNatClampNeg))]) hx hb dX0_result_235 hl (k := 6) rfl (nI_1 _) (by decide) rfl (fun ls hl => ?_)
                          refine lv_goto (pc := 238) (tgt := 139) hx hb dX0_result_238 (by decide) ?_
                          exact x_toR (by simp only [cn2, if_pos c_12, if_neg c_13, if_pos ((pos39 hI (by omega)).mpr c_14), if_pos c_15]) (ih_l2 (i + 1) (y + 0) (by omega) _ (lv_sub hl [3, 4, 5, 6, 1, 0] rfl))
                        · refine lv_iconst (pc := 213) (v := 1) hx hb dX0_result_213 (by decide) ?_
                          refine lv_goto (pc := 214) (tgt := 218) hx hb dX0_result_214 (by decide) ?_
                          refine lv_istore (pc := 218) (lv' := [(6, .int 1), (0, .ref (g 0 0)), (1, .int a), (2, .int w), (3, .ref (g 4 a.toNatClampNeg)), (4, .int y), (5, .int (nI i))]) hx hb dX0_result_218 hl (by decide) rfl (fun ls hl => ?_)
                          refine lv_iload (pc := 220) hx hb dX0_result_220 (lv_at hl 5 rfl) ?_
                          refine lv_iload (pc := 222) hx hb dX0_result_222 (lv_at hl 0 rfl) ?_
                          refine lv_if_eq (pc := 224) (tgt := 231) hx hb dX0_result_224 (by decide) (fun h_ => absurd h_ (by decide)) (fun _ => ?_)
                          refine lv_iconst (pc := 227) (v := 1) hx hb dX0_result_227 (by decide) ?_
                          refine lv_goto (pc := 228) (tgt := 232) hx hb dX0_result_228 (by decide) ?_
                          refine lv_iadd (pc := 232) hx hb dX0_result_232 ?_
                          refine lv_istore (pc := 233) (lv' := [(4, .int (y + 1)), (6, .int 1), (0, .ref (g 0 0)), (1, .int a), (2, .int w), (3, .ref (g 4 a.toNatClampNeg)), (5, .int (nI i))]) hx hb dX0_result_233 hl (by decide) rfl (fun ls hl => ?_)
                          refine lv_iinc (pc := 235) (v := (nI (i + 1))) (lv' := [(5, .int (nI (i + 1))), (4, .int (y + 1)), (6, .int 1), (0, .ref (g 0 0)), (1, .int a), (2, .int w), (3, .ref (g 4 a.toNatClampNeg))]) hx hb dX0_result_235 hl (k := 6) rfl (nI_1 _) (by decide) rfl (fun ls hl => ?_)
                          refine lv_goto (pc := 238) (tgt := 139) hx hb dX0_result_238 (by decide) ?_
                          exact x_toR (by simp only [cn2, if_pos c_12, if_neg c_13, if_pos ((pos39 hI (by omega)).mpr c_14), if_neg c_15]) (ih_l2 (i + 1) (y + 1) (by omega) _ (lv_sub hl [3, 4, 5, 6, 1, 0] rfl))
                    · refine lv_aload_n (pc := 183) hx hb dX0_result_183 rfl (lv_at hl 3 rfl) ?_
                      refine lv_iload (pc := 184) hx hb dX0_result_184 (lv_at hl 5 rfl) ?_
                      refine x_cCa_isClocked (pc := 186) (rest := []) st g a.toNatClampNeg E hw hI hR (by omega) (by omega) dX0_result_186 ⟨Nat.le_of_ble_eq_true rfl, Nat.le_of_ble_eq_true rfl⟩ ⟨Nat.le_of_ble_eq_true rfl, Nat.le_of_ble_eq_true rfl⟩ (Nat.le_of_ble_eq_true rfl) hml hl ?_
                      refine lb_ne (pc := 189) (tgt := 217) hx hb dX0_result_189 (by decide) (fun c_16 => ?_) (fun c_16 => ?_)
                      · refine lv_iconst (pc := 217) (v := 0) hx hb dX0_result_217 (by decide) ?_
                        refine lv_istore (pc := 218) (lv' := [(6, .int 0), (0, .ref (g 0 0)), (1, .int a), (2, .int w), (3, .ref (g 4 a.toNatClampNeg)), (4, .int y), (5, .int (nI i))]) hx hb dX0_result_218 hl (by decide) rfl (fun ls hl => ?_)
                        refine lv_iload (pc := 220) hx hb dX0_result_220 (lv_at hl 5 rfl) ?_
                        refine lv_iload (pc := 222) hx hb dX0_result_222 (lv_at hl 0 rfl) ?_
                        refine lv_if_eq (pc := 224) (tgt := 231) hx hb dX0_result_224 (by decide) (fun _ => ?_) (fun h_ => absurd h_ (by decide))
                        refine lv_iconst (pc := 231) (v := 0) hx hb dX0_result_231 (by decide) ?_
                        refine lv_iadd (pc := 232) hx hb dX0_result_232 ?_
                        refine lv_istore (pc := 233) (lv' := [(4, .int (y + 0)), (6, .int 0), (0, .ref (g 0 0)), (1, .int a), (2, .int w), (3, .ref (g 4 a.toNatClampNeg)), (5, .int (nI i))]) hx hb dX0_result_233 hl (by decide) rfl (fun ls hl => ?_)
                        refine lv_iinc (pc := 235) (v := (nI (i + 1))) (lv' := [(5, .int (nI (i + 1))), (4, .int (y + 0)), (6, .int 0), (0, .ref (g 0 0)), (1, .int a), (2, .int w), (3, .ref (g 4 a.toNatClampNeg))]) hx hb dX0_result_235 hl (k := 6) rfl (nI_1 _) (by decide) rfl (fun ls hl => ?_)
                        refine lv_goto (pc := 238) (tgt := 139) hx hb dX0_result_238 (by decide) ?_
                        exact x_toR (by simp only [cn2, if_pos c_12, if_pos c_13, if_pos ((pos39 hI (by omega)).mpr c_16)]) (ih_l2 (i + 1) (y + 0) (by omega) _ (lv_sub hl [3, 4, 5, 6, 1, 0] rfl))
                      · refine lv_goto (pc := 192) (tgt := 213) hx hb dX0_result_192 (by decide) ?_
                        refine lv_iconst (pc := 213) (v := 1) hx hb dX0_result_213 (by decide) ?_
                        refine lv_goto (pc := 214) (tgt := 218) hx hb dX0_result_214 (by decide) ?_
                        refine lv_istore (pc := 218) (lv' := [(6, .int 1), (0, .ref (g 0 0)), (1, .int a), (2, .int w), (3, .ref (g 4 a.toNatClampNeg)), (4, .int y), (5, .int (nI i))]) hx hb dX0_result_218 hl (by decide) rfl (fun ls hl => ?_)
                        refine lv_iload (pc := 220) hx hb dX0_result_220 (lv_at hl 5 rfl) ?_
                        refine lv_iload (pc := 222) hx hb dX0_result_222 (lv_at hl 0 rfl) ?_
                        refine lv_if_eq (pc := 224) (tgt := 231) hx hb dX0_result_224 (by decide) (fun h_ => absurd h_ (by decide)) (fun _ => ?_)
                        refine lv_iconst (pc := 227) (v := 1) hx hb dX0_result_227 (by decide) ?_
                        refine lv_goto (pc := 228) (tgt := 232) hx hb dX0_result_228 (by decide) ?_
                        refine lv_iadd (pc := 232) hx hb dX0_result_232 ?_
                        refine lv_istore (pc := 233) (lv' := [(4, .int (y + 1)), (6, .int 1), (0, .ref (g 0 0)), (1, .int a), (2, .int w), (3, .ref (g 4 a.toNatClampNeg)), (5, .int (nI i))]) hx hb dX0_result_233 hl (by decide) rfl (fun ls hl => ?_)
                        refine lv_iinc (pc := 235) (v := (nI (i + 1))) (lv' := [(5, .int (nI (i + 1))), (4, .int (y + 1)), (6, .int 1), (0, .ref (g 0 0)), (1, .int a), (2, .int w), (3, .ref (g 4 a.toNatClampNeg))]) hx hb dX0_result_235 hl (k := 6) rfl (nI_1 _) (by decide) rfl (fun ls hl => ?_)
                        refine lv_goto (pc := 238) (tgt := 139) hx hb dX0_result_238 (by decide) ?_
                        exact x_toR (by simp only [cn2, if_pos c_12, if_pos c_13, if_neg (fun q => c_16 ((pos39 hI (by omega)).mp q))]) (ih_l2 (i + 1) (y + 1) (by omega) _ (lv_sub hl [3, 4, 5, 6, 1, 0] rfl))
              exact x_toR (by simp only [sp_result, if_pos c_1, if_pos c_2, if_pos c_3, if_neg c_5, if_neg c_6]) (l2 (cnt st 30) 0 0 (by omega) _ (lv_sub hl [3, 4, 5, 2, 1, 0] rfl))
            · refine lv_iload_n (pc := 87) hx hb dX0_result_87 rfl (lv_at hl 5 rfl) ?_
              refine lv_iconst (pc := 88) (v := 1) hx hb dX0_result_88 (by decide) ?_
              refine li_icne (pc := 89) (tgt := 136) hx hb dX0_result_89 (by decide) (fun c_17 => ?_) (fun c_17 => absurd c_17 c_6)
              refine lv_iconst (pc := 136) (v := 0) hx hb dX0_result_136 (by decide) ?_
              refine lv_istore (pc := 137) (lv' := [(5, .int 0), (4, .int 0), (3, .ref (g 4 a.toNatClampNeg)), (0, .ref (g 0 0)), (1, .int a), (2, .int w)]) hx hb dX0_result_137 hl (by decide) rfl (fun ls hl => ?_)
              have l2 : ∀ (k : Nat) (i : Nat) (y : Int32), i + k = cnt st 30 → ∀ ls : Array Slot, lv_has ls 7 [(0, .ref (g 0 0)), (1, .int a), (2, .int w), (3, .ref (g 4 a.toNatClampNeg)), (4, .int y), (5, .int (nI i))] → W p l e (xRm 10 0 0) s m ([.ref (g 0 0), .int a, .int w] : List Value).toArray below meth c s.heap [] 0 0 (MQ below (k2_QcV (.int (cn2 st a.toNatClampNeg w k i y))) ([.ref (g 0 0), .int a, .int w] : List Value).toArray s 0 0 (fun _ => False)) (F0 m 139 ls []) := by
                intro k
                induction k with
                | zero =>
                  intro i y hi ls hl
                  refine lv_iload (pc := 139) hx hb dX0_result_139 (lv_at hl 5 rfl) ?_
                  refine lv_aload_n (pc := 141) hx hb dX0_result_141 rfl (lv_at hl 0 rfl) ?_
                  refine x_rd (pc := 142) (v := .ref (g 0 17)) E hw.1 17 hpx (C := RX0) (T := TX0) (N := 20) rfl in_X0 (Nat.le_of_ble_eq_true rfl) q130 (fun _ h => h) rfl dX0_result_142 ?_
                  obtain ⟨mc_17, hpl_17⟩ := hR.p17
                  refine x_goR5 (x_runF (pc := 145) (As := []) (rest := [.int (nI i)]) E hml hl.1 hw.2 hw.1 hpl_17 (C := RJ2) (T := TJ2) (N := 3) rfl (xtJ2_size l D A V (g 0 17) (g 1 1) (cnt st 30) mc_17 hpl_17) E.2.2.2.2.1.2.1.2.2.2.2.2.1 q190 q194 q196 q51 q198 hdF_size ⟨Nat.le_of_ble_eq_true rfl, Nat.le_of_ble_eq_true rfl⟩ rfl rfl rfl (Nat.le_of_ble_eq_true rfl) dX0_result_145 ⟨Nat.le_of_ble_eq_true rfl, Nat.le_of_ble_eq_true rfl⟩) ?_
                  refine li_icmp_geN (pc := 150) (a := i) (b := cnt st 30) (tgt := 241) hx hb (by omega) (by omega) dX0_result_150 (by decide) (fun c_18 => ?_) (fun c_18 => absurd c_18 (by omega))
                  refine lv_iload (pc := 241) hx hb dX0_result_241 (lv_at hl 4 rfl) ?_
                  exact m_iretS hx hb hr hlk dX0_result_243 rfl
                | succ k ih_l2 =>
                  intro i y hi ls hl
                  refine lv_iload (pc := 139) hx hb dX0_result_139 (lv_at hl 5 rfl) ?_
                  refine lv_aload_n (pc := 141) hx hb dX0_result_141 rfl (lv_at hl 0 rfl) ?_
                  refine x_rd (pc := 142) (v := .ref (g 0 17)) E hw.1 17 hpx (C := RX0) (T := TX0) (N := 20) rfl in_X0 (Nat.le_of_ble_eq_true rfl) q130 (fun _ h => h) rfl dX0_result_142 ?_
                  obtain ⟨mc_17, hpl_17⟩ := hR.p17
                  refine x_goR5 (x_runF (pc := 145) (As := []) (rest := [.int (nI i)]) E hml hl.1 hw.2 hw.1 hpl_17 (C := RJ2) (T := TJ2) (N := 3) rfl (xtJ2_size l D A V (g 0 17) (g 1 1) (cnt st 30) mc_17 hpl_17) E.2.2.2.2.1.2.1.2.2.2.2.2.1 q190 q194 q196 q51 q198 hdF_size ⟨Nat.le_of_ble_eq_true rfl, Nat.le_of_ble_eq_true rfl⟩ rfl rfl rfl (Nat.le_of_ble_eq_true rfl) dX0_result_145 ⟨Nat.le_of_ble_eq_true rfl, Nat.le_of_ble_eq_true rfl⟩) ?_
                  refine li_icmp_geN (pc := 150) (a := i) (b := cnt st 30) (tgt := 241) hx hb (by omega) (by omega) dX0_result_150 (by decide) (fun c_19 => absurd c_19 (by omega)) (fun c_19 => ?_)
                  refine lv_iload_n (pc := 153) hx hb dX0_result_153 rfl (lv_at hl 2 rfl) ?_
                  refine lv_iconst (pc := 154) (v := 1) hx hb dX0_result_154 (by decide) ?_
                  refine li_icmp_leL (pc := 155) (Y := 1) (tgt := 241) hx hb rfl dX0_result_155 (by decide) (fun c_20 => absurd c_20 (by omega)) (fun c_20 => ?_)
                  refine lv_aload_n (pc := 158) hx hb dX0_result_158 rfl (lv_at hl 0 rfl) ?_
                  refine x_rd (pc := 159) (v := .ref (g 0 17)) E hw.1 17 hpx (C := RX0) (T := TX0) (N := 20) rfl in_X0 (Nat.le_of_ble_eq_true rfl) q130 (fun _ h => h) rfl dX0_result_159 ?_
                  refine lv_iload (pc := 162) hx hb dX0_result_162 (lv_at hl 5 rfl) ?_
                  obtain ⟨cap_1, f1_1, hpe_1, hcap_1, hle_1, hel_1⟩ := hR.pe (j := 1) (by decide)
                  replace hle_1 : cnt st 30 ≤ cap_1 := hle_1
                  replace hel_1 : ∀ q, q < cnt st 30 → f1_1 q = some (g 3 q) := hel_1
                  refine x_goR5 (x_runF (pc := 164) (As := [.int (nI i)]) (rest := []) E hml hl.1 hw.2 hw.1 hpl_17 (C := RJ2) (T := TJ2) (N := 3) rfl (xtJ2_get l D A V (g 0 17) (g 1 1) (cnt st 30) cap_1 (g 3 i) i mc_17 f1_1 hpl_17 hpe_1 (show i < cnt st 30 from (by omega)) hle_1 (by have := hcap_1; omega) (hel_1 _ (by omega))) E.2.2.2.2.1.2.1.2.2.2.2.2.2.1 q337 q340 q342 q51 q344 hdF_get ⟨Nat.le_of_ble_eq_true rfl, Nat.le_of_ble_eq_true rfl⟩ rfl rfl rfl (Nat.le_of_ble_eq_true rfl) dX0_result_164 ⟨Nat.le_of_ble_eq_true rfl, Nat.le_of_ble_eq_true rfl⟩) ?_
                  obtain ⟨k_21a, k_21b, k_21c, k_21d, k_21h, k_21e⟩ := hR.ctl (j := i) (by omega)
                  refine x_castS (pc := 169) E hw.1 k_21h (C := RX6) (T := TX6) (N := 7) rfl q586 dX0_result_169 ?_
                  refine x_rdN (pc := 172) (v := .int (st 32 i)) E hw.1 1 k_21h (C := RX6) (T := TX6) (N := 7) rfl in_X6 (Nat.le_of_ble_eq_true rfl) q596 (fun _ h => h) rfl dX0_result_172 ?_
                  refine li_ne (pc := 175) (tgt := 217) hx hb dX0_result_175 (by decide) (fun c_22 => ?_) (fun c_22 => ?_)
                  · refine lv_iconst (pc := 217) (v := 0) hx hb dX0_result_217 (by decide) ?_
                    refine lv_istore (pc := 218) (lv' := [(6, .int 0), (0, .ref (g 0 0)), (1, .int a), (2, .int w), (3, .ref (g 4 a.toNatClampNeg)), (4, .int y), (5, .int (nI i))]) hx hb dX0_result_218 hl (by decide) rfl (fun ls hl => ?_)
                    refine lv_iload (pc := 220) hx hb dX0_result_220 (lv_at hl 5 rfl) ?_
                    refine lv_iload (pc := 222) hx hb dX0_result_222 (lv_at hl 0 rfl) ?_
                    refine lv_if_eq (pc := 224) (tgt := 231) hx hb dX0_result_224 (by decide) (fun _ => ?_) (fun h_ => absurd h_ (by decide))
                    refine lv_iconst (pc := 231) (v := 0) hx hb dX0_result_231 (by decide) ?_
                    refine lv_iadd (pc := 232) hx hb dX0_result_232 ?_
                    refine lv_istore (pc := 233) (lv' := [(4, .int (y + 0)), (6, .int 0), (0, .ref (g 0 0)), (1, .int a), (2, .int w), (3, .ref (g 4 a.toNatClampNeg)), (5, .int (nI i))]) hx hb dX0_result_233 hl (by decide) rfl (fun ls hl => ?_)
                    refine lv_iinc (pc := 235) (v := (nI (i + 1))) (lv' := [(5, .int (nI (i + 1))), (4, .int (y + 0)), (6, .int 0), (0, .ref (g 0 0)), (1, .int a), (2, .int w), (3, .ref (g 4 a.toNatClampNeg))]) hx hb dX0_result_235 hl (k := 6) rfl (nI_1 _) (by decide) rfl (fun ls hl => ?_)
                    refine lv_goto (pc := 238) (tgt := 139) hx hb dX0_result_238 (by decide) ?_
                    exact x_toR (by simp only [cn2, if_neg c_22]) (ih_l2 (i + 1) (y + 0) (by omega) _ (lv_sub hl [3, 4, 5, 6, 1, 0] rfl))
                  · refine lv_iload_n (pc := 178) hx hb dX0_result_178 rfl (lv_at hl 2 rfl) ?_
                    refine lv_iconst (pc := 179) (v := 2) hx hb dX0_result_179 (by decide) ?_
                    refine li_icne (pc := 180) (tgt := 195) hx hb dX0_result_180 (by decide) (fun c_23 => ?_) (fun c_23 => ?_)
                    · refine lv_aload_n (pc := 195) hx hb dX0_result_195 rfl (lv_at hl 3 rfl) ?_
                      refine lv_iload (pc := 196) hx hb dX0_result_196 (lv_at hl 5 rfl) ?_
                      refine x_cCa_isClocked (pc := 198) (rest := []) st g a.toNatClampNeg E hw hI hR (by omega) (by omega) dX0_result_198 ⟨Nat.le_of_ble_eq_true rfl, Nat.le_of_ble_eq_true rfl⟩ ⟨Nat.le_of_ble_eq_true rfl, Nat.le_of_ble_eq_true rfl⟩ (Nat.le_of_ble_eq_true rfl) hml hl ?_
                      refine lb_eq (pc := 201) (tgt := 217) hx hb dX0_result_201 (by decide) (fun c_24 => ?_) (fun c_24 => ?_)
                      · refine lv_iconst (pc := 217) (v := 0) hx hb dX0_result_217 (by decide) ?_
                        refine lv_istore (pc := 218) (lv' := [(6, .int 0), (0, .ref (g 0 0)), (1, .int a), (2, .int w), (3, .ref (g 4 a.toNatClampNeg)), (4, .int y), (5, .int (nI i))]) hx hb dX0_result_218 hl (by decide) rfl (fun ls hl => ?_)
                        refine lv_iload (pc := 220) hx hb dX0_result_220 (lv_at hl 5 rfl) ?_
                        refine lv_iload (pc := 222) hx hb dX0_result_222 (lv_at hl 0 rfl) ?_
                        refine lv_if_eq (pc := 224) (tgt := 231) hx hb dX0_result_224 (by decide) (fun _ => ?_) (fun h_ => absurd h_ (by decide))
                        refine lv_iconst (pc := 231) (v := 0) hx hb dX0_result_231 (by decide) ?_
                        refine lv_iadd (pc := 232) hx hb dX0_result_232 ?_
                        refine lv_istore (pc := 233) (lv' := [(4, .int (y + 0)), (6, .int 0), (0, .ref (g 0 0)), (1, .int a), (2, .int w), (3, .ref (g 4 a.toNatClampNeg)), (5, .int (nI i))]) hx hb dX0_result_233 hl (by decide) rfl (fun ls hl => ?_)
                        refine lv_iinc (pc := 235) (v := (nI (i + 1))) (lv' := [(5, .int (nI (i + 1))), (4, .int (y + 0)), (6, .int 0), (0, .ref (g 0 0)), (1, .int a), (2, .int w), (3, .ref (g 4 a.toNatClampNeg))]) hx hb dX0_result_235 hl (k := 6) rfl (nI_1 _) (by decide) rfl (fun ls hl => ?_)
                        refine lv_goto (pc := 238) (tgt := 139) hx hb dX0_result_238 (by decide) ?_
                        exact x_toR (by simp only [cn2, if_pos c_22, if_neg c_23, if_neg (fun q => c_24 ((pos39 hI (by omega)).mp q))]) (ih_l2 (i + 1) (y + 0) (by omega) _ (lv_sub hl [3, 4, 5, 6, 1, 0] rfl))
                      · refine lv_aload_n (pc := 204) hx hb dX0_result_204 rfl (lv_at hl 3 rfl) ?_
                        refine lv_iload (pc := 205) hx hb dX0_result_205 (lv_at hl 5 rfl) ?_
                        refine x_cCa_isOutOfOrder (pc := 207) (rest := []) st g a.toNatClampNeg E hw hI hR (by omega) (by omega) dX0_result_207 ⟨Nat.le_of_ble_eq_true rfl, Nat.le_of_ble_eq_true rfl⟩ ⟨Nat.le_of_ble_eq_true rfl, Nat.le_of_ble_eq_true rfl⟩ (Nat.le_of_ble_eq_true rfl) hml hl ?_
                        refine lv_if_eq (pc := 210) (tgt := 217) hx hb dX0_result_210 (by decide) (fun c_25 => ?_) (fun c_25 => ?_)
                        · refine lv_iconst (pc := 217) (v := 0) hx hb dX0_result_217 (by decide) ?_
                          refine lv_istore (pc := 218) (lv' := [(6, .int 0), (0, .ref (g 0 0)), (1, .int a), (2, .int w), (3, .ref (g 4 a.toNatClampNeg)), (4, .int y), (5, .int (nI i))]) hx hb dX0_result_218 hl (by decide) rfl (fun ls hl => ?_)
                          refine lv_iload (pc := 220) hx hb dX0_result_220 (lv_at hl 5 rfl) ?_
                          refine lv_iload (pc := 222) hx hb dX0_result_222 (lv_at hl 0 rfl) ?_
                          refine lv_if_eq (pc := 224) (tgt := 231) hx hb dX0_result_224 (by decide) (fun _ => ?_) (fun h_ => absurd h_ (by decide))
                          refine lv_iconst (pc := 231) (v := 0) hx hb dX0_result_231 (by decide) ?_
                          refine lv_iadd (pc := 232) hx hb dX0_result_232 ?_
                          refine lv_istore (pc := 233) (lv' := [(4, .int (y + 0)), (6, .int 0), (0, .ref (g 0 0)), (1, .int a), (2, .int w), (3, .ref (g 4 a.toNatClampNeg)), (5, .int (nI i))]) hx hb dX0_result_233 hl (by decide) rfl (fun ls hl => ?_)
                          refine lv_iinc (pc := 235) (v := (nI (i + 1))) (lv' := [(5, .int (nI (i + 1))), (4, .int (y + 0)), (6, .int 0), (0, .ref (g 0 0)), (1, .int a), (2, .int w), (3, .ref (g 4 a.toNatClampNeg))]) hx hb dX0_result_235 hl (k := 6) rfl (nI_1 _) (by decide) rfl (fun ls hl => ?_)
                          refine lv_goto (pc := 238) (tgt := 139) hx hb dX0_result_238 (by decide) ?_
                          exact x_toR (by simp only [cn2, if_pos c_22, if_neg c_23, if_pos ((pos39 hI (by omega)).mpr c_24), if_pos c_25]) (ih_l2 (i + 1) (y + 0) (by omega) _ (lv_sub hl [3, 4, 5, 6, 1, 0] rfl))
                        · refine lv_iconst (pc := 213) (v := 1) hx hb dX0_result_213 (by decide) ?_
                          refine lv_goto (pc := 214) (tgt := 218) hx hb dX0_result_214 (by decide) ?_
                          refine lv_istore (pc := 218) (lv' := [(6, .int 1), (0, .ref (g 0 0)), (1, .int a), (2, .int w), (3, .ref (g 4 a.toNatClampNeg)), (4, .int y), (5, .int (nI i))]) hx hb dX0_result_218 hl (by decide) rfl (fun ls hl => ?_)
                          refine lv_iload (pc := 220) hx hb dX0_result_220 (lv_at hl 5 rfl) ?_
                          refine lv_iload (pc := 222) hx hb dX0_result_222 (lv_at hl 0 rfl) ?_
                          refine lv_if_eq (pc := 224) (tgt := 231) hx hb dX0_result_224 (by decide) (fun h_ => absurd h_ (by decide)) (fun _ => ?_)
                          refine lv_iconst (pc := 227) (v := 1) hx hb dX0_result_227 (by decide) ?_
                          refine lv_goto (pc := 228) (tgt := 232) hx hb dX0_result_228 (by decide) ?_
                          refine lv_iadd (pc := 232) hx hb dX0_result_232 ?_
                          refine lv_istore (pc := 233) (lv' := [(4, .int (y + 1)), (6, .int 1), (0, .ref (g 0 0)), (1, .int a), (2, .int w), (3, .ref (g 4 a.toNatClampNeg)), (5, .int (nI i))]) hx hb dX0_result_233 hl (by decide) rfl (fun ls hl => ?_)
                          refine lv_iinc (pc := 235) (v := (nI (i + 1))) (lv' := [(5, .int (nI (i + 1))), (4, .int (y + 1)), (6, .int 1), (0, .ref (g 0 0)), (1, .int a), (2, .int w), (3, .ref (g 4 a.toNatClampNeg))]) hx hb dX0_result_235 hl (k := 6) rfl (nI_1 _) (by decide) rfl (fun ls hl => ?_)
                          refine lv_goto (pc := 238) (tgt := 139) hx hb dX0_result_238 (by decide) ?_
                          exact x_toR (by simp only [cn2, if_pos c_22, if_neg c_23, if_pos ((pos39 hI (by omega)).mpr c_24), if_neg c_25]) (ih_l2 (i + 1) (y + 1) (by omega) _ (lv_sub hl [3, 4, 5, 6, 1, 0] rfl))
                    · refine lv_aload_n (pc := 183) hx hb dX0_result_183 rfl (lv_at hl 3 rfl) ?_
                      refine lv_iload (pc := 184) hx hb dX0_result_184 (lv_at hl 5 rfl) ?_
                      refine x_cCa_isClocked (pc := 186) (rest := []) st g a.toNatClampNeg E hw hI hR (by omega) (by omega) dX0_result_186 ⟨Nat.le_of_ble_eq_true rfl, Nat.le_of_ble_eq_true rfl⟩ ⟨Nat.le_of_ble_eq_true rfl, Nat.le_of_ble_eq_true rfl⟩ (Nat.le_of_ble_eq_true rfl) hml hl ?_
                      refine lb_ne (pc := 189) (tgt := 217) hx hb dX0_result_189 (by decide) (fun c_26 => ?_) (fun c_26 => ?_)
                      · refine lv_iconst (pc := 217) (v := 0) hx hb dX0_result_217 (by decide) ?_
                        refine lv_istore (pc := 218) (lv' := [(6, .int 0), (0, .ref (g 0 0)), (1, .int a), (2, .int w), (3, .ref (g 4 a.toNatClampNeg)), (4, .int y), (5, .int (nI i))]) hx hb dX0_result_218 hl (by decide) rfl (fun ls hl => ?_)
                        refine lv_iload (pc := 220) hx hb dX0_result_220 (lv_at hl 5 rfl) ?_
                        refine lv_iload (pc := 222) hx hb dX0_result_222 (lv_at hl 0 rfl) ?_
                        refine lv_if_eq (pc := 224) (tgt := 231) hx hb dX0_result_224 (by decide) (fun _ => ?_) (fun h_ => absurd h_ (by decide))
                        refine lv_iconst (pc := 231) (v := 0) hx hb dX0_result_231 (by decide) ?_
                        refine lv_iadd (pc := 232) hx hb dX0_result_232 ?_
                        refine lv_istore (pc := 233) (lv' := [(4, .int (y + 0)), (6, .int 0), (0, .ref (g 0 0)), (1, .int a), (2, .int w), (3, .ref (g 4 a.toNatClampNeg)), (5, .int (nI i))]) hx hb dX0_result_233 hl (by decide) rfl (fun ls hl => ?_)
                        refine lv_iinc (pc := 235) (v := (nI (i + 1))) (lv' := [(5, .int (nI (i + 1))), (4, .int (y + 0)), (6, .int 0), (0, .ref (g 0 0)), (1, .int a), (2, .int w), (3, .ref (g 4 a.toNatClampNeg))]) hx hb dX0_result_235 hl (k := 6) rfl (nI_1 _) (by decide) rfl (fun ls hl => ?_)
                        refine lv_goto (pc := 238) (tgt := 139) hx hb dX0_result_238 (by decide) ?_
                        exact x_toR (by simp only [cn2, if_pos c_22, if_pos c_23, if_pos ((pos39 hI (by omega)).mpr c_26)]) (ih_l2 (i + 1) (y + 0) (by omega) _ (lv_sub hl [3, 4, 5, 6, 1, 0] rfl))
                      · refine lv_goto (pc := 192) (tgt := 213) hx hb dX0_result_192 (by decide) ?_
                        refine lv_iconst (pc := 213) (v := 1) hx hb dX0_result_213 (by decide) ?_
                        refine lv_goto (pc := 214) (tgt := 218) hx hb dX0_result_214 (by decide) ?_
                        refine lv_istore (pc := 218) (lv' := [(6, .int 1), (0, .ref (g 0 0)), (1, .int a), (2, .int w), (3, .ref (g 4 a.toNatClampNeg)), (4, .int y), (5, .int (nI i))]) hx hb dX0_result_218 hl (by decide) rfl (fun ls hl => ?_)
                        refine lv_iload (pc := 220) hx hb dX0_result_220 (lv_at hl 5 rfl) ?_
                        refine lv_iload (pc := 222) hx hb dX0_result_222 (lv_at hl 0 rfl) ?_
                        refine lv_if_eq (pc := 224) (tgt := 231) hx hb dX0_result_224 (by decide) (fun h_ => absurd h_ (by decide)) (fun _ => ?_)
                        refine lv_iconst (pc := 227) (v := 1) hx hb dX0_result_227 (by decide) ?_
                        refine lv_goto (pc := 228) (tgt := 232) hx hb dX0_result_228 (by decide) ?_
                        refine lv_iadd (pc := 232) hx hb dX0_result_232 ?_
                        refine lv_istore (pc := 233) (lv' := [(4, .int (y + 1)), (6, .int 1), (0, .ref (g 0 0)), (1, .int a), (2, .int w), (3, .ref (g 4 a.toNatClampNeg)), (5, .int (nI i))]) hx hb dX0_result_233 hl (by decide) rfl (fun ls hl => ?_)
                        refine lv_iinc (pc := 235) (v := (nI (i + 1))) (lv' := [(5, .int (nI (i + 1))), (4, .int (y + 1)), (6, .int 1), (0, .ref (g 0 0)), (1, .int a), (2, .int w), (3, .ref (g 4 a.toNatClampNeg))]) hx hb dX0_result_235 hl (k := 6) rfl (nI_1 _) (by decide) rfl (fun ls hl => ?_)
                        refine lv_goto (pc := 238) (tgt := 139) hx hb dX0_result_238 (by decide) ?_
                        exact x_toR (by simp only [cn2, if_pos c_22, if_pos c_23, if_neg (fun q => c_26 ((pos39 hI (by omega)).mp q))]) (ih_l2 (i + 1) (y + 1) (by omega) _ (lv_sub hl [3, 4, 5, 6, 1, 0] rfl))
              exact x_toR (by simp only [sp_result, if_pos c_1, if_pos c_2, if_pos c_3, if_neg c_5, if_neg c_6]) (l2 (cnt st 30) 0 0 (by omega) _ (lv_sub hl [3, 4, 5, 2, 1, 0] rfl))
          · refine lv_iconst (pc := 63) (v := 1) hx hb dX0_result_63 (by decide) ?_
            refine lv_goto (pc := 64) (tgt := 68) hx hb dX0_result_64 (by decide) ?_
            refine lv_istore (pc := 68) (lv' := [(4, .int 1), (3, .ref (g 4 a.toNatClampNeg)), (0, .ref (g 0 0)), (1, .int a), (2, .int w)]) hx hb dX0_result_68 hl (by decide) rfl (fun ls hl => ?_)
            refine lv_iconst (pc := 70) (v := 0) hx hb dX0_result_70 (by decide) ?_
            refine lv_istore (pc := 71) (lv' := [(5, .int 0), (4, .int 1), (3, .ref (g 4 a.toNatClampNeg)), (0, .ref (g 0 0)), (1, .int a), (2, .int w)]) hx hb dX0_result_71 hl (by decide) rfl (fun ls hl => ?_)
            have l1 : ∀ (k : Nat) (i : Nat) (y : Int32), i + k = cnt st 35 → ∀ ls : Array Slot, lv_has ls 7 [(0, .ref (g 0 0)), (1, .int a), (2, .int w), (3, .ref (g 4 a.toNatClampNeg)), (4, .int y), (5, .int (nI i))] → W p l e (xRm 10 0 0) s m ([.ref (g 0 0), .int a, .int w] : List Value).toArray below meth c s.heap [] 0 0 (MQ below (k2_QcV (.int (xrk st a.toNatClampNeg k i y))) ([.ref (g 0 0), .int a, .int w] : List Value).toArray s 0 0 (fun _ => False)) (F0 m 73 ls []) := by
              intro k
              induction k with
              | zero =>
                intro i y hi ls hl
                refine lv_iload (pc := 73) hx hb dX0_result_73 (lv_at hl 5 rfl) ?_
                refine lv_aload_n (pc := 75) hx hb dX0_result_75 rfl (lv_at hl 0 rfl) ?_
                refine x_rd (pc := 76) (v := .ref (g 0 18)) E hw.1 18 hpx (C := RX0) (T := TX0) (N := 20) rfl in_X0 (Nat.le_of_ble_eq_true rfl) q132 (fun _ h => h) rfl dX0_result_76 ?_
                refine x_goR5 (x_runF (pc := 79) (As := []) (rest := [.int (nI i)]) E hml hl.1 hw.2 hw.1 hpl_18 (C := RJ2) (T := TJ2) (N := 3) rfl (xtJ2_size l D A V (g 0 18) (g 1 2) (cnt st 35) mc_18 hpl_18) E.2.2.2.2.1.2.1.2.2.2.2.2.1 q190 q194 q196 q51 q198 hdF_size ⟨Nat.le_of_ble_eq_true rfl, Nat.le_of_ble_eq_true rfl⟩ rfl rfl rfl (Nat.le_of_ble_eq_true rfl) dX0_result_79 ⟨Nat.le_of_ble_eq_true rfl, Nat.le_of_ble_eq_true rfl⟩) ?_
                refine li_icmp_geN (pc := 84) (a := i) (b := cnt st 35) (tgt := 136) hx hb (by omega) (by omega) dX0_result_84 (by decide) (fun c_27 => ?_) (fun c_27 => absurd c_27 (by omega))
                refine lv_iconst (pc := 136) (v := 0) hx hb dX0_result_136 (by decide) ?_
                refine lv_istore (pc := 137) (lv' := [(5, .int 0), (0, .ref (g 0 0)), (1, .int a), (2, .int w), (3, .ref (g 4 a.toNatClampNeg)), (4, .int y)]) hx hb dX0_result_137 hl (by decide) rfl (fun ls hl => ?_)
                refine lv_iload (pc := 139) hx hb dX0_result_139 (lv_at hl 0 rfl) ?_
                refine lv_aload_n (pc := 141) hx hb dX0_result_141 rfl (lv_at hl 1 rfl) ?_
                refine x_rd (pc := 142) (v := .ref (g 0 17)) E hw.1 17 hpx (C := RX0) (T := TX0) (N := 20) rfl in_X0 (Nat.le_of_ble_eq_true rfl) q130 (fun _ h => h) rfl dX0_result_142 ?_
                obtain ⟨mc_17, hpl_17⟩ := hR.p17
                refine x_goR5 (x_runF (pc := 145) (As := []) (rest := [.int 0]) E hml hl.1 hw.2 hw.1 hpl_17 (C := RJ2) (T := TJ2) (N := 3) rfl (xtJ2_size l D A V (g 0 17) (g 1 1) (cnt st 30) mc_17 hpl_17) E.2.2.2.2.1.2.1.2.2.2.2.2.1 q190 q194 q196 q51 q198 hdF_size ⟨Nat.le_of_ble_eq_true rfl, Nat.le_of_ble_eq_true rfl⟩ rfl rfl rfl (Nat.le_of_ble_eq_true rfl) dX0_result_145 ⟨Nat.le_of_ble_eq_true rfl, Nat.le_of_ble_eq_true rfl⟩) ?_
                refine li_icmp_geN (pc := 150) (a := 0) (b := cnt st 30) (tgt := 241) hx hb (by omega) (by omega) dX0_result_150 (by decide) (fun c_28 => ?_) (fun c_28 => ?_)
                · refine lv_iload (pc := 241) hx hb dX0_result_241 (lv_at hl 5 rfl) ?_
                  exact m_iretS hx hb hr hlk dX0_result_243 rfl
                · refine lv_iload_n (pc := 153) hx hb dX0_result_153 rfl (lv_at hl 3 rfl) ?_
                  refine lv_iconst (pc := 154) (v := 1) hx hb dX0_result_154 (by decide) ?_
                  refine li_icmp_leL (pc := 155) (Y := 1) (tgt := 241) hx hb rfl dX0_result_155 (by decide) (fun c_29 => ?_) (fun c_29 => absurd c_29 (by rw [c_6]; decide))
                  refine lv_iload (pc := 241) hx hb dX0_result_241 (lv_at hl 5 rfl) ?_
                  exact m_iretS hx hb hr hlk dX0_result_243 rfl
              | succ k ih_l1 =>
                intro i y hi ls hl
                refine lv_iload (pc := 73) hx hb dX0_result_73 (lv_at hl 5 rfl) ?_
                refine lv_aload_n (pc := 75) hx hb dX0_result_75 rfl (lv_at hl 0 rfl) ?_
                refine x_rd (pc := 76) (v := .ref (g 0 18)) E hw.1 18 hpx (C := RX0) (T := TX0) (N := 20) rfl in_X0 (Nat.le_of_ble_eq_true rfl) q132 (fun _ h => h) rfl dX0_result_76 ?_
                refine x_goR5 (x_runF (pc := 79) (As := []) (rest := [.int (nI i)]) E hml hl.1 hw.2 hw.1 hpl_18 (C := RJ2) (T := TJ2) (N := 3) rfl (xtJ2_size l D A V (g 0 18) (g 1 2) (cnt st 35) mc_18 hpl_18) E.2.2.2.2.1.2.1.2.2.2.2.2.1 q190 q194 q196 q51 q198 hdF_size ⟨Nat.le_of_ble_eq_true rfl, Nat.le_of_ble_eq_true rfl⟩ rfl rfl rfl (Nat.le_of_ble_eq_true rfl) dX0_result_79 ⟨Nat.le_of_ble_eq_true rfl, Nat.le_of_ble_eq_true rfl⟩) ?_
                refine li_icmp_geN (pc := 84) (a := i) (b := cnt st 35) (tgt := 136) hx hb (by omega) (by omega) dX0_result_84 (by decide) (fun c_30 => absurd c_30 (by omega)) (fun c_30 => ?_)
                refine lv_iload_n (pc := 87) hx hb dX0_result_87 rfl (lv_at hl 2 rfl) ?_
                refine lv_iconst (pc := 88) (v := 1) hx hb dX0_result_88 (by decide) ?_
                refine li_icne (pc := 89) (tgt := 136) hx hb dX0_result_89 (by decide) (fun c_31 => absurd c_6 c_31) (fun c_31 => ?_)
                refine lv_iload (pc := 92) hx hb dX0_result_92 (lv_at hl 4 rfl) ?_
                refine lv_iload (pc := 94) hx hb dX0_result_94 (lv_at hl 5 rfl) ?_
                refine lv_iload_n (pc := 96) hx hb dX0_result_96 rfl (lv_at hl 1 rfl) ?_
                refine li_top (v' := .int (nI a.toNatClampNeg)) (congrArg Value.int han) ?_
                refine li_icmp_eqN (pc := 97) (a := i) (b := a.toNatClampNeg) (tgt := 126) hx hb (by omega) (by omega) dX0_result_97 (by decide) (fun c_32 => ?_) (fun c_32 => ?_)
                · refine lv_iconst (pc := 126) (v := 0) hx hb dX0_result_126 (by decide) ?_
                  refine lv_iadd (pc := 127) hx hb dX0_result_127 ?_
                  refine lv_istore (pc := 128) (lv' := [(4, .int (y + 0)), (0, .ref (g 0 0)), (1, .int a), (2, .int w), (3, .ref (g 4 a.toNatClampNeg)), (5, .int (nI i))]) hx hb dX0_result_128 hl (by decide) rfl (fun ls hl => ?_)
                  refine lv_iinc (pc := 130) (v := (nI (i + 1))) (lv' := [(5, .int (nI (i + 1))), (4, .int (y + 0)), (0, .ref (g 0 0)), (1, .int a), (2, .int w), (3, .ref (g 4 a.toNatClampNeg))]) hx hb dX0_result_130 hl (k := 5) rfl (nI_1 _) (by decide) rfl (fun ls hl => ?_)
                  refine lv_goto (pc := 133) (tgt := 73) hx hb dX0_result_133 (by decide) ?_
                  exact x_toR (by simp only [xrk, if_pos c_32]) (ih_l1 (i + 1) (y + 0) (by omega) _ (lv_sub hl [2, 3, 4, 5, 1, 0] rfl))
                · refine lv_aload_n (pc := 100) hx hb dX0_result_100 rfl (lv_at hl 0 rfl) ?_
                  refine lv_aload_n (pc := 101) hx hb dX0_result_101 rfl (lv_at hl 0 rfl) ?_
                  refine x_rd (pc := 102) (v := .ref (g 0 18)) E hw.1 18 hpx (C := RX0) (T := TX0) (N := 20) rfl in_X0 (Nat.le_of_ble_eq_true rfl) q132 (fun _ h => h) rfl dX0_result_102 ?_
                  refine lv_iload (pc := 105) hx hb dX0_result_105 (lv_at hl 5 rfl) ?_
                  refine x_goR5 (x_runF (pc := 107) (As := [.int (nI i)]) (rest := [.ref (g 0 0), .int y]) E hml hl.1 hw.2 hw.1 hpl_18 (C := RJ2) (T := TJ2) (N := 3) rfl (xtJ2_get l D A V (g 0 18) (g 1 2) (cnt st 35) cap_2 (g 4 i) i mc_18 f1_2 hpl_18 hpe_2 (show i < cnt st 35 from (by omega)) hle_2 (by have := hcap_2; omega) (hel_2 _ (by omega))) E.2.2.2.2.1.2.1.2.2.2.2.2.2.1 q337 q340 q342 q51 q344 hdF_get ⟨Nat.le_of_ble_eq_true rfl, Nat.le_of_ble_eq_true rfl⟩ rfl rfl rfl (Nat.le_of_ble_eq_true rfl) dX0_result_107 ⟨Nat.le_of_ble_eq_true rfl, Nat.le_of_ble_eq_true rfl⟩) ?_
                  have hpc_33 := hR.car (j := i) (by omega)
                  refine x_castCa (pc := 112) E hw.1 hpc_33 q538 dX0_result_112 ?_
                  refine lv_aload_n (pc := 115) hx hb dX0_result_115 rfl (lv_at hl 3 rfl) ?_
                  refine x_goR (x_runV (pc := 116) (As := [.ref (g 4 i), .ref (g 4 a.toNatClampNeg)]) (rest := [.int y]) E hml hl.1 hw.2 hw.1 hpx (C := RX0) (T := TX0) (N := 20) rfl (xtX0_isBetter l D A V st g i a.toNatClampNeg hI hR (by omega) (by omega) c_3) q822 q824 qs17 q48 q825 hdX0_isBetter ⟨Nat.le_of_ble_eq_true rfl, Nat.le_of_ble_eq_true rfl⟩ rfl rfl rfl (Nat.le_of_ble_eq_true rfl) dX0_result_116 ⟨Nat.le_of_ble_eq_true rfl, Nat.le_of_ble_eq_true rfl⟩) ?_
                  refine lb_eq (pc := 119) (tgt := 126) hx hb dX0_result_119 (by decide) (fun c_34 => ?_) (fun c_34 => ?_)
                  · refine lv_iconst (pc := 126) (v := 0) hx hb dX0_result_126 (by decide) ?_
                    refine lv_iadd (pc := 127) hx hb dX0_result_127 ?_
                    refine lv_istore (pc := 128) (lv' := [(4, .int (y + 0)), (0, .ref (g 0 0)), (1, .int a), (2, .int w), (3, .ref (g 4 a.toNatClampNeg)), (5, .int (nI i))]) hx hb dX0_result_128 hl (by decide) rfl (fun ls hl => ?_)
                    refine lv_iinc (pc := 130) (v := (nI (i + 1))) (lv' := [(5, .int (nI (i + 1))), (4, .int (y + 0)), (0, .ref (g 0 0)), (1, .int a), (2, .int w), (3, .ref (g 4 a.toNatClampNeg))]) hx hb dX0_result_130 hl (k := 5) rfl (nI_1 _) (by decide) rfl (fun ls hl => ?_)
                    refine lv_goto (pc := 133) (tgt := 73) hx hb dX0_result_133 (by decide) ?_
                    exact x_toR (by simp only [xrk, if_neg c_32, bI_f c_34]) (ih_l1 (i + 1) (y + 0) (by omega) _ (lv_sub hl [2, 3, 4, 5, 1, 0] rfl))
                  · refine lv_iconst (pc := 122) (v := 1) hx hb dX0_result_122 (by decide) ?_
                    refine lv_goto (pc := 123) (tgt := 127) hx hb dX0_result_123 (by decide) ?_
                    refine lv_iadd (pc := 127) hx hb dX0_result_127 ?_
                    refine lv_istore (pc := 128) (lv' := [(4, .int (y + 1)), (0, .ref (g 0 0)), (1, .int a), (2, .int w), (3, .ref (g 4 a.toNatClampNeg)), (5, .int (nI i))]) hx hb dX0_result_128 hl (by decide) rfl (fun ls hl => ?_)
                    refine lv_iinc (pc := 130) (v := (nI (i + 1))) (lv' := [(5, .int (nI (i + 1))), (4, .int (y + 1)), (0, .ref (g 0 0)), (1, .int a), (2, .int w), (3, .ref (g 4 a.toNatClampNeg))]) hx hb dX0_result_130 hl (k := 5) rfl (nI_1 _) (by decide) rfl (fun ls hl => ?_)
                    refine lv_goto (pc := 133) (tgt := 73) hx hb dX0_result_133 (by decide) ?_
                    exact x_toR (by simp only [xrk, if_neg c_32, bI_t c_34]) (ih_l1 (i + 1) (y + 1) (by omega) _ (lv_sub hl [2, 3, 4, 5, 1, 0] rfl))
            exact x_toR (by simp only [sp_result, if_pos c_1, if_pos c_2, if_pos c_3, if_neg c_5, if_pos c_6]; exact congrArg Value.int (xrk_eq _ _ 0)) (l1 (cnt st 35) 0 1 (by omega) _ (lv_sub hl [3, 4, 5, 2, 1, 0] rfl))
        · refine lv_aload_n (pc := 53) hx hb dX0_result_53 rfl (lv_at hl 0 rfl) ?_
          refine x_cCa_total (pc := 54) (rest := []) st g a.toNatClampNeg E hw hI hR (by omega) c_3 dX0_result_54 ⟨Nat.le_of_ble_eq_true rfl, Nat.le_of_ble_eq_true rfl⟩ ⟨Nat.le_of_ble_eq_true rfl, Nat.le_of_ble_eq_true rfl⟩ (Nat.le_of_ble_eq_true rfl) hml hl ?_
          exact m_iretS hx hb hr hlk dX0_result_57 (by simp only [sp_result, if_pos c_1, if_pos c_2, if_pos c_3, if_pos c_5])
      · refine lv_bipush (pc := 32) (v := (-3)) hx hb dX0_result_32 (by decide) ?_
        exact m_iretS hx hb hr hlk dX0_result_34 (by simp only [sp_result, if_pos c_1, if_pos c_2, if_neg c_3])
    · refine lv_bipush (pc := 22) (v := (-2)) hx hb dX0_result_22 (by decide) ?_
      exact m_iretS hx hb hr hlk dX0_result_24 (by simp only [sp_result, if_pos c_1, if_neg c_2])
  · refine lv_iconst (pc := 8) (v := (-1)) hx hb dX0_result_8 (by decide) ?_
    exact m_iretS hx hb hr hlk dX0_result_9 (by simp only [sp_result, if_neg c_1])
