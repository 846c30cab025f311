/-! RegularRally's statics, Road and its heirs -/
section XH
variable {p : Program} {l : Launch} {e : Env} {R : Room} {s : State} {m : MethodId} {args : Array Value} {below : List Frame} {meth : Method} {c : Code} {H : Heap} {locs : List Loc} {cells slots : Nat} {Q : State → Prop}
theorem x_toR {r r' : Value} {a : Array Value} {f : JFrame} (h : r = r') (k : W p l e R s m args below meth c H locs cells slots (MQ below (k2_QcV r) a s 0 0 (fun _ => False)) f) : W p l e R s m args below meth c H locs cells slots (MQ below (k2_QcV r') a s 0 0 (fun _ => False)) f := h ▸ k
end XH
set_option maxHeartbeats 4000000 in
set_option maxRecDepth 100000 in
theorem xtX0_isIn (l : Launch) (x : Int64) (y : Int64) (z : Int64)  : Met l yX0_isIn (ws_ yX0_isIn cX0_isIn 6 (some .boolean)) (xRm 1 0 0) (fun v _ => v = ([.long x, .long y, .long z] : List Value).toArray) (k2_QcV (.int (bI (y.toInt ≤ x.toInt ∧ x.toInt ≤ z.toInt)))) 0 0 (fun _ => False) := by
  refine x_headS (own := RX0) (As := [.long x, .long y, .long z]) (bytes := cX0_isIn) (maxL := 6) (ret := (some .boolean)) (by decide) rfl (Nat.le_of_ble_eq_true rfl) ?_
  intro p e s m below meth c hx hb hts hown hml hr hlk ls hl
  have hl : lv_has ls 6 [(0, .long x), (2, .long y), (4, .long z)] := hl
  refine lv_lload_n (pc := 0) hx hb dX0_isIn_0 rfl (lv_at hl 0 rfl) ?_
  refine lv_lload_n (pc := 1) hx hb dX0_isIn_1 rfl (lv_at hl 1 rfl) ?_
  refine ll_lt (pc := 2) (tgt := 17) hx hb dX0_isIn_2 dX0_isIn_3 (by decide) (fun c_1 => ?_) (fun c_1 => ?_)
  · refine lv_iconst (pc := 17) (v := 0) hx hb dX0_isIn_17 (by decide) ?_
    exact m_zretS hx hb hr hlk dX0_isIn_18 rfl ((bI_f (by omega)).symm)
  · refine lv_lload_n (pc := 6) hx hb dX0_isIn_6 rfl (lv_at hl 0 rfl) ?_
    refine lv_lload (pc := 7) hx hb dX0_isIn_7 (lv_at hl 2 rfl) ?_
    refine ll_gt (pc := 9) (tgt := 17) hx hb dX0_isIn_9 dX0_isIn_10 (by decide) (fun c_2 => ?_) (fun c_2 => ?_)
    · refine lv_iconst (pc := 17) (v := 0) hx hb dX0_isIn_17 (by decide) ?_
      exact m_zretS hx hb hr hlk dX0_isIn_18 rfl ((bI_f (by omega)).symm)
    · refine lv_iconst (pc := 13) (v := 1) hx hb dX0_isIn_13 (by decide) ?_
      refine lv_goto (pc := 14) (tgt := 18) hx hb dX0_isIn_14 (by decide) ?_
      exact m_zretS hx hb hr hlk dX0_isIn_18 rfl ((bI_t (by omega)).symm)
theorem xtX0_isInB (l : Launch) (x : Int32) (lo hi : Int64) (L U : Int) (h1 : lo.toInt = L) (h2 : hi.toInt = U) : Met l yX0_isIn (ws_ yX0_isIn cX0_isIn 6 (some .boolean)) (xRm 1 0 0) (fun v _ => v = ([.long x.toInt64, .long lo, .long hi] : List Value).toArray) (k2_QcV (.int (bI (inB x L U)))) 0 0 (fun _ => False) := by
  have h := xtX0_isIn l x.toInt64 lo hi
  rw [h1, h2, Int32.toInt_toInt64] at h
  exact h
theorem xtX0_isInN (l : Launch) (x n : Int32) : Met l yX0_isIn (ws_ yX0_isIn cX0_isIn 6 (some .boolean)) (xRm 1 0 0) (fun v _ => v = ([.long x.toInt64, .long 0, .long (n.toInt64 - 1)] : List Value).toArray) (k2_QcV (.int (bI (inN x n)))) 0 0 (fun _ => False) := by
  have h := xtX0_isIn l x.toInt64 0 (n.toInt64 - 1)
  have e : (n.toInt64 - 1).toInt = n.toInt - 1 := by
    have h1 := i32_lo n
    have h2 := i32_hi n
    rw [i64_sub (by rw [Int32.toInt_toInt64]; show _ ≤ n.toInt - 1; omega) (by rw [Int32.toInt_toInt64]; show n.toInt - 1 < _; omega), Int32.toInt_toInt64]
    rfl
  have e2 : ((0 : Int64).toInt ≤ x.toInt64.toInt ∧ x.toInt64.toInt ≤ (n.toInt64 - 1).toInt) ↔ inN x n := by
    rw [e, Int32.toInt_toInt64, show (0 : Int64).toInt = 0 from rfl]
    show _ ↔ (0 ≤ x.toInt ∧ x.toInt < n.toInt)
    omega
  rw [bI_c e2] at h
  exact h
set_option maxHeartbeats 4000000 in
set_option maxRecDepth 100000 in
theorem xtX0_isSpot (l : Launch) (x : Int32)  : Met l yX0_isSpot (ws_ yX0_isSpot cX0_isSpot 1 (some .boolean)) (xRm 2 0 0) (fun v _ => v = ([.int x] : List Value).toArray) (k2_QcV (.int (bI (inB x 0 9)))) 0 0 (fun _ => False) := by
  refine x_headS (own := RX0) (As := [.int x]) (bytes := cX0_isSpot) (maxL := 1) (ret := (some .boolean)) (by decide) rfl (Nat.le_of_ble_eq_true rfl) ?_
  intro p e s m below meth c hx hb hts hown hml hr hlk ls hl
  have hl : lv_has ls 1 [(0, .int x)] := hl
  refine lv_iload_n (pc := 0) hx hb dX0_isSpot_0 rfl (lv_at hl 0 rfl) ?_
  refine lv_i2l (pc := 1) (v := x.toInt64) hx hb dX0_isSpot_1 rfl ?_
  refine lv_lconst (pc := 2) (v := 0) hx hb dX0_isSpot_2 (by decide) ?_
  refine lv_ldc2 (pc := 3) hx hb hown (hts _ q183) dX0_isSpot_3 ?_
  refine x_goR (x_runSS (pc := 6) (As := [.long x.toInt64, .long 0, .long 9]) (rest := []) hx hb hts hown hml hl.1 (x_preE) (xtX0_isInB l x 0 9 0 9 rfl rfl) q184 q185 q48 q186 hdX0_isIn.2 ⟨Nat.le_of_ble_eq_true rfl, Nat.le_of_ble_eq_true rfl⟩ rfl rfl rfl (Nat.le_of_ble_eq_true rfl) dX0_isSpot_6 ⟨Nat.le_of_ble_eq_true rfl, Nat.le_of_ble_eq_true rfl⟩) ?_
  exact m_zretS hx hb hr hlk dX0_isSpot_9 (bI_nar _) rfl
set_option maxHeartbeats 4000000 in
set_option maxRecDepth 100000 in
theorem xtX0_isTime (l : Launch) (x : Int32)  : Met l yX0_isTime (ws_ yX0_isTime cX0_isTime 1 (some .boolean)) (xRm 2 0 0) (fun v _ => v = ([.int x] : List Value).toArray) (k2_QcV (.int (bI (inB x 0 1000000)))) 0 0 (fun _ => False) := by
  refine x_headS (own := RX0) (As := [.int x]) (bytes := cX0_isTime) (maxL := 1) (ret := (some .boolean)) (by decide) rfl (Nat.le_of_ble_eq_true rfl) ?_
  intro p e s m below meth c hx hb hts hown hml hr hlk ls hl
  have hl : lv_has ls 1 [(0, .int x)] := hl
  refine lv_iload_n (pc := 0) hx hb dX0_isTime_0 rfl (lv_at hl 0 rfl) ?_
  refine lv_i2l (pc := 1) (v := x.toInt64) hx hb dX0_isTime_1 rfl ?_
  refine lv_lconst (pc := 2) (v := 0) hx hb dX0_isTime_2 (by decide) ?_
  refine lv_ldc2 (pc := 3) hx hb hown (hts _ q633) dX0_isTime_3 ?_
  refine x_goR (x_runSS (pc := 6) (As := [.long x.toInt64, .long 0, .long 1000000]) (rest := []) hx hb hts hown hml hl.1 (x_preE) (xtX0_isInB l x 0 1000000 0 1000000 rfl rfl) q184 q185 q48 q186 hdX0_isIn.2 ⟨Nat.le_of_ble_eq_true rfl, Nat.le_of_ble_eq_true rfl⟩ rfl rfl rfl (Nat.le_of_ble_eq_true rfl) dX0_isTime_6 ⟨Nat.le_of_ble_eq_true rfl, Nat.le_of_ble_eq_true rfl⟩) ?_
  exact m_zretS hx hb hr hlk dX0_isTime_9 (bI_nar _) rfl
set_option maxHeartbeats 4000000 in
set_option maxRecDepth 100000 in
theorem xtX0_isSheet (l : Launch) (x : Int32)  : Met l yX0_isSheet (ws_ yX0_isSheet cX0_isSheet 1 (some .boolean)) (xRm 2 0 0) (fun v _ => v = ([.int x] : List Value).toArray) (k2_QcV (.int (bI (inB x 0 3)))) 0 0 (fun _ => False) := by
  refine x_headS (own := RX0) (As := [.int x]) (bytes := cX0_isSheet) (maxL := 1) (ret := (some .boolean)) (by decide) rfl (Nat.le_of_ble_eq_true rfl) ?_
  intro p e s m below meth c hx hb hts hown hml hr hlk ls hl
  have hl : lv_has ls 1 [(0, .int x)] := hl
  refine lv_iload_n (pc := 0) hx hb dX0_isSheet_0 rfl (lv_at hl 0 rfl) ?_
  refine lv_i2l (pc := 1) (v := x.toInt64) hx hb dX0_isSheet_1 rfl ?_
  refine lv_lconst (pc := 2) (v := 0) hx hb dX0_isSheet_2 (by decide) ?_
  refine lv_ldc2 (pc := 3) hx hb hown (hts _ q813) dX0_isSheet_3 ?_
  refine x_goR (x_runSS (pc := 6) (As := [.long x.toInt64, .long 0, .long 3]) (rest := []) hx hb hts hown hml hl.1 (x_preE) (xtX0_isInB l x 0 3 0 3 rfl rfl) q184 q185 q48 q186 hdX0_isIn.2 ⟨Nat.le_of_ble_eq_true rfl, Nat.le_of_ble_eq_true rfl⟩ rfl rfl rfl (Nat.le_of_ble_eq_true rfl) dX0_isSheet_6 ⟨Nat.le_of_ble_eq_true rfl, Nat.le_of_ble_eq_true rfl⟩) ?_
  exact m_zretS hx hb hr hlk dX0_isSheet_9 (bI_nar _) rfl
set_option maxHeartbeats 4000000 in
set_option maxRecDepth 100000 in
theorem xtX0_isLane (l : Launch) (x : Int32)  : Met l yX0_isLane (ws_ yX0_isLane cX0_isLane 1 (some .boolean)) (xRm 2 0 0) (fun v _ => v = ([.int x] : List Value).toArray) (k2_QcV (.int (bI (inB x 0 2)))) 0 0 (fun _ => False) := by
  refine x_headS (own := RX0) (As := [.int x]) (bytes := cX0_isLane) (maxL := 1) (ret := (some .boolean)) (by decide) rfl (Nat.le_of_ble_eq_true rfl) ?_
  intro p e s m below meth c hx hb hts hown hml hr hlk ls hl
  have hl : lv_has ls 1 [(0, .int x)] := hl
  refine lv_iload_n (pc := 0) hx hb dX0_isLane_0 rfl (lv_at hl 0 rfl) ?_
  refine lv_i2l (pc := 1) (v := x.toInt64) hx hb dX0_isLane_1 rfl ?_
  refine lv_lconst (pc := 2) (v := 0) hx hb dX0_isLane_2 (by decide) ?_
  refine lv_ldc2 (pc := 3) hx hb hown (hts _ q188) dX0_isLane_3 ?_
  refine x_goR (x_runSS (pc := 6) (As := [.long x.toInt64, .long 0, .long 2]) (rest := []) hx hb hts hown hml hl.1 (x_preE) (xtX0_isInB l x 0 2 0 2 rfl rfl) q184 q185 q48 q186 hdX0_isIn.2 ⟨Nat.le_of_ble_eq_true rfl, Nat.le_of_ble_eq_true rfl⟩ rfl rfl rfl (Nat.le_of_ble_eq_true rfl) dX0_isLane_6 ⟨Nat.le_of_ble_eq_true rfl, Nat.le_of_ble_eq_true rfl⟩) ?_
  exact m_zretS hx hb hr hlk dX0_isLane_9 (bI_nar _) rfl
set_option maxHeartbeats 4000000 in
set_option maxRecDepth 100000 in
theorem xtX0_begins (l : Launch) (D : xD) (A : Nat → Prop) (V : xV) (st : mS) (g : xG) (b7 : Int32) (b8 : Int64) (b9 : Int32) (n : Int32) (hpx : V (g 0 0) = some (xXF st g b7 b8 b9)) : Met l yX0_begins (ws_ yX0_begins cX0_begins 2 none) (xRm 1 0 0) (xP D A V [.ref (g 0 0), .int n]) (xQ D A (fun ρ V' => ρ = none ∧ V' = xu V (g 0 0) (xXF (tr1 st n) g b7 b8 b9))) 0 0 A := by
  refine x_headW (own := RX0) (As := [.ref (g 0 0), .int n]) (bytes := cX0_begins) (maxL := 2) (ret := none) (by decide) rfl (Nat.le_of_ble_eq_true rfl) ?_
  intro p e s m below meth c E hml hr hlk hin2 hw ls hl
  have hx := E.1
  have hb := E.2.1
  have hts := E.2.2.1
  have hown := E.2.2.2.1
  have hl : lv_has ls 2 [(0, .ref (g 0 0)), (1, .int n)] := hl
  replace hpx : V (g 0 0) = some (.inr (0, [.int (st 0 0), .int (st 0 42), .ref (g 0 2), .ref (g 0 3), .int (nI (cnt st 12)), .ref (g 0 5), .ref (g 0 6), .int b7, .long b8, .int b9, .int (st 0 14), .ref (g 0 11), .int (nI (cnt st 24)), .int (st 0 25), .ref (g 0 14), .ref (g 0 15), .int (nI (cnt st 27)), .ref (g 0 17), .ref (g 0 18), .ref (g 0 19)])) := hpx
  refine lv_aload_n (pc := 0) hx hb dX0_begins_0 rfl (lv_at hl 0 rfl) ?_
  refine lv_bipush (pc := 1) (v := 31) hx hb dX0_begins_1 (by decide) ?_
  refine lv_aload_n (pc := 3) hx hb dX0_begins_3 rfl (lv_at hl 0 rfl) ?_
  refine x_rd (pc := 4) (v := .int (st 0 42)) E hw.1 1 hpx (C := RX0) (T := TX0) (N := 20) rfl in_X0 (Nat.le_of_ble_eq_true rfl) q114 (fun _ h => h) rfl dX0_begins_4 ?_
  refine lv_imul (pc := 7) hx hb dX0_begins_7 ?_
  refine lv_iload_n (pc := 8) hx hb dX0_begins_8 rfl (lv_at hl 1 rfl) ?_
  refine lv_iadd (pc := 9) hx hb dX0_begins_9 ?_
  refine x_put1 (pc := 10) (v := .int ((31 * (st 0 42)) + n)) E hw 1 hpx (C := RX0) (T := TX0) (N := 20) rfl in_X0 tyX0 tyX0_ok (Nat.le_of_ble_eq_true rfl) q114 (fun _ h => h) rfl (tyX0_ok 1 (Nat.le_of_ble_eq_true rfl)) rfl rfl (Nat.le_of_ble_eq_true rfl) (fun j hj hne => Or.inl (nmX0 j hj 1 (Nat.le_of_ble_eq_true rfl) hne)) dX0_begins_10 (fun V_1 H locs hV_2 hw => ?_)
  replace hV_2 : V_1 = xu V (g 0 0) (.inr (0, [.int (st 0 0), .int ((31 * (st 0 42)) + n), .ref (g 0 2), .ref (g 0 3), .int (nI (cnt st 12)), .ref (g 0 5), .ref (g 0 6), .int b7, .long b8, .int b9, .int (st 0 14), .ref (g 0 11), .int (nI (cnt st 24)), .int (st 0 25), .ref (g 0 14), .ref (g 0 15), .int (nI (cnt st 27)), .ref (g 0 17), .ref (g 0 18), .ref (g 0 19)])) := hV_2
  have hp_3 : V_1 (g 0 0) = some (.inr (0, [.int (st 0 0), .int ((31 * (st 0 42)) + n), .ref (g 0 2), .ref (g 0 3), .int (nI (cnt st 12)), .ref (g 0 5), .ref (g 0 6), .int b7, .long b8, .int b9, .int (st 0 14), .ref (g 0 11), .int (nI (cnt st 24)), .int (st 0 25), .ref (g 0 14), .ref (g 0 15), .int (nI (cnt st 27)), .ref (g 0 17), .ref (g 0 18), .ref (g 0 19)])) := by rw [hV_2]; exact xu_s _ _ _
  exact x_vret E hr hlk hw dX0_begins_13 ⟨rfl, by rw [hV_2]; rfl⟩
set_option maxHeartbeats 4000000 in
set_option maxRecDepth 100000 in
theorem xtX0_faulty (l : Launch) (D : xD) (A : Nat → Prop) (V : xV) (st : mS) (g : xG) (b7 : Int32) (b8 : Int64) (b9 : Int32) (f : Int32) (hpx : V (g 0 0) = some (xXF st g b7 b8 b9)) : Met l yX0_faulty (ws_ yX0_faulty cX0_faulty 2 (some .int)) (xRm 1 0 0) (xP D A V [.ref (g 0 0), .int f]) (xQ D A (fun ρ V' => ρ = (some (.int ((-10) - f))) ∧ V' = xu V (g 0 0) (xXF (mu st 0 0 f) g b7 b8 b9))) 0 0 A := by
  refine x_headW (own := RX0) (As := [.ref (g 0 0), .int f]) (bytes := cX0_faulty) (maxL := 2) (ret := (some .int)) (by decide) rfl (Nat.le_of_ble_eq_true rfl) ?_
  intro p e s m below meth c E hml hr hlk hin2 hw ls hl
  have hx := E.1
  have hb := E.2.1
  have hts := E.2.2.1
  have hown := E.2.2.2.1
  have hl : lv_has ls 2 [(0, .ref (g 0 0)), (1, .int f)] := hl
  replace hpx : V (g 0 0) = some (.inr (0, [.int (st 0 0), .int (st 0 42), .ref (g 0 2), .ref (g 0 3), .int (nI (cnt st 12)), .ref (g 0 5), .ref (g 0 6), .int b7, .long b8, .int b9, .int (st 0 14), .ref (g 0 11), .int (nI (cnt st 24)), .int (st 0 25), .ref (g 0 14), .ref (g 0 15), .int (nI (cnt st 27)), .ref (g 0 17), .ref (g 0 18), .ref (g 0 19)])) := hpx
  refine lv_aload_n (pc := 0) hx hb dX0_faulty_0 rfl (lv_at hl 0 rfl) ?_
  refine lv_iload_n (pc := 1) hx hb dX0_faulty_1 rfl (lv_at hl 1 rfl) ?_
  refine x_put1 (pc := 2) (v := .int f) E hw 0 hpx (C := RX0) (T := TX0) (N := 20) rfl in_X0 tyX0 tyX0_ok (Nat.le_of_ble_eq_true rfl) q113 (fun _ h => h) rfl (tyX0_ok 0 (Nat.le_of_ble_eq_true rfl)) rfl rfl (Nat.le_of_ble_eq_true rfl) (fun j hj hne => Or.inl (nmX0 j hj 0 (Nat.le_of_ble_eq_true rfl) hne)) dX0_faulty_2 (fun V_1 H locs hV_2 hw => ?_)
  replace hV_2 : V_1 = xu V (g 0 0) (.inr (0, [.int f, .int (st 0 42), .ref (g 0 2), .ref (g 0 3), .int (nI (cnt st 12)), .ref (g 0 5), .ref (g 0 6), .int b7, .long b8, .int b9, .int (st 0 14), .ref (g 0 11), .int (nI (cnt st 24)), .int (st 0 25), .ref (g 0 14), .ref (g 0 15), .int (nI (cnt st 27)), .ref (g 0 17), .ref (g 0 18), .ref (g 0 19)])) := hV_2
  have hp_3 : V_1 (g 0 0) = some (.inr (0, [.int f, .int (st 0 42), .ref (g 0 2), .ref (g 0 3), .int (nI (cnt st 12)), .ref (g 0 5), .ref (g 0 6), .int b7, .long b8, .int b9, .int (st 0 14), .ref (g 0 11), .int (nI (cnt st 24)), .int (st 0 25), .ref (g 0 14), .ref (g 0 15), .int (nI (cnt st 27)), .ref (g 0 17), .ref (g 0 18), .ref (g 0 19)])) := by rw [hV_2]; exact xu_s _ _ _
  refine lv_bipush (pc := 5) (v := (-10)) hx hb dX0_faulty_5 (by decide) ?_
  refine lv_iload_n (pc := 7) hx hb dX0_faulty_7 rfl (lv_at hl 1 rfl) ?_
  refine lv_isub (pc := 8) hx hb dX0_faulty_8 ?_
  exact x_iret E hr hlk hw dX0_faulty_9 ⟨rfl, by rw [hV_2]; rfl⟩
set_option maxHeartbeats 4000000 in
set_option maxRecDepth 100000 in
theorem xtX0_lost (l : Launch) (D : xD) (A : Nat → Prop) (V : xV) (st : mS) (g : xG) (b7 : Int32) (b8 : Int64) (b9 : Int32) (f : Int32) (hpx : V (g 0 0) = some (xXF st g b7 b8 b9)) : Met l yX0_lost (ws_ yX0_lost cX0_lost 2 (some .long)) (xRm 1 0 0) (xP D A V [.ref (g 0 0), .int f]) (xQ D A (fun ρ V' => ρ = (some (.long (-9223372036854775808))) ∧ V' = xu V (g 0 0) (xXF (mu st 0 0 f) g b7 b8 b9))) 0 0 A := by
  refine x_headW (own := RX0) (As := [.ref (g 0 0), .int f]) (bytes := cX0_lost) (maxL := 2) (ret := (some .long)) (by decide) rfl (Nat.le_of_ble_eq_true rfl) ?_
  intro p e s m below meth c E hml hr hlk hin2 hw ls hl
  have hx := E.1
  have hb := E.2.1
  have hts := E.2.2.1
  have hown := E.2.2.2.1
  have hl : lv_has ls 2 [(0, .ref (g 0 0)), (1, .int f)] := hl
  replace hpx : V (g 0 0) = some (.inr (0, [.int (st 0 0), .int (st 0 42), .ref (g 0 2), .ref (g 0 3), .int (nI (cnt st 12)), .ref (g 0 5), .ref (g 0 6), .int b7, .long b8, .int b9, .int (st 0 14), .ref (g 0 11), .int (nI (cnt st 24)), .int (st 0 25), .ref (g 0 14), .ref (g 0 15), .int (nI (cnt st 27)), .ref (g 0 17), .ref (g 0 18), .ref (g 0 19)])) := hpx
  refine lv_aload_n (pc := 0) hx hb dX0_lost_0 rfl (lv_at hl 0 rfl) ?_
  refine lv_iload_n (pc := 1) hx hb dX0_lost_1 rfl (lv_at hl 1 rfl) ?_
  refine x_put1 (pc := 2) (v := .int f) E hw 0 hpx (C := RX0) (T := TX0) (N := 20) rfl in_X0 tyX0 tyX0_ok (Nat.le_of_ble_eq_true rfl) q113 (fun _ h => h) rfl (tyX0_ok 0 (Nat.le_of_ble_eq_true rfl)) rfl rfl (Nat.le_of_ble_eq_true rfl) (fun j hj hne => Or.inl (nmX0 j hj 0 (Nat.le_of_ble_eq_true rfl) hne)) dX0_lost_2 (fun V_1 H locs hV_2 hw => ?_)
  replace hV_2 : V_1 = xu V (g 0 0) (.inr (0, [.int f, .int (st 0 42), .ref (g 0 2), .ref (g 0 3), .int (nI (cnt st 12)), .ref (g 0 5), .ref (g 0 6), .int b7, .long b8, .int b9, .int (st 0 14), .ref (g 0 11), .int (nI (cnt st 24)), .int (st 0 25), .ref (g 0 14), .ref (g 0 15), .int (nI (cnt st 27)), .ref (g 0 17), .ref (g 0 18), .ref (g 0 19)])) := hV_2
  have hp_3 : V_1 (g 0 0) = some (.inr (0, [.int f, .int (st 0 42), .ref (g 0 2), .ref (g 0 3), .int (nI (cnt st 12)), .ref (g 0 5), .ref (g 0 6), .int b7, .long b8, .int b9, .int (st 0 14), .ref (g 0 11), .int (nI (cnt st 24)), .int (st 0 25), .ref (g 0 14), .ref (g 0 15), .int (nI (cnt st 27)), .ref (g 0 17), .ref (g 0 18), .ref (g 0 19)])) := by rw [hV_2]; exact xu_s _ _ _
  refine lv_ldc2 (pc := 5) hx hb hown (hts _ q577) dX0_lost_5 ?_
  exact x_lret E hr hlk hw dX0_lost_8 ⟨rfl, by rw [hV_2]; rfl⟩
set_option maxHeartbeats 4000000 in
set_option maxRecDepth 100000 in
theorem xtX2_kind (l : Launch) (D : xD) (A : Nat → Prop) (V : xV) (g : xG) (q : Nat) (a b d sh : Int32)  (h1 : V q = some (.inr (1, [.int a, .int b, .int d, .int sh, .ref (g 0 0)]))) : Met l yX2_kind (ws_ yX2_kind cX2_kind 1 (some .int)) (xRm 1 0 0) (xP D A V [.ref q]) (k2_QcV (.int 0)) 0 0 (fun _ => False) := by
  refine x_headR (own := RX2) (As := [.ref q]) (bytes := cX2_kind) (maxL := 1) (ret := (some .int)) (by decide) rfl (Nat.le_of_ble_eq_true rfl) ?_
  intro p e s m below meth c E hml hr hlk hw0 ls hl
  have hw : xWd D A s V s.heap [] := ⟨hw0, va_S.rf⟩
  have hx := E.1
  have hb := E.2.1
  have hts := E.2.2.1
  have hown := E.2.2.2.1
  have hl : lv_has ls 1 [(0, .ref q)] := hl
  refine lv_iconst (pc := 0) (v := 0) hx hb dX2_kind_0 (by decide) ?_
  exact m_iretS hx hb hr hlk dX2_kind_1 rfl
set_option maxHeartbeats 4000000 in
set_option maxRecDepth 100000 in
theorem xtX3_kind (l : Launch) (D : xD) (A : Nat → Prop) (V : xV) (g : xG) (q : Nat) (a b d sh : Int32)  (h1 : V q = some (.inr (2, [.int a, .int b, .int d, .int sh, .ref (g 0 0), .ref (g 0 0)]))) : Met l yX3_kind (ws_ yX3_kind cX3_kind 1 (some .int)) (xRm 1 0 0) (xP D A V [.ref q]) (k2_QcV (.int 1)) 0 0 (fun _ => False) := by
  refine x_headR (own := RX3) (As := [.ref q]) (bytes := cX3_kind) (maxL := 1) (ret := (some .int)) (by decide) rfl (Nat.le_of_ble_eq_true rfl) ?_
  intro p e s m below meth c E hml hr hlk hw0 ls hl
  have hw : xWd D A s V s.heap [] := ⟨hw0, va_S.rf⟩
  have hx := E.1
  have hb := E.2.1
  have hts := E.2.2.1
  have hown := E.2.2.2.1
  have hl : lv_has ls 1 [(0, .ref q)] := hl
  refine lv_iconst (pc := 0) (v := 1) hx hb dX3_kind_0 (by decide) ?_
  exact m_iretS hx hb hr hlk dX3_kind_1 rfl
set_option maxHeartbeats 4000000 in
set_option maxRecDepth 100000 in
theorem xtX4_kind (l : Launch) (D : xD) (A : Nat → Prop) (V : xV) (g : xG) (q : Nat) (a b d sh wt : Int32)  (h1 : V q = some (.inr (3, [.int a, .int b, .int d, .int sh, .ref (g 0 0), .int wt, .ref (g 0 0)]))) : Met l yX4_kind (ws_ yX4_kind cX4_kind 1 (some .int)) (xRm 1 0 0) (xP D A V [.ref q]) (k2_QcV (.int 2)) 0 0 (fun _ => False) := by
  refine x_headR (own := RX4) (As := [.ref q]) (bytes := cX4_kind) (maxL := 1) (ret := (some .int)) (by decide) rfl (Nat.le_of_ble_eq_true rfl) ?_
  intro p e s m below meth c E hml hr hlk hw0 ls hl
  have hw : xWd D A s V s.heap [] := ⟨hw0, va_S.rf⟩
  have hx := E.1
  have hb := E.2.1
  have hts := E.2.2.1
  have hown := E.2.2.2.1
  have hl : lv_has ls 1 [(0, .ref q)] := hl
  refine lv_iconst (pc := 0) (v := 2) hx hb dX4_kind_0 (by decide) ?_
  exact m_iretS hx hb hr hlk dX4_kind_1 rfl
set_option maxHeartbeats 4000000 in
set_option maxRecDepth 100000 in
theorem xtX2_isOpen_1 (l : Launch) (D : xD) (A : Nat → Prop) (V : xV) (g : xG) (q : Nat) (a b d sh : Int32)  (h1 : V q = some (.inr (1, [.int a, .int b, .int d, .int sh, .ref (g 0 0)]))) : Met l yX2_isOpen (ws_ yX2_isOpen cX2_isOpen 1 (some .boolean)) (xRm 1 0 0) (xP D A V [.ref q]) (k2_QcV (.int (bI (sh = 0)))) 0 0 (fun _ => False) := by
  refine x_headR (own := RX2) (As := [.ref q]) (bytes := cX2_isOpen) (maxL := 1) (ret := (some .boolean)) (by decide) rfl (Nat.le_of_ble_eq_true rfl) ?_
  intro p e s m below meth c E hml hr hlk hw0 ls hl
  have hw : xWd D A s V s.heap [] := ⟨hw0, va_S.rf⟩
  have hx := E.1
  have hb := E.2.1
  have hts := E.2.2.1
  have hown := E.2.2.2.1
  have hl : lv_has ls 1 [(0, .ref q)] := hl
  refine lv_aload_n (pc := 0) hx hb dX2_isOpen_0 rfl (lv_at hl 0 rfl) ?_
  refine x_rd (pc := 1) (v := .int sh) E hw.1 3 h1 (C := RX2) (T := TX2) (N := 5) rfl in_X2 (Nat.le_of_ble_eq_true rfl) q213 (fun _ h => h) rfl dX2_isOpen_1 ?_
  refine li_ne (pc := 4) (tgt := 11) hx hb dX2_isOpen_4 (by decide) (fun c_1 => ?_) (fun c_1 => ?_)
  · refine lv_iconst (pc := 11) (v := 0) hx hb dX2_isOpen_11 (by decide) ?_
    exact m_zretS hx hb hr hlk dX2_isOpen_12 rfl ((bI_f (by simp_all)).symm)
  · refine lv_iconst (pc := 7) (v := 1) hx hb dX2_isOpen_7 (by decide) ?_
    refine lv_goto (pc := 8) (tgt := 12) hx hb dX2_isOpen_8 (by decide) ?_
    exact m_zretS hx hb hr hlk dX2_isOpen_12 rfl ((bI_t (by simp_all)).symm)
set_option maxHeartbeats 4000000 in
set_option maxRecDepth 100000 in
theorem xtX2_isOpen_2 (l : Launch) (D : xD) (A : Nat → Prop) (V : xV) (g : xG) (q : Nat) (a b d sh : Int32)  (h1 : V q = some (.inr (2, [.int a, .int b, .int d, .int sh, .ref (g 0 0), .ref (g 0 0)]))) : Met l yX2_isOpen (ws_ yX2_isOpen cX2_isOpen 1 (some .boolean)) (xRm 1 0 0) (xP D A V [.ref q]) (k2_QcV (.int (bI (sh = 0)))) 0 0 (fun _ => False) := by
  refine x_headR (own := RX2) (As := [.ref q]) (bytes := cX2_isOpen) (maxL := 1) (ret := (some .boolean)) (by decide) rfl (Nat.le_of_ble_eq_true rfl) ?_
  intro p e s m below meth c E hml hr hlk hw0 ls hl
  have hw : xWd D A s V s.heap [] := ⟨hw0, va_S.rf⟩
  have hx := E.1
  have hb := E.2.1
  have hts := E.2.2.1
  have hown := E.2.2.2.1
  have hl : lv_has ls 1 [(0, .ref q)] := hl
  refine lv_aload_n (pc := 0) hx hb dX2_isOpen_0 rfl (lv_at hl 0 rfl) ?_
  refine x_rd (pc := 1) (v := .int sh) E hw.1 3 h1 (C := RX3) (T := TX3) (N := 6) rfl in_X3 (Nat.le_of_ble_eq_true rfl) q213 (fun _ h => h) rfl dX2_isOpen_1 ?_
  refine li_ne (pc := 4) (tgt := 11) hx hb dX2_isOpen_4 (by decide) (fun c_1 => ?_) (fun c_1 => ?_)
  · refine lv_iconst (pc := 11) (v := 0) hx hb dX2_isOpen_11 (by decide) ?_
    exact m_zretS hx hb hr hlk dX2_isOpen_12 rfl ((bI_f (by simp_all)).symm)
  · refine lv_iconst (pc := 7) (v := 1) hx hb dX2_isOpen_7 (by decide) ?_
    refine lv_goto (pc := 8) (tgt := 12) hx hb dX2_isOpen_8 (by decide) ?_
    exact m_zretS hx hb hr hlk dX2_isOpen_12 rfl ((bI_t (by simp_all)).symm)
set_option maxHeartbeats 4000000 in
set_option maxRecDepth 100000 in
theorem xtX2_isOpen_3 (l : Launch) (D : xD) (A : Nat → Prop) (V : xV) (g : xG) (q : Nat) (a b d sh wt : Int32)  (h1 : V q = some (.inr (3, [.int a, .int b, .int d, .int sh, .ref (g 0 0), .int wt, .ref (g 0 0)]))) : Met l yX2_isOpen (ws_ yX2_isOpen cX2_isOpen 1 (some .boolean)) (xRm 1 0 0) (xP D A V [.ref q]) (k2_QcV (.int (bI (sh = 0)))) 0 0 (fun _ => False) := by
  refine x_headR (own := RX2) (As := [.ref q]) (bytes := cX2_isOpen) (maxL := 1) (ret := (some .boolean)) (by decide) rfl (Nat.le_of_ble_eq_true rfl) ?_
  intro p e s m below meth c E hml hr hlk hw0 ls hl
  have hw : xWd D A s V s.heap [] := ⟨hw0, va_S.rf⟩
  have hx := E.1
  have hb := E.2.1
  have hts := E.2.2.1
  have hown := E.2.2.2.1
  have hl : lv_has ls 1 [(0, .ref q)] := hl
  refine lv_aload_n (pc := 0) hx hb dX2_isOpen_0 rfl (lv_at hl 0 rfl) ?_
  refine x_rd (pc := 1) (v := .int sh) E hw.1 3 h1 (C := RX4) (T := TX4) (N := 7) rfl in_X4 (Nat.le_of_ble_eq_true rfl) q213 (fun _ h => h) rfl dX2_isOpen_1 ?_
  refine li_ne (pc := 4) (tgt := 11) hx hb dX2_isOpen_4 (by decide) (fun c_1 => ?_) (fun c_1 => ?_)
  · refine lv_iconst (pc := 11) (v := 0) hx hb dX2_isOpen_11 (by decide) ?_
    exact m_zretS hx hb hr hlk dX2_isOpen_12 rfl ((bI_f (by simp_all)).symm)
  · refine lv_iconst (pc := 7) (v := 1) hx hb dX2_isOpen_7 (by decide) ?_
    refine lv_goto (pc := 8) (tgt := 12) hx hb dX2_isOpen_8 (by decide) ?_
    exact m_zretS hx hb hr hlk dX2_isOpen_12 rfl ((bI_t (by simp_all)).symm)
set_option maxHeartbeats 4000000 in
set_option maxRecDepth 100000 in
theorem xtX4_isOpen (l : Launch) (D : xD) (A : Nat → Prop) (V : xV) (g : xG) (q : Nat) (a b d sh wt : Int32)  (h1 : V q = some (.inr (3, [.int a, .int b, .int d, .int sh, .ref (g 0 0), .int wt, .ref (g 0 0)]))) : Met l yX4_isOpen (ws_ yX4_isOpen cX4_isOpen 1 (some .boolean)) (xRm 2 0 0) (xP D A V [.ref q]) (k2_QcV (.int (bI (wt = 0 ∧ sh = 0)))) 0 0 (fun _ => False) := by
  refine x_headR (own := RX4) (As := [.ref q]) (bytes := cX4_isOpen) (maxL := 1) (ret := (some .boolean)) (by decide) rfl (Nat.le_of_ble_eq_true rfl) ?_
  intro p e s m below meth c E hml hr hlk hw0 ls hl
  have hw : xWd D A s V s.heap [] := ⟨hw0, va_S.rf⟩
  have hx := E.1
  have hb := E.2.1
  have hts := E.2.2.1
  have hown := E.2.2.2.1
  have hl : lv_has ls 1 [(0, .ref q)] := hl
  refine lv_aload_n (pc := 0) hx hb dX4_isOpen_0 rfl (lv_at hl 0 rfl) ?_
  refine x_rd (pc := 1) (v := .int wt) E hw.1 5 h1 (C := RX4) (T := TX4) (N := 7) rfl in_X4 (Nat.le_of_ble_eq_true rfl) q248 (fun _ h => h) rfl dX4_isOpen_1 ?_
  refine li_ne (pc := 4) (tgt := 18) hx hb dX4_isOpen_4 (by decide) (fun c_1 => ?_) (fun c_1 => ?_)
  · refine lv_iconst (pc := 18) (v := 0) hx hb dX4_isOpen_18 (by decide) ?_
    exact m_zretS hx hb hr hlk dX4_isOpen_19 rfl ((bI_f (by simp_all)).symm)
  · refine lv_aload_n (pc := 7) hx hb dX4_isOpen_7 rfl (lv_at hl 0 rfl) ?_
    refine x_goR (x_runSU (pc := 8) (As := []) (rest := []) E hml hl.1 hw.2 hw.1 h1 (C := RX4) (T := TX4) (N := 7) rfl (xtX2_isOpen_3 l D A V g q a b d sh wt h1) q472 q468 q260 q466 q53 q474 ⟨by decide, hdX2_isOpen.2.2.2⟩ ⟨Nat.le_of_ble_eq_true rfl, Nat.le_of_ble_eq_true rfl⟩ rfl rfl rfl (Nat.le_of_ble_eq_true rfl) dX4_isOpen_8 ⟨Nat.le_of_ble_eq_true rfl, Nat.le_of_ble_eq_true rfl⟩) ?_
    refine lb_eq (pc := 11) (tgt := 18) hx hb dX4_isOpen_11 (by decide) (fun c_2 => ?_) (fun c_2 => ?_)
    · refine lv_iconst (pc := 18) (v := 0) hx hb dX4_isOpen_18 (by decide) ?_
      exact m_zretS hx hb hr hlk dX4_isOpen_19 rfl ((bI_f (by simp_all)).symm)
    · refine lv_iconst (pc := 14) (v := 1) hx hb dX4_isOpen_14 (by decide) ?_
      refine lv_goto (pc := 15) (tgt := 19) hx hb dX4_isOpen_15 (by decide) ?_
      exact m_zretS hx hb hr hlk dX4_isOpen_19 rfl ((bI_t (by simp_all)).symm)
set_option maxHeartbeats 4000000 in
set_option maxRecDepth 100000 in
theorem xtX2_from_1 (l : Launch) (D : xD) (A : Nat → Prop) (V : xV) (g : xG) (q : Nat) (a b d sh : Int32) (x : Int32) (h1 : V q = some (.inr (1, [.int a, .int b, .int d, .int sh, .ref (g 0 0)]))) : Met l yX2_from (ws_ yX2_from cX2_from 2 (some .int)) (xRm 3 0 0) (xP D A V [.ref q, .int x]) (k2_QcV (.int (if sh = 0 then if x = a then b else if x = b then a else (-9) else (-9)))) 0 0 (fun _ => False) := by
  refine x_headR (own := RX2) (As := [.ref q, .int x]) (bytes := cX2_from) (maxL := 2) (ret := (some .int)) (by decide) rfl (Nat.le_of_ble_eq_true rfl) ?_
  intro p e s m below meth c E hml hr hlk hw0 ls hl
  have hw : xWd D A s V s.heap [] := ⟨hw0, va_S.rf⟩
  have hx := E.1
  have hb := E.2.1
  have hts := E.2.2.1
  have hown := E.2.2.2.1
  have hl : lv_has ls 2 [(0, .ref q), (1, .int x)] := hl
  refine lv_aload_n (pc := 0) hx hb dX2_from_0 rfl (lv_at hl 0 rfl) ?_
  refine x_goR (x_runV (pc := 1) (As := []) (rest := []) E hml hl.1 hw.2 hw.1 h1 (C := RX2) (T := TX2) (N := 5) rfl (xtX2_isOpen_1 l D A V g q a b d sh h1) q499 q466 q467 q53 q474 hdX2_isOpen ⟨Nat.le_of_ble_eq_true rfl, Nat.le_of_ble_eq_true rfl⟩ rfl rfl rfl (Nat.le_of_ble_eq_true rfl) dX2_from_1 ⟨Nat.le_of_ble_eq_true rfl, Nat.le_of_ble_eq_true rfl⟩) ?_
  refine lb_ne (pc := 4) (tgt := 12) hx hb dX2_from_4 (by decide) (fun c_1 => ?_) (fun c_1 => ?_)
  · refine lv_iload_n (pc := 12) hx hb dX2_from_12 rfl (lv_at hl 1 rfl) ?_
    refine lv_aload_n (pc := 13) hx hb dX2_from_13 rfl (lv_at hl 0 rfl) ?_
    refine x_rd (pc := 14) (v := .int a) E hw.1 0 h1 (C := RX2) (T := TX2) (N := 5) rfl in_X2 (Nat.le_of_ble_eq_true rfl) q205 (fun _ h => h) rfl dX2_from_14 ?_
    refine li_icne (pc := 17) (tgt := 27) hx hb dX2_from_17 (by decide) (fun c_2 => ?_) (fun c_2 => ?_)
    · refine lv_iload_n (pc := 27) hx hb dX2_from_27 rfl (lv_at hl 1 rfl) ?_
      refine lv_aload_n (pc := 28) hx hb dX2_from_28 rfl (lv_at hl 0 rfl) ?_
      refine x_rd (pc := 29) (v := .int b) E hw.1 1 h1 (C := RX2) (T := TX2) (N := 5) rfl in_X2 (Nat.le_of_ble_eq_true rfl) q207 (fun _ h => h) rfl dX2_from_29 ?_
      refine li_icne (pc := 32) (tgt := 42) hx hb dX2_from_32 (by decide) (fun c_3 => ?_) (fun c_3 => ?_)
      · refine lv_bipush (pc := 42) (v := (-9)) hx hb dX2_from_42 (by decide) ?_
        exact m_iretS hx hb hr hlk dX2_from_44 (by simp only [if_pos c_1, if_neg c_2, if_neg c_3])
      · refine lv_aload_n (pc := 35) hx hb dX2_from_35 rfl (lv_at hl 0 rfl) ?_
        refine x_rd (pc := 36) (v := .int a) E hw.1 0 h1 (C := RX2) (T := TX2) (N := 5) rfl in_X2 (Nat.le_of_ble_eq_true rfl) q205 (fun _ h => h) rfl dX2_from_36 ?_
        refine lv_goto (pc := 39) (tgt := 44) hx hb dX2_from_39 (by decide) ?_
        exact m_iretS hx hb hr hlk dX2_from_44 (by simp only [if_pos c_1, if_neg c_2, if_pos c_3])
    · refine lv_aload_n (pc := 20) hx hb dX2_from_20 rfl (lv_at hl 0 rfl) ?_
      refine x_rd (pc := 21) (v := .int b) E hw.1 1 h1 (C := RX2) (T := TX2) (N := 5) rfl in_X2 (Nat.le_of_ble_eq_true rfl) q207 (fun _ h => h) rfl dX2_from_21 ?_
      refine lv_goto (pc := 24) (tgt := 44) hx hb dX2_from_24 (by decide) ?_
      exact m_iretS hx hb hr hlk dX2_from_44 (by simp only [if_pos c_1, if_pos c_2])
  · refine lv_bipush (pc := 7) (v := (-9)) hx hb dX2_from_7 (by decide) ?_
    refine lv_goto (pc := 9) (tgt := 44) hx hb dX2_from_9 (by decide) ?_
    exact m_iretS hx hb hr hlk dX2_from_44 (by simp only [if_neg c_1])
set_option maxHeartbeats 4000000 in
set_option maxRecDepth 100000 in
theorem xtX2_from_2 (l : Launch) (D : xD) (A : Nat → Prop) (V : xV) (g : xG) (q : Nat) (a b d sh : Int32) (x : Int32) (h1 : V q = some (.inr (2, [.int a, .int b, .int d, .int sh, .ref (g 0 0), .ref (g 0 0)]))) : Met l yX2_from (ws_ yX2_from cX2_from 2 (some .int)) (xRm 3 0 0) (xP D A V [.ref q, .int x]) (k2_QcV (.int (if sh = 0 then if x = a then b else if x = b then a else (-9) else (-9)))) 0 0 (fun _ => False) := by
  refine x_headR (own := RX2) (As := [.ref q, .int x]) (bytes := cX2_from) (maxL := 2) (ret := (some .int)) (by decide) rfl (Nat.le_of_ble_eq_true rfl) ?_
  intro p e s m below meth c E hml hr hlk hw0 ls hl
  have hw : xWd D A s V s.heap [] := ⟨hw0, va_S.rf⟩
  have hx := E.1
  have hb := E.2.1
  have hts := E.2.2.1
  have hown := E.2.2.2.1
  have hl : lv_has ls 2 [(0, .ref q), (1, .int x)] := hl
  refine lv_aload_n (pc := 0) hx hb dX2_from_0 rfl (lv_at hl 0 rfl) ?_
  refine x_goR (x_runU (pc := 1) (As := []) (rest := []) E hml hl.1 hw.2 hw.1 h1 (C := RX3) (T := TX3) (N := 6) rfl (xtX2_isOpen_2 l D A V g q a b d sh h1) q499 q468 q473 q466 q53 q474 rfl hdX2_isOpen.2 ⟨Nat.le_of_ble_eq_true rfl, Nat.le_of_ble_eq_true rfl⟩ rfl rfl rfl (Nat.le_of_ble_eq_true rfl) dX2_from_1 ⟨Nat.le_of_ble_eq_true rfl, Nat.le_of_ble_eq_true rfl⟩) ?_
  refine lb_ne (pc := 4) (tgt := 12) hx hb dX2_from_4 (by decide) (fun c_1 => ?_) (fun c_1 => ?_)
  · refine lv_iload_n (pc := 12) hx hb dX2_from_12 rfl (lv_at hl 1 rfl) ?_
    refine lv_aload_n (pc := 13) hx hb dX2_from_13 rfl (lv_at hl 0 rfl) ?_
    refine x_rd (pc := 14) (v := .int a) E hw.1 0 h1 (C := RX3) (T := TX3) (N := 6) rfl in_X3 (Nat.le_of_ble_eq_true rfl) q205 (fun _ h => h) rfl dX2_from_14 ?_
    refine li_icne (pc := 17) (tgt := 27) hx hb dX2_from_17 (by decide) (fun c_2 => ?_) (fun c_2 => ?_)
    · refine lv_iload_n (pc := 27) hx hb dX2_from_27 rfl (lv_at hl 1 rfl) ?_
      refine lv_aload_n (pc := 28) hx hb dX2_from_28 rfl (lv_at hl 0 rfl) ?_
      refine x_rd (pc := 29) (v := .int b) E hw.1 1 h1 (C := RX3) (T := TX3) (N := 6) rfl in_X3 (Nat.le_of_ble_eq_true rfl) q207 (fun _ h => h) rfl dX2_from_29 ?_
      refine li_icne (pc := 32) (tgt := 42) hx hb dX2_from_32 (by decide) (fun c_3 => ?_) (fun c_3 => ?_)
      · refine lv_bipush (pc := 42) (v := (-9)) hx hb dX2_from_42 (by decide) ?_
        exact m_iretS hx hb hr hlk dX2_from_44 (by simp only [if_pos c_1, if_neg c_2, if_neg c_3])
      · refine lv_aload_n (pc := 35) hx hb dX2_from_35 rfl (lv_at hl 0 rfl) ?_
        refine x_rd (pc := 36) (v := .int a) E hw.1 0 h1 (C := RX3) (T := TX3) (N := 6) rfl in_X3 (Nat.le_of_ble_eq_true rfl) q205 (fun _ h => h) rfl dX2_from_36 ?_
        refine lv_goto (pc := 39) (tgt := 44) hx hb dX2_from_39 (by decide) ?_
        exact m_iretS hx hb hr hlk dX2_from_44 (by simp only [if_pos c_1, if_neg c_2, if_pos c_3])
    · refine lv_aload_n (pc := 20) hx hb dX2_from_20 rfl (lv_at hl 0 rfl) ?_
      refine x_rd (pc := 21) (v := .int b) E hw.1 1 h1 (C := RX3) (T := TX3) (N := 6) rfl in_X3 (Nat.le_of_ble_eq_true rfl) q207 (fun _ h => h) rfl dX2_from_21 ?_
      refine lv_goto (pc := 24) (tgt := 44) hx hb dX2_from_24 (by decide) ?_
      exact m_iretS hx hb hr hlk dX2_from_44 (by simp only [if_pos c_1, if_pos c_2])
  · refine lv_bipush (pc := 7) (v := (-9)) hx hb dX2_from_7 (by decide) ?_
    refine lv_goto (pc := 9) (tgt := 44) hx hb dX2_from_9 (by decide) ?_
    exact m_iretS hx hb hr hlk dX2_from_44 (by simp only [if_neg c_1])
set_option maxHeartbeats 4000000 in
set_option maxRecDepth 100000 in
theorem xtX2_from_3 (l : Launch) (D : xD) (A : Nat → Prop) (V : xV) (g : xG) (q : Nat) (a b d sh wt : Int32) (x : Int32) (h1 : V q = some (.inr (3, [.int a, .int b, .int d, .int sh, .ref (g 0 0), .int wt, .ref (g 0 0)]))) : Met l yX2_from (ws_ yX2_from cX2_from 2 (some .int)) (xRm 3 0 0) (xP D A V [.ref q, .int x]) (k2_QcV (.int (if wt = 0 ∧ sh = 0 then if x = a then b else if x = b then a else (-9) else (-9)))) 0 0 (fun _ => False) := by
  refine x_headR (own := RX2) (As := [.ref q, .int x]) (bytes := cX2_from) (maxL := 2) (ret := (some .int)) (by decide) rfl (Nat.le_of_ble_eq_true rfl) ?_
  intro p e s m below meth c E hml hr hlk hw0 ls hl
  have hw : xWd D A s V s.heap [] := ⟨hw0, va_S.rf⟩
  have hx := E.1
  have hb := E.2.1
  have hts := E.2.2.1
  have hown := E.2.2.2.1
  have hl : lv_has ls 2 [(0, .ref q), (1, .int x)] := hl
  refine lv_aload_n (pc := 0) hx hb dX2_from_0 rfl (lv_at hl 0 rfl) ?_
  refine x_goR (x_runO (pc := 1) (As := []) (rest := []) (x := yX2_isOpen) E hml hl.1 hw.2 hw.1 h1 (C := RX4) (T := TX4) (N := 7) rfl (xtX4_isOpen l D A V g q a b d sh wt h1) q499 q468 q469 q470 q55 q471 q466 q474 hdX2_isOpen.2 ⟨Nat.le_of_ble_eq_true rfl, Nat.le_of_ble_eq_true rfl⟩ rfl rfl rfl (Nat.le_of_ble_eq_true rfl) dX2_from_1 ⟨Nat.le_of_ble_eq_true rfl, Nat.le_of_ble_eq_true rfl⟩) ?_
  refine lb_ne (pc := 4) (tgt := 12) hx hb dX2_from_4 (by decide) (fun c_1 => ?_) (fun c_1 => ?_)
  · refine lv_iload_n (pc := 12) hx hb dX2_from_12 rfl (lv_at hl 1 rfl) ?_
    refine lv_aload_n (pc := 13) hx hb dX2_from_13 rfl (lv_at hl 0 rfl) ?_
    refine x_rd (pc := 14) (v := .int a) E hw.1 0 h1 (C := RX4) (T := TX4) (N := 7) rfl in_X4 (Nat.le_of_ble_eq_true rfl) q205 (fun _ h => h) rfl dX2_from_14 ?_
    refine li_icne (pc := 17) (tgt := 27) hx hb dX2_from_17 (by decide) (fun c_2 => ?_) (fun c_2 => ?_)
    · refine lv_iload_n (pc := 27) hx hb dX2_from_27 rfl (lv_at hl 1 rfl) ?_
      refine lv_aload_n (pc := 28) hx hb dX2_from_28 rfl (lv_at hl 0 rfl) ?_
      refine x_rd (pc := 29) (v := .int b) E hw.1 1 h1 (C := RX4) (T := TX4) (N := 7) rfl in_X4 (Nat.le_of_ble_eq_true rfl) q207 (fun _ h => h) rfl dX2_from_29 ?_
      refine li_icne (pc := 32) (tgt := 42) hx hb dX2_from_32 (by decide) (fun c_3 => ?_) (fun c_3 => ?_)
      · refine lv_bipush (pc := 42) (v := (-9)) hx hb dX2_from_42 (by decide) ?_
        exact m_iretS hx hb hr hlk dX2_from_44 (by simp only [if_pos c_1, if_neg c_2, if_neg c_3])
      · refine lv_aload_n (pc := 35) hx hb dX2_from_35 rfl (lv_at hl 0 rfl) ?_
        refine x_rd (pc := 36) (v := .int a) E hw.1 0 h1 (C := RX4) (T := TX4) (N := 7) rfl in_X4 (Nat.le_of_ble_eq_true rfl) q205 (fun _ h => h) rfl dX2_from_36 ?_
        refine lv_goto (pc := 39) (tgt := 44) hx hb dX2_from_39 (by decide) ?_
        exact m_iretS hx hb hr hlk dX2_from_44 (by simp only [if_pos c_1, if_neg c_2, if_pos c_3])
    · refine lv_aload_n (pc := 20) hx hb dX2_from_20 rfl (lv_at hl 0 rfl) ?_
      refine x_rd (pc := 21) (v := .int b) E hw.1 1 h1 (C := RX4) (T := TX4) (N := 7) rfl in_X4 (Nat.le_of_ble_eq_true rfl) q207 (fun _ h => h) rfl dX2_from_21 ?_
      refine lv_goto (pc := 24) (tgt := 44) hx hb dX2_from_24 (by decide) ?_
      exact m_iretS hx hb hr hlk dX2_from_44 (by simp only [if_pos c_1, if_pos c_2])
  · refine lv_bipush (pc := 7) (v := (-9)) hx hb dX2_from_7 (by decide) ?_
    refine lv_goto (pc := 9) (tgt := 44) hx hb dX2_from_9 (by decide) ?_
    exact m_iretS hx hb hr hlk dX2_from_44 (by simp only [if_neg c_1])
set_option maxHeartbeats 4000000 in
set_option maxRecDepth 100000 in
theorem xtX3_from (l : Launch) (D : xD) (A : Nat → Prop) (V : xV) (g : xG) (q : Nat) (a b d sh : Int32) (x : Int32) (h1 : V q = some (.inr (2, [.int a, .int b, .int d, .int sh, .ref (g 0 0), .ref (g 0 0)]))) : Met l yX3_from (ws_ yX3_from cX3_from 2 (some .int)) (xRm 4 0 0) (xP D A V [.ref q, .int x]) (k2_QcV (.int (if x = b then (-9) else if sh = 0 then if x = a then b else if x = b then a else (-9) else (-9)))) 0 0 (fun _ => False) := by
  refine x_headR (own := RX3) (As := [.ref q, .int x]) (bytes := cX3_from) (maxL := 2) (ret := (some .int)) (by decide) rfl (Nat.le_of_ble_eq_true rfl) ?_
  intro p e s m below meth c E hml hr hlk hw0 ls hl
  have hw : xWd D A s V s.heap [] := ⟨hw0, va_S.rf⟩
  have hx := E.1
  have hb := E.2.1
  have hts := E.2.2.1
  have hown := E.2.2.2.1
  have hl : lv_has ls 2 [(0, .ref q), (1, .int x)] := hl
  refine lv_iload_n (pc := 0) hx hb dX3_from_0 rfl (lv_at hl 1 rfl) ?_
  refine lv_aload_n (pc := 1) hx hb dX3_from_1 rfl (lv_at hl 0 rfl) ?_
  refine x_rd (pc := 2) (v := .int b) E hw.1 1 h1 (C := RX3) (T := TX3) (N := 6) rfl in_X3 (Nat.le_of_ble_eq_true rfl) q208 (u_same (E.2.2.1 _ q209)) rfl dX3_from_2 ?_
  refine li_icne (pc := 5) (tgt := 13) hx hb dX3_from_5 (by decide) (fun c_1 => ?_) (fun c_1 => ?_)
  · refine lv_aload_n (pc := 13) hx hb dX3_from_13 rfl (lv_at hl 0 rfl) ?_
    refine lv_iload_n (pc := 14) hx hb dX3_from_14 rfl (lv_at hl 1 rfl) ?_
    refine x_goR (x_runSU (pc := 15) (As := [.int x]) (rest := []) E hml hl.1 hw.2 hw.1 h1 (C := RX3) (T := TX3) (N := 6) rfl (xtX2_from_2 l D A V g q a b d sh x h1) q497 q492 q241 q490 q53 q498 ⟨by decide, hdX2_from.2.2.2⟩ ⟨Nat.le_of_ble_eq_true rfl, Nat.le_of_ble_eq_true rfl⟩ rfl rfl rfl (Nat.le_of_ble_eq_true rfl) dX3_from_15 ⟨Nat.le_of_ble_eq_true rfl, Nat.le_of_ble_eq_true rfl⟩) ?_
    exact m_iretS hx hb hr hlk dX3_from_18 (by simp only [if_neg c_1])
  · refine lv_bipush (pc := 8) (v := (-9)) hx hb dX3_from_8 (by decide) ?_
    refine lv_goto (pc := 10) (tgt := 18) hx hb dX3_from_10 (by decide) ?_
    exact m_iretS hx hb hr hlk dX3_from_18 (by simp only [if_pos c_1])
set_option maxHeartbeats 4000000 in
set_option maxRecDepth 100000 in
theorem xtX2_tell_1 (l : Launch) (D : xD) (A : Nat → Prop) (V : xV) (g : xG) (q : Nat) (a b d sh : Int32) (st : mS) (b7 : Int32) (b8 : Int64) (b9 : Int32)  (h1 : V q = some (.inr (1, [.int a, .int b, .int d, .int sh, .ref (g 0 0)]))) (hpx : V (g 0 0) = some (xXF st g b7 b8 b9)) : Met l yX2_tell (ws_ yX2_tell cX2_tell 1 (some .int)) (xRm 2 0 0) (xP D A V [.ref q]) (xQ D A (fun ρ V' => ρ = (some (.int d)) ∧ V' = xu V (g 0 0) (xXF (tr1 st 1) g b7 b8 b9))) 0 0 A := by
  refine x_headW (own := RX2) (As := [.ref q]) (bytes := cX2_tell) (maxL := 1) (ret := (some .int)) (by decide) rfl (Nat.le_of_ble_eq_true rfl) ?_
  intro p e s m below meth c E hml hr hlk hin2 hw ls hl
  have hx := E.1
  have hb := E.2.1
  have hts := E.2.2.1
  have hown := E.2.2.2.1
  have hl : lv_has ls 1 [(0, .ref q)] := hl
  replace hpx : V (g 0 0) = some (.inr (0, [.int (st 0 0), .int (st 0 42), .ref (g 0 2), .ref (g 0 3), .int (nI (cnt st 12)), .ref (g 0 5), .ref (g 0 6), .int b7, .long b8, .int b9, .int (st 0 14), .ref (g 0 11), .int (nI (cnt st 24)), .int (st 0 25), .ref (g 0 14), .ref (g 0 15), .int (nI (cnt st 27)), .ref (g 0 17), .ref (g 0 18), .ref (g 0 19)])) := hpx
  refine lv_aload_n (pc := 0) hx hb dX2_tell_0 rfl (lv_at hl 0 rfl) ?_
  refine x_rd (pc := 1) (v := .ref (g 0 0)) E hw.1 4 h1 (C := RX2) (T := TX2) (N := 5) rfl in_X2 (Nat.le_of_ble_eq_true rfl) q215 (fun _ h => h) rfl dX2_tell_1 ?_
  refine lv_iconst (pc := 4) (v := 1) hx hb dX2_tell_4 (by decide) ?_
  refine x_goWn hw (x_runVN (pc := 5) (As := [.int 1]) (rest := []) E hml hl.1 hw.2 hw.1 hpx (C := RX0) (T := TX0) (N := 20) rfl (xtX0_begins l D A V st g b7 b8 b9 1 hpx) q998 q989 qs21 q48 q990 hdX0_begins.2 ⟨Nat.le_of_ble_eq_true rfl, Nat.le_of_ble_eq_true rfl⟩ rfl rfl rfl (Nat.le_of_ble_eq_true rfl) dX2_tell_5 ⟨Nat.le_of_ble_eq_true rfl, Nat.le_of_ble_eq_true rfl⟩) (fun V_1 H locs hF_2 hw => ?_)
  have hp_3 : V_1 (g 0 0) = some (.inr (0, [.int ((tr1 st 1) 0 0), .int ((tr1 st 1) 0 42), .ref (g 0 2), .ref (g 0 3), .int (nI (cnt (tr1 st 1) 12)), .ref (g 0 5), .ref (g 0 6), .int b7, .long b8, .int b9, .int ((tr1 st 1) 0 14), .ref (g 0 11), .int (nI (cnt (tr1 st 1) 24)), .int ((tr1 st 1) 0 25), .ref (g 0 14), .ref (g 0 15), .int (nI (cnt (tr1 st 1) 27)), .ref (g 0 17), .ref (g 0 18), .ref (g 0 19)])) := by rw [hF_2]; exact xu_s _ _ _
  refine lv_aload_n (pc := 8) hx hb dX2_tell_8 rfl (lv_at hl 0 rfl) ?_
  have hp_4 : V_1 q = some (.inr (1, [.int a, .int b, .int d, .int sh, .ref (g 0 0)])) := by rw [hF_2, xu_n (x_ne h1 hpx (by intro h; cases h))]; exact h1
  refine x_rd (pc := 9) (v := .int d) E hw.1 2 hp_4 (C := RX2) (T := TX2) (N := 5) rfl in_X2 (Nat.le_of_ble_eq_true rfl) q211 (fun _ h => h) rfl dX2_tell_9 ?_
  refine x_more 0 0 (Nat.le_of_ble_eq_true rfl) (Nat.le_of_ble_eq_true rfl) ?_
  exact x_iret E hr hlk hw dX2_tell_12 ⟨rfl, by rw [hF_2]⟩
set_option maxHeartbeats 4000000 in
set_option maxRecDepth 100000 in
theorem xtX2_tell_2 (l : Launch) (D : xD) (A : Nat → Prop) (V : xV) (g : xG) (q : Nat) (a b d sh : Int32) (st : mS) (b7 : Int32) (b8 : Int64) (b9 : Int32)  (h1 : V q = some (.inr (2, [.int a, .int b, .int d, .int sh, .ref (g 0 0), .ref (g 0 0)]))) (hpx : V (g 0 0) = some (xXF st g b7 b8 b9)) : Met l yX2_tell (ws_ yX2_tell cX2_tell 1 (some .int)) (xRm 2 0 0) (xP D A V [.ref q]) (xQ D A (fun ρ V' => ρ = (some (.int d)) ∧ V' = xu V (g 0 0) (xXF (tr1 st 1) g b7 b8 b9))) 0 0 A := by
  refine x_headW (own := RX2) (As := [.ref q]) (bytes := cX2_tell) (maxL := 1) (ret := (some .int)) (by decide) rfl (Nat.le_of_ble_eq_true rfl) ?_
  intro p e s m below meth c E hml hr hlk hin2 hw ls hl
  have hx := E.1
  have hb := E.2.1
  have hts := E.2.2.1
  have hown := E.2.2.2.1
  have hl : lv_has ls 1 [(0, .ref q)] := hl
  replace hpx : V (g 0 0) = some (.inr (0, [.int (st 0 0), .int (st 0 42), .ref (g 0 2), .ref (g 0 3), .int (nI (cnt st 12)), .ref (g 0 5), .ref (g 0 6), .int b7, .long b8, .int b9, .int (st 0 14), .ref (g 0 11), .int (nI (cnt st 24)), .int (st 0 25), .ref (g 0 14), .ref (g 0 15), .int (nI (cnt st 27)), .ref (g 0 17), .ref (g 0 18), .ref (g 0 19)])) := hpx
  refine lv_aload_n (pc := 0) hx hb dX2_tell_0 rfl (lv_at hl 0 rfl) ?_
  refine x_rd (pc := 1) (v := .ref (g 0 0)) E hw.1 4 h1 (C := RX3) (T := TX3) (N := 6) rfl in_X3 (Nat.le_of_ble_eq_true rfl) q215 (fun _ h => h) rfl dX2_tell_1 ?_
  refine lv_iconst (pc := 4) (v := 1) hx hb dX2_tell_4 (by decide) ?_
  refine x_goWn hw (x_runVN (pc := 5) (As := [.int 1]) (rest := []) E hml hl.1 hw.2 hw.1 hpx (C := RX0) (T := TX0) (N := 20) rfl (xtX0_begins l D A V st g b7 b8 b9 1 hpx) q998 q989 qs21 q48 q990 hdX0_begins.2 ⟨Nat.le_of_ble_eq_true rfl, Nat.le_of_ble_eq_true rfl⟩ rfl rfl rfl (Nat.le_of_ble_eq_true rfl) dX2_tell_5 ⟨Nat.le_of_ble_eq_true rfl, Nat.le_of_ble_eq_true rfl⟩) (fun V_1 H locs hF_2 hw => ?_)
  have hp_3 : V_1 (g 0 0) = some (.inr (0, [.int ((tr1 st 1) 0 0), .int ((tr1 st 1) 0 42), .ref (g 0 2), .ref (g 0 3), .int (nI (cnt (tr1 st 1) 12)), .ref (g 0 5), .ref (g 0 6), .int b7, .long b8, .int b9, .int ((tr1 st 1) 0 14), .ref (g 0 11), .int (nI (cnt (tr1 st 1) 24)), .int ((tr1 st 1) 0 25), .ref (g 0 14), .ref (g 0 15), .int (nI (cnt (tr1 st 1) 27)), .ref (g 0 17), .ref (g 0 18), .ref (g 0 19)])) := by rw [hF_2]; exact xu_s _ _ _
  refine lv_aload_n (pc := 8) hx hb dX2_tell_8 rfl (lv_at hl 0 rfl) ?_
  have hp_4 : V_1 q = some (.inr (2, [.int a, .int b, .int d, .int sh, .ref (g 0 0), .ref (g 0 0)])) := by rw [hF_2, xu_n (x_ne h1 hpx (by intro h; cases h))]; exact h1
  refine x_rd (pc := 9) (v := .int d) E hw.1 2 hp_4 (C := RX3) (T := TX3) (N := 6) rfl in_X3 (Nat.le_of_ble_eq_true rfl) q211 (fun _ h => h) rfl dX2_tell_9 ?_
  refine x_more 0 0 (Nat.le_of_ble_eq_true rfl) (Nat.le_of_ble_eq_true rfl) ?_
  exact x_iret E hr hlk hw dX2_tell_12 ⟨rfl, by rw [hF_2]⟩
set_option maxHeartbeats 4000000 in
set_option maxRecDepth 100000 in
theorem xtX2_tell_3 (l : Launch) (D : xD) (A : Nat → Prop) (V : xV) (g : xG) (q : Nat) (a b d sh wt : Int32) (st : mS) (b7 : Int32) (b8 : Int64) (b9 : Int32)  (h1 : V q = some (.inr (3, [.int a, .int b, .int d, .int sh, .ref (g 0 0), .int wt, .ref (g 0 0)]))) (hpx : V (g 0 0) = some (xXF st g b7 b8 b9)) : Met l yX2_tell (ws_ yX2_tell cX2_tell 1 (some .int)) (xRm 2 0 0) (xP D A V [.ref q]) (xQ D A (fun ρ V' => ρ = (some (.int d)) ∧ V' = xu V (g 0 0) (xXF (tr1 st 1) g b7 b8 b9))) 0 0 A := by
  refine x_headW (own := RX2) (As := [.ref q]) (bytes := cX2_tell) (maxL := 1) (ret := (some .int)) (by decide) rfl (Nat.le_of_ble_eq_true rfl) ?_
  intro p e s m below meth c E hml hr hlk hin2 hw ls hl
  have hx := E.1
  have hb := E.2.1
  have hts := E.2.2.1
  have hown := E.2.2.2.1
  have hl : lv_has ls 1 [(0, .ref q)] := hl
  replace hpx : V (g 0 0) = some (.inr (0, [.int (st 0 0), .int (st 0 42), .ref (g 0 2), .ref (g 0 3), .int (nI (cnt st 12)), .ref (g 0 5), .ref (g 0 6), .int b7, .long b8, .int b9, .int (st 0 14), .ref (g 0 11), .int (nI (cnt st 24)), .int (st 0 25), .ref (g 0 14), .ref (g 0 15), .int (nI (cnt st 27)), .ref (g 0 17), .ref (g 0 18), .ref (g 0 19)])) := hpx
  refine lv_aload_n (pc := 0) hx hb dX2_tell_0 rfl (lv_at hl 0 rfl) ?_
  refine x_rd (pc := 1) (v := .ref (g 0 0)) E hw.1 4 h1 (C := RX4) (T := TX4) (N := 7) rfl in_X4 (Nat.le_of_ble_eq_true rfl) q215 (fun _ h => h) rfl dX2_tell_1 ?_
  refine lv_iconst (pc := 4) (v := 1) hx hb dX2_tell_4 (by decide) ?_
  refine x_goWn hw (x_runVN (pc := 5) (As := [.int 1]) (rest := []) E hml hl.1 hw.2 hw.1 hpx (C := RX0) (T := TX0) (N := 20) rfl (xtX0_begins l D A V st g b7 b8 b9 1 hpx) q998 q989 qs21 q48 q990 hdX0_begins.2 ⟨Nat.le_of_ble_eq_true rfl, Nat.le_of_ble_eq_true rfl⟩ rfl rfl rfl (Nat.le_of_ble_eq_true rfl) dX2_tell_5 ⟨Nat.le_of_ble_eq_true rfl, Nat.le_of_ble_eq_true rfl⟩) (fun V_1 H locs hF_2 hw => ?_)
  have hp_3 : V_1 (g 0 0) = some (.inr (0, [.int ((tr1 st 1) 0 0), .int ((tr1 st 1) 0 42), .ref (g 0 2), .ref (g 0 3), .int (nI (cnt (tr1 st 1) 12)), .ref (g 0 5), .ref (g 0 6), .int b7, .long b8, .int b9, .int ((tr1 st 1) 0 14), .ref (g 0 11), .int (nI (cnt (tr1 st 1) 24)), .int ((tr1 st 1) 0 25), .ref (g 0 14), .ref (g 0 15), .int (nI (cnt (tr1 st 1) 27)), .ref (g 0 17), .ref (g 0 18), .ref (g 0 19)])) := by rw [hF_2]; exact xu_s _ _ _
  refine lv_aload_n (pc := 8) hx hb dX2_tell_8 rfl (lv_at hl 0 rfl) ?_
  have hp_4 : V_1 q = some (.inr (3, [.int a, .int b, .int d, .int sh, .ref (g 0 0), .int wt, .ref (g 0 0)])) := by rw [hF_2, xu_n (x_ne h1 hpx (by intro h; cases h))]; exact h1
  refine x_rd (pc := 9) (v := .int d) E hw.1 2 hp_4 (C := RX4) (T := TX4) (N := 7) rfl in_X4 (Nat.le_of_ble_eq_true rfl) q211 (fun _ h => h) rfl dX2_tell_9 ?_
  refine x_more 0 0 (Nat.le_of_ble_eq_true rfl) (Nat.le_of_ble_eq_true rfl) ?_
  exact x_iret E hr hlk hw dX2_tell_12 ⟨rfl, by rw [hF_2]⟩
set_option maxHeartbeats 4000000 in
set_option maxRecDepth 100000 in
theorem xtX3_tell (l : Launch) (D : xD) (A : Nat → Prop) (V : xV) (g : xG) (q : Nat) (a b d sh : Int32) (st : mS) (b7 : Int32) (b8 : Int64) (b9 : Int32)  (h1 : V q = some (.inr (2, [.int a, .int b, .int d, .int sh, .ref (g 0 0), .ref (g 0 0)]))) (hpx : V (g 0 0) = some (xXF st g b7 b8 b9)) : Met l yX3_tell (ws_ yX3_tell cX3_tell 1 (some .int)) (xRm 3 0 0) (xP D A V [.ref q]) (xQ D A (fun ρ V' => ρ = (some (.int (1 + d))) ∧ V' = xu V (g 0 0) (xXF (tr1 (tr1 st 2) 1) g b7 b8 b9))) 0 0 A := by
  refine x_headW (own := RX3) (As := [.ref q]) (bytes := cX3_tell) (maxL := 1) (ret := (some .int)) (by decide) rfl (Nat.le_of_ble_eq_true rfl) ?_
  intro p e s m below meth c E hml hr hlk hin2 hw ls hl
  have hx := E.1
  have hb := E.2.1
  have hts := E.2.2.1
  have hown := E.2.2.2.1
  have hl : lv_has ls 1 [(0, .ref q)] := hl
  replace hpx : V (g 0 0) = some (.inr (0, [.int (st 0 0), .int (st 0 42), .ref (g 0 2), .ref (g 0 3), .int (nI (cnt st 12)), .ref (g 0 5), .ref (g 0 6), .int b7, .long b8, .int b9, .int (st 0 14), .ref (g 0 11), .int (nI (cnt st 24)), .int (st 0 25), .ref (g 0 14), .ref (g 0 15), .int (nI (cnt st 27)), .ref (g 0 17), .ref (g 0 18), .ref (g 0 19)])) := hpx
  refine lv_aload_n (pc := 0) hx hb dX3_tell_0 rfl (lv_at hl 0 rfl) ?_
  refine x_rd (pc := 1) (v := .ref (g 0 0)) E hw.1 5 h1 (C := RX3) (T := TX3) (N := 6) rfl in_X3 (Nat.le_of_ble_eq_true rfl) q233 (fun _ h => h) rfl dX3_tell_1 ?_
  refine lv_iconst (pc := 4) (v := 2) hx hb dX3_tell_4 (by decide) ?_
  refine x_goWn hw (x_runVN (pc := 5) (As := [.int 2]) (rest := []) E hml hl.1 hw.2 hw.1 hpx (C := RX0) (T := TX0) (N := 20) rfl (xtX0_begins l D A V st g b7 b8 b9 2 hpx) q995 q989 qs21 q48 q990 hdX0_begins.2 ⟨Nat.le_of_ble_eq_true rfl, Nat.le_of_ble_eq_true rfl⟩ rfl rfl rfl (Nat.le_of_ble_eq_true rfl) dX3_tell_5 ⟨Nat.le_of_ble_eq_true rfl, Nat.le_of_ble_eq_true rfl⟩) (fun V_1 H locs hF_2 hw => ?_)
  have hp_3 : V_1 (g 0 0) = some (.inr (0, [.int ((tr1 st 2) 0 0), .int ((tr1 st 2) 0 42), .ref (g 0 2), .ref (g 0 3), .int (nI (cnt (tr1 st 2) 12)), .ref (g 0 5), .ref (g 0 6), .int b7, .long b8, .int b9, .int ((tr1 st 2) 0 14), .ref (g 0 11), .int (nI (cnt (tr1 st 2) 24)), .int ((tr1 st 2) 0 25), .ref (g 0 14), .ref (g 0 15), .int (nI (cnt (tr1 st 2) 27)), .ref (g 0 17), .ref (g 0 18), .ref (g 0 19)])) := by rw [hF_2]; exact xu_s _ _ _
  refine lv_iconst (pc := 8) (v := 1) hx hb dX3_tell_8 (by decide) ?_
  refine lv_aload_n (pc := 9) hx hb dX3_tell_9 rfl (lv_at hl 0 rfl) ?_
  have hp_4 : V_1 q = some (.inr (2, [.int a, .int b, .int d, .int sh, .ref (g 0 0), .ref (g 0 0)])) := by rw [hF_2, xu_n (x_ne h1 hpx (by intro h; cases h))]; exact h1
  refine x_goWv hw (x_runSU (pc := 10) (As := []) (rest := [.int 1]) E hml hl.1 hw.2 hw.1 hp_4 (C := RX3) (T := TX3) (N := 6) rfl (xtX2_tell_2 l D A V_1 g q a b d sh (tr1 st 2) b7 b8 b9 hp_4 hp_3) q996 q983 q241 q981 q53 q997 ⟨by decide, hdX2_tell.2.2.2⟩ ⟨Nat.le_of_ble_eq_true rfl, Nat.le_of_ble_eq_true rfl⟩ rfl rfl rfl (Nat.le_of_ble_eq_true rfl) dX3_tell_10 ⟨Nat.le_of_ble_eq_true rfl, Nat.le_of_ble_eq_true rfl⟩) (fun V_5 H locs hF_6 hw => ?_)
  have hp_7 : V_5 (g 0 0) = some (.inr (0, [.int ((tr1 (tr1 st 2) 1) 0 0), .int ((tr1 (tr1 st 2) 1) 0 42), .ref (g 0 2), .ref (g 0 3), .int (nI (cnt (tr1 (tr1 st 2) 1) 12)), .ref (g 0 5), .ref (g 0 6), .int b7, .long b8, .int b9, .int ((tr1 (tr1 st 2) 1) 0 14), .ref (g 0 11), .int (nI (cnt (tr1 (tr1 st 2) 1) 24)), .int ((tr1 (tr1 st 2) 1) 0 25), .ref (g 0 14), .ref (g 0 15), .int (nI (cnt (tr1 (tr1 st 2) 1) 27)), .ref (g 0 17), .ref (g 0 18), .ref (g 0 19)])) := by rw [hF_6]; exact xu_s _ _ _
  refine lv_iadd (pc := 13) hx hb dX3_tell_13 ?_
  refine x_more 0 0 (Nat.le_of_ble_eq_true rfl) (Nat.le_of_ble_eq_true rfl) ?_
  exact x_iret E hr hlk hw dX3_tell_14 ⟨rfl, by rw [hF_6, hF_2, xu_xu]⟩
set_option maxHeartbeats 4000000 in
set_option maxRecDepth 100000 in
theorem xtX4_tell (l : Launch) (D : xD) (A : Nat → Prop) (V : xV) (g : xG) (q : Nat) (a b d sh wt : Int32) (st : mS) (b7 : Int32) (b8 : Int64) (b9 : Int32)  (h1 : V q = some (.inr (3, [.int a, .int b, .int d, .int sh, .ref (g 0 0), .int wt, .ref (g 0 0)]))) (hpx : V (g 0 0) = some (xXF st g b7 b8 b9)) : Met l yX4_tell (ws_ yX4_tell cX4_tell 2 (some .int)) (xRm 3 0 0) (xP D A V [.ref q]) (xQ D A (fun ρ V' => ρ = (some (.int (if wt = 0 then d else -d))) ∧ V' = xu V (g 0 0) (xXF (tr1 (tr1 st 3) 1) g b7 b8 b9))) 0 0 A := by
  refine x_headW (own := RX4) (As := [.ref q]) (bytes := cX4_tell) (maxL := 2) (ret := (some .int)) (by decide) rfl (Nat.le_of_ble_eq_true rfl) ?_
  intro p e s m below meth c E hml hr hlk hin2 hw ls hl
  have hx := E.1
  have hb := E.2.1
  have hts := E.2.2.1
  have hown := E.2.2.2.1
  have hl : lv_has ls 2 [(0, .ref q)] := hl
  replace hpx : V (g 0 0) = some (.inr (0, [.int (st 0 0), .int (st 0 42), .ref (g 0 2), .ref (g 0 3), .int (nI (cnt st 12)), .ref (g 0 5), .ref (g 0 6), .int b7, .long b8, .int b9, .int (st 0 14), .ref (g 0 11), .int (nI (cnt st 24)), .int (st 0 25), .ref (g 0 14), .ref (g 0 15), .int (nI (cnt st 27)), .ref (g 0 17), .ref (g 0 18), .ref (g 0 19)])) := hpx
  refine lv_aload_n (pc := 0) hx hb dX4_tell_0 rfl (lv_at hl 0 rfl) ?_
  refine x_rd (pc := 1) (v := .ref (g 0 0)) E hw.1 6 h1 (C := RX4) (T := TX4) (N := 7) rfl in_X4 (Nat.le_of_ble_eq_true rfl) q250 (fun _ h => h) rfl dX4_tell_1 ?_
  refine lv_iconst (pc := 4) (v := 3) hx hb dX4_tell_4 (by decide) ?_
  refine x_goWn hw (x_runVN (pc := 5) (As := [.int 3]) (rest := []) E hml hl.1 hw.2 hw.1 hpx (C := RX0) (T := TX0) (N := 20) rfl (xtX0_begins l D A V st g b7 b8 b9 3 hpx) q987 q989 qs21 q48 q990 hdX0_begins.2 ⟨Nat.le_of_ble_eq_true rfl, Nat.le_of_ble_eq_true rfl⟩ rfl rfl rfl (Nat.le_of_ble_eq_true rfl) dX4_tell_5 ⟨Nat.le_of_ble_eq_true rfl, Nat.le_of_ble_eq_true rfl⟩) (fun V_1 H locs hF_2 hw => ?_)
  have hp_3 : V_1 (g 0 0) = some (.inr (0, [.int ((tr1 st 3) 0 0), .int ((tr1 st 3) 0 42), .ref (g 0 2), .ref (g 0 3), .int (nI (cnt (tr1 st 3) 12)), .ref (g 0 5), .ref (g 0 6), .int b7, .long b8, .int b9, .int ((tr1 st 3) 0 14), .ref (g 0 11), .int (nI (cnt (tr1 st 3) 24)), .int ((tr1 st 3) 0 25), .ref (g 0 14), .ref (g 0 15), .int (nI (cnt (tr1 st 3) 27)), .ref (g 0 17), .ref (g 0 18), .ref (g 0 19)])) := by rw [hF_2]; exact xu_s _ _ _
  refine lv_aload_n (pc := 8) hx hb dX4_tell_8 rfl (lv_at hl 0 rfl) ?_
  have hp_4 : V_1 q = some (.inr (3, [.int a, .int b, .int d, .int sh, .ref (g 0 0), .int wt, .ref (g 0 0)])) := by rw [hF_2, xu_n (x_ne h1 hpx (by intro h; cases h))]; exact h1
  refine x_goWv hw (x_runSU (pc := 9) (As := []) (rest := []) E hml hl.1 hw.2 hw.1 hp_4 (C := RX4) (T := TX4) (N := 7) rfl (xtX2_tell_3 l D A V_1 g q a b d sh wt (tr1 st 3) b7 b8 b9 hp_4 hp_3) q991 q983 q260 q981 q53 q997 ⟨by decide, hdX2_tell.2.2.2⟩ ⟨Nat.le_of_ble_eq_true rfl, Nat.le_of_ble_eq_true rfl⟩ rfl rfl rfl (Nat.le_of_ble_eq_true rfl) dX4_tell_9 ⟨Nat.le_of_ble_eq_true rfl, Nat.le_of_ble_eq_true rfl⟩) (fun V_5 H locs hF_6 hw => ?_)
  have hp_7 : V_5 (g 0 0) = some (.inr (0, [.int ((tr1 (tr1 st 3) 1) 0 0), .int ((tr1 (tr1 st 3) 1) 0 42), .ref (g 0 2), .ref (g 0 3), .int (nI (cnt (tr1 (tr1 st 3) 1) 12)), .ref (g 0 5), .ref (g 0 6), .int b7, .long b8, .int b9, .int ((tr1 (tr1 st 3) 1) 0 14), .ref (g 0 11), .int (nI (cnt (tr1 (tr1 st 3) 1) 24)), .int ((tr1 (tr1 st 3) 1) 0 25), .ref (g 0 14), .ref (g 0 15), .int (nI (cnt (tr1 (tr1 st 3) 1) 27)), .ref (g 0 17), .ref (g 0 18), .ref (g 0 19)])) := by rw [hF_6]; exact xu_s _ _ _
  refine lv_istore_n (pc := 12) (lv' := [(1, .int d), (0, .ref q)]) hx hb dX4_tell_12 rfl hl (by decide) rfl (fun ls hl => ?_)
  refine lv_aload_n (pc := 13) hx hb dX4_tell_13 rfl (lv_at hl 1 rfl) ?_
  have hp_8 : V_5 q = some (.inr (3, [.int a, .int b, .int d, .int sh, .ref (g 0 0), .int wt, .ref (g 0 0)])) := by rw [hF_6, xu_n (x_ne hp_4 hp_3 (by intro h; cases h))]; exact hp_4
  refine x_rd (pc := 14) (v := .int wt) E hw.1 5 hp_8 (C := RX4) (T := TX4) (N := 7) rfl in_X4 (Nat.le_of_ble_eq_true rfl) q248 (fun _ h => h) rfl dX4_tell_14 ?_
  refine lv_if_eq (pc := 17) (tgt := 25) hx hb dX4_tell_17 (by decide) (fun c_9 => ?_) (fun c_9 => ?_)
  · refine lv_iload_n (pc := 25) hx hb dX4_tell_25 rfl (lv_at hl 0 rfl) ?_
    refine x_more 0 0 (Nat.le_of_ble_eq_true rfl) (Nat.le_of_ble_eq_true rfl) ?_
    exact x_iret E hr hlk hw dX4_tell_26 ⟨by simp only [if_pos c_9], by rw [hF_6, hF_2, xu_xu]⟩
  · refine lv_iload_n (pc := 20) hx hb dX4_tell_20 rfl (lv_at hl 0 rfl) ?_
    refine lv_ineg (pc := 21) hx hb dX4_tell_21 ?_
    refine lv_goto (pc := 22) (tgt := 26) hx hb dX4_tell_22 (by decide) ?_
    refine x_more 0 0 (Nat.le_of_ble_eq_true rfl) (Nat.le_of_ble_eq_true rfl) ?_
    exact x_iret E hr hlk hw dX4_tell_26 ⟨by simp only [if_neg c_9], by rw [hF_6, hF_2, xu_xu]⟩
