/-! java.util.ArrayList as RegularRally uses it -/
set_option maxHeartbeats 4000000 in
set_option maxRecDepth 100000 in
theorem xtJ2_size (l : Launch) (D : xD) (A : Nat → Prop) (V : xV) (b ed n : Nat) (mc : Int32)  (h1 : V b = some (.inr (8, [.int mc, .ref ed, .int (nI n)]))) : Met l yJ2_size (ws_ yJ2_size cJ2_size 1 (some .int)) (xRm 1 0 0) (xP D A V [.ref b]) (k2_QcV (.int (nI n))) 0 0 (fun _ => False) := by
  refine x_headR (own := RJ2) (As := [.ref b]) (bytes := cJ2_size) (maxL := 1) (ret := (some .int)) (by decide) rfl (Nat.le_of_ble_eq_true rfl) ?_
  intro p e s m below meth c E hml hr hlk hw0 ls hl
  have hw : xWd D A s V s.heap [] := ⟨hw0, va_S.rf⟩
  have hx := E.1
  have hb := E.2.1
  have hts := E.2.2.1
  have hown := E.2.2.2.1
  have hl : lv_has ls 1 [(0, .ref b)] := hl
  refine lv_aload_n (pc := 0) hx hb dJ2_size_0 rfl (lv_at hl 0 rfl) ?_
  refine x_rd (pc := 1) (v := .int (nI n)) E hw.1 2 h1 (C := RJ2) (T := TJ2) (N := 3) rfl in_J2 (Nat.le_of_ble_eq_true rfl) q100 (fun _ h => h) rfl dJ2_size_1 ?_
  exact m_iretS hx hb hr hlk dJ2_size_4 rfl
set_option maxHeartbeats 4000000 in
set_option maxRecDepth 100000 in
theorem xtJ2_elementData (l : Launch) (D : xD) (A : Nat → Prop) (V : xV) (b ed n cap v i : Nat) (mc : Int32) (f : Nat → Option Nat)  (h1 : V b = some (.inr (8, [.int mc, .ref ed, .int (nI n)]))) (h2 : V ed = some (.inl (D.2.2.2.2, cap, .inr (.inr (.inr (.inr f)))))) (hi : i < n) (hn : n ≤ cap) (hc : cap < 2 ^ 31) (hv : f i = some v) : Met l yJ2_elementData (ws_ yJ2_elementData cJ2_elementData 2 (some (.object "java/lang/Object"))) (xRm 1 0 0) (xP D A V [.ref b, .int (nI i)]) (k2_QcV (.ref v)) 0 0 (fun _ => False) := by
  refine x_headR (own := RJ2) (As := [.ref b, .int (nI i)]) (bytes := cJ2_elementData) (maxL := 2) (ret := (some (.object "java/lang/Object"))) (by decide) rfl (Nat.le_of_ble_eq_true rfl) ?_
  intro p e s m below meth c E hml hr hlk hw0 ls hl
  have hw : xWd D A s V s.heap [] := ⟨hw0, va_S.rf⟩
  have hx := E.1
  have hb := E.2.1
  have hts := E.2.2.1
  have hown := E.2.2.2.1
  have hl : lv_has ls 2 [(0, .ref b), (1, .int (nI i))] := hl
  refine lv_aload_n (pc := 0) hx hb dJ2_elementData_0 rfl (lv_at hl 0 rfl) ?_
  refine x_rd (pc := 1) (v := .ref ed) E hw.1 1 h1 (C := RJ2) (T := TJ2) (N := 3) rfl in_J2 (Nat.le_of_ble_eq_true rfl) q99 (fun _ h => h) rfl dJ2_elementData_1 ?_
  refine lv_iload_n (pc := 4) hx hb dJ2_elementData_4 rfl (lv_at hl 1 rfl) ?_
  refine x_oldN (pc := 5) (v := (.ref v)) E hw.1 (i) h2 (show i < cap from (by omega)) (hc) (by rw [hv]; rfl) dJ2_elementData_5 ?_
  exact x_aretS hx hb hr (Or.inl ⟨_, rfl⟩) (Or.inr ⟨_, rfl⟩) hlk dJ2_elementData_6
set_option maxHeartbeats 4000000 in
set_option maxRecDepth 100000 in
theorem xtJ2_get (l : Launch) (D : xD) (A : Nat → Prop) (V : xV) (b ed n cap v i : Nat) (mc : Int32) (f : Nat → Option Nat)  (h1 : V b = some (.inr (8, [.int mc, .ref ed, .int (nI n)]))) (h2 : V ed = some (.inl (D.2.2.2.2, cap, .inr (.inr (.inr (.inr f)))))) (hi : i < n) (hn : n ≤ cap) (hc : cap < 2 ^ 31) (hv : f i = some v) : Met l yJ2_get (ws_ yJ2_get cJ2_get 2 (some (.object "java/lang/Object"))) (xRm 3 0 0) (xP D A V [.ref b, .int (nI i)]) (k2_QcV (.ref v)) 0 0 (fun _ => False) := by
  refine x_headR (own := RJ2) (As := [.ref b, .int (nI i)]) (bytes := cJ2_get) (maxL := 2) (ret := (some (.object "java/lang/Object"))) (by decide) rfl (Nat.le_of_ble_eq_true rfl) ?_
  intro p e s m below meth c E hml hr hlk hw0 ls hl
  have hw : xWd D A s V s.heap [] := ⟨hw0, va_S.rf⟩
  have hx := E.1
  have hb := E.2.1
  have hts := E.2.2.1
  have hown := E.2.2.2.1
  have hl : lv_has ls 2 [(0, .ref b), (1, .int (nI i))] := hl
  refine lv_iload_n (pc := 0) hx hb dJ2_get_0 rfl (lv_at hl 1 rfl) ?_
  refine lv_aload_n (pc := 1) hx hb dJ2_get_1 rfl (lv_at hl 0 rfl) ?_
  refine x_rd (pc := 2) (v := .int (nI n)) E hw.1 2 h1 (C := RJ2) (T := TJ2) (N := 3) rfl in_J2 (Nat.le_of_ble_eq_true rfl) q100 (fun _ h => h) rfl dJ2_get_2 ?_
  refine x_goR (x_runS (pc := 5) (As := [.int (nI i), .int (nI n)]) (rest := []) E hml hl.1 (x_preE) (xtJ6_checkIndex l i n hi (by omega)) q345 q346 q60 q347 hdJ6_checkIndex.2 ⟨Nat.le_of_ble_eq_true rfl, Nat.le_of_ble_eq_true rfl⟩ rfl rfl rfl (Nat.le_of_ble_eq_true rfl) dJ2_get_5 ⟨Nat.le_of_ble_eq_true rfl, Nat.le_of_ble_eq_true rfl⟩) ?_
  refine lv_pop (pc := 8) hx hb dJ2_get_8 rfl ?_
  refine lv_aload_n (pc := 9) hx hb dJ2_get_9 rfl (lv_at hl 0 rfl) ?_
  refine lv_iload_n (pc := 10) hx hb dJ2_get_10 rfl (lv_at hl 1 rfl) ?_
  refine x_goR (x_runV (pc := 11) (As := [.int (nI i)]) (rest := []) E hml hl.1 hw.2 hw.1 h1 (C := RJ2) (T := TJ2) (N := 3) rfl (xtJ2_elementData l D A V b ed n cap v i mc f h1 h2 hi hn hc hv) q351 q352 q353 q51 q354 hdJ2_elementData ⟨Nat.le_of_ble_eq_true rfl, Nat.le_of_ble_eq_true rfl⟩ rfl rfl rfl (Nat.le_of_ble_eq_true rfl) dJ2_get_11 ⟨Nat.le_of_ble_eq_true rfl, Nat.le_of_ble_eq_true rfl⟩) ?_
  exact x_aretS hx hb hr (Or.inl ⟨_, rfl⟩) (Or.inr ⟨_, rfl⟩) hlk dJ2_get_14
set_option maxHeartbeats 4000000 in
set_option maxRecDepth 100000 in
theorem xtJ0_init (l : Launch) (D : xD) (A : Nat → Prop) (V : xV) (b : Nat)   : Met l yJ0_init (ws_ yJ0_init cJ0_init 1 none) (xRm 2 0 0) (xP D A V [.ref b]) (xQ D A (fun ρ V' => ρ = none ∧ V' = V)) 0 0 A := by
  refine x_headW (own := RJ0) (As := [.ref b]) (bytes := cJ0_init) (maxL := 1) (ret := none) (by decide) rfl (Nat.le_of_ble_eq_true rfl) ?_
  intro p e s m below meth c E hml hr hlk hin2 hw ls hl
  have hx := E.1
  have hb := E.2.1
  have hts := E.2.2.1
  have hown := E.2.2.2.1
  have hl : lv_has ls 1 [(0, .ref b)] := hl
  refine lv_aload_n (pc := 0) hx hb dJ0_init_0 rfl (lv_at hl 0 rfl) ?_
  refine W.objInit (g := F0 m 1 ls [.ref b]) hx hb hown (hts _ q96) (hts _ q83) (hts _ q84) rfl (by rw [hml]; exact hl.1) rfl dJ0_init_1 (Nat.le_of_ble_eq_true rfl) (Nat.le_of_ble_eq_true rfl) ?_
  exact x_vret E hr hlk hw dJ0_init_4 ⟨rfl, rfl⟩
set_option maxHeartbeats 4000000 in
set_option maxRecDepth 100000 in
theorem xtJ1_init (l : Launch) (D : xD) (A : Nat → Prop) (V : xV) (b : Nat)  (h1 : V b = some (.inr (8, [.int 0, .null, .int 0]))) : Met l yJ1_init (ws_ yJ1_init cJ1_init 1 none) (xRm 3 0 0) (xP D A V [.ref b]) (xQ D A (fun ρ V' => ρ = none ∧ V' = xu V b (.inr (8, [.int 0, .null, .int 0])))) 0 0 A := by
  refine x_headW (own := RJ1) (As := [.ref b]) (bytes := cJ1_init) (maxL := 1) (ret := none) (by decide) rfl (Nat.le_of_ble_eq_true rfl) ?_
  intro p e s m below meth c E hml hr hlk hin2 hw ls hl
  have hx := E.1
  have hb := E.2.1
  have hts := E.2.2.1
  have hown := E.2.2.2.1
  have hl : lv_has ls 1 [(0, .ref b)] := hl
  refine lv_aload_n (pc := 0) hx hb dJ1_init_0 rfl (lv_at hl 0 rfl) ?_
  refine x_goWn hw (x_runI (pc := 1) (As := []) (rest := []) (b := b) E hml hl.1 (x_preS E hw.2 hw.1) (xtJ0_init l D A V b) q93 q94 q49 q95 rfl hdJ0_init.2 ⟨Nat.le_of_ble_eq_true rfl, Nat.le_of_ble_eq_true rfl⟩ rfl rfl rfl (Nat.le_of_ble_eq_true rfl) dJ1_init_1 ⟨Nat.le_of_ble_eq_true rfl, Nat.le_of_ble_eq_true rfl⟩) (fun V_1 H locs hF_2 hw => ?_)
  rw [hF_2] at hw
  refine lv_aload_n (pc := 4) hx hb dJ1_init_4 rfl (lv_at hl 0 rfl) ?_
  refine lv_iconst (pc := 5) (v := 0) hx hb dJ1_init_5 (by decide) ?_
  refine x_put1 (pc := 6) (v := .int 0) E hw 0 h1 (C := RJ2) (T := TJ2) (N := 3) rfl in_J2 tyJ2 tyJ2_ok (Nat.le_of_ble_eq_true rfl) q101 (fun _ h => h) rfl (tyJ2_ok 0 (Nat.le_of_ble_eq_true rfl)) rfl rfl (Nat.le_of_ble_eq_true rfl) (fun j hj hne => Or.inl (nmJ2 j hj 0 (Nat.le_of_ble_eq_true rfl) hne)) dJ1_init_6 (fun V_3 H locs hV_4 hw => ?_)
  replace hV_4 : V_3 = xu V b (.inr (8, [.int 0, .null, .int 0])) := hV_4
  have hp_5 : V_3 b = some (.inr (8, [.int 0, .null, .int 0])) := by rw [hV_4]; exact xu_s _ _ _
  refine x_more 0 0 (Nat.le_of_ble_eq_true rfl) (Nat.le_of_ble_eq_true rfl) ?_
  exact x_vret E hr hlk hw dJ1_init_9 ⟨rfl, hV_4⟩
set_option maxHeartbeats 4000000 in
set_option maxRecDepth 100000 in
theorem xtJ2_init (l : Launch) (D : xD) (A : Nat → Prop) (V : xV) (b : Nat)  (h1 : V b = some (.inr (8, [.int 0, .null, .int 0]))) : Met l yJ2_init (ws_ yJ2_init cJ2_init 1 none) (xRm 4 0 0) (xP D A V [.ref b]) (xQ D A (fun ρ V' => ρ = none ∧ V' = xu V b (.inr (8, [.int 0, .ref D.1.2.1, .int 0])))) 0 0 A := by
  refine x_headW (own := RJ2) (As := [.ref b]) (bytes := cJ2_init) (maxL := 1) (ret := none) (by decide) rfl (Nat.le_of_ble_eq_true rfl) ?_
  intro p e s m below meth c E hml hr hlk hin2 hw ls hl
  have hx := E.1
  have hb := E.2.1
  have hts := E.2.2.1
  have hown := E.2.2.2.1
  have hl : lv_has ls 1 [(0, .ref b)] := hl
  refine lv_aload_n (pc := 0) hx hb dJ2_init_0 rfl (lv_at hl 0 rfl) ?_
  refine x_goWn hw (x_runI (pc := 1) (As := []) (rest := []) (b := b) E hml hl.1 (x_preS E hw.2 hw.1) (xtJ1_init l D A V b h1) q90 q91 q50 q92 rfl hdJ1_init.2 ⟨Nat.le_of_ble_eq_true rfl, Nat.le_of_ble_eq_true rfl⟩ rfl rfl rfl (Nat.le_of_ble_eq_true rfl) dJ2_init_1 ⟨Nat.le_of_ble_eq_true rfl, Nat.le_of_ble_eq_true rfl⟩) (fun V_1 H locs hF_2 hw => ?_)
  have hp_3 : V_1 b = some (.inr (8, [.int 0, .null, .int 0])) := by rw [hF_2]; exact xu_s _ _ _
  refine lv_aload_n (pc := 4) hx hb dJ2_init_4 rfl (lv_at hl 0 rfl) ?_
  refine va_gets (pc := 5) hx hb E.2.2.2.2.2.1 hw.2 hown (hts _ q97) (fun _ h => h) dJ2_init_5 ?_
  refine x_put1 (pc := 8) (v := .ref D.1.2.1) E hw 1 hp_3 (C := RJ2) (T := TJ2) (N := 3) rfl in_J2 tyJ2 tyJ2_ok (Nat.le_of_ble_eq_true rfl) q99 (fun _ h => h) rfl (tyJ2_ok 1 (Nat.le_of_ble_eq_true rfl)) rfl rfl (Nat.le_of_ble_eq_true rfl) (fun j hj hne => Or.inl (nmJ2 j hj 1 (Nat.le_of_ble_eq_true rfl) hne)) dJ2_init_8 (fun V_4 H locs hV_5 hw => ?_)
  replace hV_5 : V_4 = xu V_1 b (.inr (8, [.int 0, .ref D.1.2.1, .int 0])) := hV_5
  have hp_6 : V_4 b = some (.inr (8, [.int 0, .ref D.1.2.1, .int 0])) := by rw [hV_5]; exact xu_s _ _ _
  refine x_more 0 0 (Nat.le_of_ble_eq_true rfl) (Nat.le_of_ble_eq_true rfl) ?_
  exact x_vret E hr hlk hw dJ2_init_11 ⟨rfl, by rw [hV_5, hF_2, xu_xu]⟩
set_option maxHeartbeats 4000000 in
set_option maxRecDepth 100000 in
theorem xtJ2_clear (l : Launch) (D : xD) (A : Nat → Prop) (V : xV) (b ed n cap : Nat) (mc : Int32) (f : Nat → Option Nat)  (h1 : V b = some (.inr (8, [.int mc, .ref ed, .int (nI n)]))) (h2 : V ed = some (.inl (D.2.2.2.2, cap, .inr (.inr (.inr (.inr f)))))) (hn : n ≤ cap) (hc : cap < 2 ^ 31) : Met l yJ2_clear (ws_ yJ2_clear cJ2_clear 4 none) (xRm 1 0 0) (xP D A V [.ref b]) (xQ D A (fun ρ V' => ρ = none ∧ ∃ g : Nat → Option Nat, V' = xu (xu V ed (.inl (D.2.2.2.2, cap, .inr (.inr (.inr (.inr g)))))) b (.inr (8, [.int (mc + 1), .ref ed, .int 0])))) 0 0 A := by
  refine x_headW (own := RJ2) (As := [.ref b]) (bytes := cJ2_clear) (maxL := 4) (ret := none) (by decide) rfl (Nat.le_of_ble_eq_true rfl) ?_
  intro p e s m below meth c E hml hr hlk hin2 hw ls hl
  have hx := E.1
  have hb := E.2.1
  have hts := E.2.2.1
  have hown := E.2.2.2.1
  have hl : lv_has ls 4 [(0, .ref b)] := hl
  have hne : ed ≠ b := x_ne h2 h1 (by intro h; cases h)
  refine lv_aload_n (pc := 0) hx hb dJ2_clear_0 rfl (lv_at hl 0 rfl) ?_
  refine lv_dup (pc := 1) hx hb dJ2_clear_1 rfl ?_
  refine x_rd (pc := 2) (v := .int mc) E hw.1 0 h1 (C := RJ2) (T := TJ2) (N := 3) rfl in_J2 (Nat.le_of_ble_eq_true rfl) q102 (u_same (E.2.2.1 _ q103)) rfl dJ2_clear_2 ?_
  refine lv_iconst (pc := 5) (v := 1) hx hb dJ2_clear_5 (by decide) ?_
  refine lv_iadd (pc := 6) hx hb dJ2_clear_6 ?_
  refine x_put1 (pc := 7) (v := .int (mc + 1)) E hw 0 h1 (C := RJ2) (T := TJ2) (N := 3) rfl in_J2 tyJ2 tyJ2_ok (Nat.le_of_ble_eq_true rfl) q102 (u_same (E.2.2.1 _ q103)) rfl (tyJ2_ok 0 (Nat.le_of_ble_eq_true rfl)) rfl rfl (Nat.le_of_ble_eq_true rfl) (fun j hj hne => Or.inl (nmJ2 j hj 0 (Nat.le_of_ble_eq_true rfl) hne)) dJ2_clear_7 (fun V_1 H locs hV_2 hw => ?_)
  replace hV_2 : V_1 = xu V b (.inr (8, [.int (mc + 1), .ref ed, .int (nI n)])) := hV_2
  have hp_3 : V_1 b = some (.inr (8, [.int (mc + 1), .ref ed, .int (nI n)])) := by rw [hV_2]; exact xu_s _ _ _
  refine lv_aload_n (pc := 10) hx hb dJ2_clear_10 rfl (lv_at hl 0 rfl) ?_
  refine x_rd (pc := 11) (v := .ref ed) E hw.1 1 hp_3 (C := RJ2) (T := TJ2) (N := 3) rfl in_J2 (Nat.le_of_ble_eq_true rfl) q99 (fun _ h => h) rfl dJ2_clear_11 ?_
  refine lv_astore_n (pc := 14) (lv' := [(1, .ref ed), (0, .ref b)]) hx hb dJ2_clear_14 rfl hl (by decide) rfl (fun ls hl => ?_)
  refine lv_aload_n (pc := 15) hx hb dJ2_clear_15 rfl (lv_at hl 1 rfl) ?_
  refine x_rd (pc := 16) (v := .int (nI n)) E hw.1 2 hp_3 (C := RJ2) (T := TJ2) (N := 3) rfl in_J2 (Nat.le_of_ble_eq_true rfl) q100 (fun _ h => h) rfl dJ2_clear_16 ?_
  refine lv_istore_n (pc := 19) (lv' := [(2, .int (nI n)), (1, .ref ed), (0, .ref b)]) hx hb dJ2_clear_19 rfl hl (by decide) rfl (fun ls hl => ?_)
  refine lv_aload_n (pc := 20) hx hb dJ2_clear_20 rfl (lv_at hl 2 rfl) ?_
  refine lv_iconst (pc := 21) (v := 0) hx hb dJ2_clear_21 (by decide) ?_
  refine lv_dup_x1 (pc := 22) hx hb dJ2_clear_22 rfl rfl ?_
  refine x_put1 (pc := 23) (v := .int 0) E hw 2 hp_3 (C := RJ2) (T := TJ2) (N := 3) rfl in_J2 tyJ2 tyJ2_ok (Nat.le_of_ble_eq_true rfl) q100 (fun _ h => h) rfl (tyJ2_ok 2 (Nat.le_of_ble_eq_true rfl)) rfl rfl (Nat.le_of_ble_eq_true rfl) (fun j hj hne => Or.inl (nmJ2 j hj 2 (Nat.le_of_ble_eq_true rfl) hne)) dJ2_clear_23 (fun V_4 H locs hV_5 hw => ?_)
  replace hV_5 : V_4 = xu V_1 b (.inr (8, [.int (mc + 1), .ref ed, .int 0])) := hV_5
  have hp_6 : V_4 b = some (.inr (8, [.int (mc + 1), .ref ed, .int 0])) := by rw [hV_5]; exact xu_s _ _ _
  refine lv_istore_n (pc := 26) (lv' := [(3, .int 0), (2, .int (nI n)), (1, .ref ed), (0, .ref b)]) hx hb dJ2_clear_26 rfl hl (by decide) rfl (fun ls hl => ?_)
  have loop : ∀ (k : Nat) (i : Nat) (g : Nat → Option Nat) (V1 : xV) (H : Heap) (locs : List Loc), i + k = n → V1 = xu (xu V ed (.inl (D.2.2.2.2, cap, .inr (.inr (.inr (.inr g)))))) b (.inr (8, [.int (mc + 1), .ref ed, .int 0])) → xWd D A s V1 H locs → ∀ ls : Array Slot, lv_has ls 4 [(3, .int (nI i)), (2, .int (nI n)), (1, .ref ed), (0, .ref b)] → W p l e (xRm 1 0 0) s m ([.ref b] : List Value).toArray below meth c H locs (0) (0) (MQ below (xQ D A (fun ρ V' => ρ = none ∧ ∃ g : Nat → Option Nat, V' = xu (xu V ed (.inl (D.2.2.2.2, cap, .inr (.inr (.inr (.inr g)))))) b (.inr (8, [.int (mc + 1), .ref ed, .int 0])))) ([.ref b] : List Value).toArray s 0 0 A) (F0 m 27 ls []) := by
    intro k
    induction k with
    | zero =>
      intro i g V1 H locs hk hV1 hw ls hl
      have hq : V1 ed = some (.inl (D.2.2.2.2, cap, .inr (.inr (.inr (.inr g))))) := by rw [hV1, xu_n hne, xu_s]
      refine lv_iload_n (pc := 27) hx hb dJ2_clear_27 rfl (lv_at hl 0 rfl) ?_
      refine lv_iload_n (pc := 28) hx hb dJ2_clear_28 rfl (lv_at hl 1 rfl) ?_
      refine li_icmp_geN (pc := 29) (a := i) (b := n) (tgt := 42) hx hb (by omega) (by omega) dJ2_clear_29 (by decide) (fun c_7 => ?_) (fun c_7 => absurd c_7 (by omega))
      exact x_vret E hr hlk hw dJ2_clear_42 ⟨rfl, g, hV1⟩
    | succ k ih_loop =>
      intro i g V1 H locs hk hV1 hw ls hl
      have hq : V1 ed = some (.inl (D.2.2.2.2, cap, .inr (.inr (.inr (.inr g))))) := by rw [hV1, xu_n hne, xu_s]
      refine lv_iload_n (pc := 27) hx hb dJ2_clear_27 rfl (lv_at hl 0 rfl) ?_
      refine lv_iload_n (pc := 28) hx hb dJ2_clear_28 rfl (lv_at hl 1 rfl) ?_
      refine li_icmp_geN (pc := 29) (a := i) (b := n) (tgt := 42) hx hb (by omega) (by omega) dJ2_clear_29 (by decide) (fun c_8 => absurd c_8 (by omega)) (fun c_8 => ?_)
      refine lv_aload_n (pc := 32) hx hb dJ2_clear_32 rfl (lv_at hl 2 rfl) ?_
      refine lv_iload_n (pc := 33) hx hb dJ2_clear_33 rfl (lv_at hl 0 rfl) ?_
      refine lv_null (pc := 34) hx hb dJ2_clear_34 ?_
      refine x_ostN1 (pc := 35) E hw (i) hq (show i < cap from (by omega)) (hc) dJ2_clear_35 (fun V_9 H locs hV_10 hw => ?_)
      have hp_11 : V_9 ed = some (.inl (D.2.2.2.2, cap, .inr (.inr (.inr (.inr (va_up g i none)))))) := by rw [hV_10]; exact xu_s _ _ _
      refine lv_iinc (pc := 36) (v := (nI (i + 1))) (lv' := [(3, .int (nI (i + 1))), (2, .int (nI n)), (1, .ref ed), (0, .ref b)]) hx hb dJ2_clear_36 hl (k := 0) rfl (nI_1 _) (by decide) rfl (fun ls hl => ?_)
      refine lv_goto (pc := 39) (tgt := 27) hx hb dJ2_clear_39 (by decide) ?_
      have e1 : V_9 = xu (xu V ed (.inl (D.2.2.2.2, cap, .inr (.inr (.inr (.inr (va_up g i none))))))) b (.inr (8, [.int (mc + 1), .ref ed, .int 0])) := by rw [hV_10, hV1, xu_comm _ hne, xu_xu, xu_comm _ (Ne.symm hne)]
      exact ih_loop (i + 1) (va_up g i none) _ _ _ (by omega) e1 hw _ (lv_sub hl [0, 1, 2, 3] rfl)
  have e0 : V_4 = xu (xu V ed (.inl (D.2.2.2.2, cap, .inr (.inr (.inr (.inr f)))))) b (.inr (8, [.int (mc + 1), .ref ed, .int 0])) := by rw [hV_5, hV_2, xu_xu, xu_id h2]
  exact loop n 0 f _ _ _ (by omega) e0 hw _ (lv_sub hl [0, 1, 2, 3] rfl)
set_option maxHeartbeats 4000000 in
set_option maxRecDepth 100000 in
theorem xtJ5_copyOf_2_10 (l : Launch) (D : xD) (A : Nat → Prop) (V : xV) (ed : Nat) (f : Nat → Option Nat)  (h2 : V ed = some (.inl (D.2.2.2.2, 10, .inr (.inr (.inr (.inr f)))))) (hel : ∀ i y, i < 10 → f i = some y → ∃ ci fs C T N, V y = some (.inr (ci, fs)) ∧ xCl[ci]? = some (C, T, N) ∧ Cond.castable C "java/lang/Object" ∈ lw_tbl) : Met l yJ5_copyOf_2 (ws_ yJ5_copyOf_2 cJ5_copyOf_2 4 (some (.array (.object "java/lang/Object")))) (xRm 3 1 15) (xP D A V [.ref ed, .int 15, .ref D.1.2.2]) (xQ D A (fun ρ V' => ∃ a, ρ = some (.ref a) ∧ (∀ b e, V b = some e → b ≠ a) ∧ V' = xu V a (.inl (D.2.2.2.2, 15, .inr (.inr (.inr (.inr (va_cpy f (fun _ => none) 0 0 10)))))))) 1 15 A := by
  refine x_headW (own := RJ5) (As := [.ref ed, .int 15, .ref D.1.2.2]) (bytes := cJ5_copyOf_2) (maxL := 4) (ret := (some (.array (.object "java/lang/Object")))) (by decide) rfl (Nat.le_of_ble_eq_true rfl) ?_
  intro p e s m below meth c E hml hr hlk hin2 hw ls hl
  have hx := E.1
  have hb := E.2.1
  have hts := E.2.2.1
  have hown := E.2.2.2.1
  have hl : lv_has ls 4 [(0, .ref ed), (1, .int 15), (2, .ref D.1.2.2)] := hl
  refine lv_aload_n (pc := 0) hx hb dJ5_copyOf_2_0 rfl (lv_at hl 2 rfl) ?_
  refine va_ldcM (pc := 1) hx hb hown (hts _ q318) E.2.2.2.2.1.2.2.2.1 dJ5_copyOf_2_1 ?_
  refine lv_acmp_ne (pc := 3) (tgt := 13) (rx := some D.1.2.2) (ry := some D.1.2.2) hx hb dJ5_copyOf_2_3 (by decide) (fun h_ => absurd rfl h_) (fun _ => ?_)
  refine lv_iload_n (pc := 6) hx hb dJ5_copyOf_2_6 rfl (lv_at hl 1 rfl) ?_
  refine x_newo1 (pc := 7) (N := 15) E hw q319 (by decide) rfl (Nat.le_of_ble_eq_true rfl) (Nat.le_of_ble_eq_true rfl) (Nat.le_of_ble_eq_true rfl) dJ5_copyOf_2_7 (fun a_1 V_2 H hf_4 hV_3 hw => ?_)
  have hp_5 : V_2 a_1 = some (.inl (D.2.2.2.2, 15, .inr (.inr (.inr (.inr (fun _ => none)))))) := by rw [hV_3]; exact xu_s _ _ _
  refine lv_goto (pc := 10) (tgt := 24) hx hb dJ5_copyOf_2_10 (by decide) ?_
  refine lv_astore_n (pc := 24) (lv' := [(3, .ref a_1), (0, .ref ed), (1, .int 15), (2, .ref D.1.2.2)]) hx hb dJ5_copyOf_2_24 rfl hl (by decide) rfl (fun ls hl => ?_)
  refine lv_aload_n (pc := 25) hx hb dJ5_copyOf_2_25 rfl (lv_at hl 1 rfl) ?_
  refine lv_iconst (pc := 26) (v := 0) hx hb dJ5_copyOf_2_26 (by decide) ?_
  refine lv_aload_n (pc := 27) hx hb dJ5_copyOf_2_27 rfl (lv_at hl 0 rfl) ?_
  refine lv_iconst (pc := 28) (v := 0) hx hb dJ5_copyOf_2_28 (by decide) ?_
  refine lv_aload_n (pc := 29) hx hb dJ5_copyOf_2_29 rfl (lv_at hl 1 rfl) ?_
  have hp_6 : V_2 ed = some (.inl (D.2.2.2.2, 10, .inr (.inr (.inr (.inr f))))) := by rw [hV_3, xu_n (hf_4 _ _ h2)]; exact h2
  refine x_len (pc := 30) (v := 10) E hw.1 (cA := D.2.2.2.2) (t0 := 3) hp_6 rfl (by show Int32.ofNat 10 = 10; decide) dJ5_copyOf_2_30 ?_
  refine lv_iload_n (pc := 31) hx hb dJ5_copyOf_2_31 rfl (lv_at hl 2 rfl) ?_
  refine x_mmin (pc := 32) (rest := [.int 0, .ref a_1, .int 0, .ref ed]) hx hb hts hown hml hl.1 q320 (Nat.le_of_ble_eq_true rfl) (Nat.le_of_ble_eq_true rfl) (Nat.le_of_ble_eq_true rfl) (Nat.le_of_ble_eq_true rfl) dJ5_copyOf_2_32 ?_
  refine li_top (v' := .int 10) (by decide) ?_
  have hel_ : ∀ i : Nat, i < (10 : Int32).toNatClampNeg → ∀ y : Nat, f ((0 : Int32).toNatClampNeg + i) = some y → va_Any "java/lang/Object" s H y := by
    intro i hi y hy
    rw [show (0 : Int32).toNatClampNeg + i = i from Nat.zero_add i] at hy
    obtain ⟨ci, fs, C, T, N, he, hc, hq⟩ := hel i y hi hy
    exact x_any E.2.2.2.2.1 hw.1 (show V_2 y = _ by rw [hV_3, xu_n (hf_4 _ _ he)]; exact he) hc hq
  refine x_cpo (pc := 35) (rest := []) E hw hml hl.1 q323 q325 q324 q59 hp_6 hp_5 (by decide) (by decide) (by decide) (by decide) (by decide) (by decide) hel_ (Nat.le_of_ble_eq_true rfl) (Nat.le_of_ble_eq_true rfl) dJ5_copyOf_2_35 (fun V_7 H locs hV_8 hw => ?_)
  have hp_9 : V_7 a_1 = some (.inl (D.2.2.2.2, 15, .inr (.inr (.inr (.inr (va_cpy f (fun _ => none) 0 0 10)))))) := by rw [hV_8]; exact xu_s _ _ _
  refine lv_aload_n (pc := 38) hx hb dJ5_copyOf_2_38 rfl (lv_at hl 0 rfl) ?_
  refine x_more 1 15 (Nat.le_of_ble_eq_true rfl) (Nat.le_of_ble_eq_true rfl) ?_
  exact x_aret E hr (Or.inr ⟨_, rfl⟩) (Or.inr ⟨_, rfl⟩) hlk hw dJ5_copyOf_2_39 ⟨a_1, rfl, hf_4, by rw [hV_8, hV_3, xu_xu]; try rfl⟩
set_option maxHeartbeats 4000000 in
set_option maxRecDepth 100000 in
theorem xtJ5_copyOf_10 (l : Launch) (D : xD) (A : Nat → Prop) (V : xV) (ed : Nat) (f : Nat → Option Nat)  (h2 : V ed = some (.inl (D.2.2.2.2, 10, .inr (.inr (.inr (.inr f)))))) (hel : ∀ i y, i < 10 → f i = some y → ∃ ci fs C T N, V y = some (.inr (ci, fs)) ∧ xCl[ci]? = some (C, T, N) ∧ Cond.castable C "java/lang/Object" ∈ lw_tbl) : Met l yJ5_copyOf (ws_ yJ5_copyOf cJ5_copyOf 2 (some (.array (.object "java/lang/Object")))) (xRm 4 1 15) (xP D A V [.ref ed, .int 15]) (xQ D A (fun ρ V' => ∃ a, ρ = some (.ref a) ∧ (∀ b e, V b = some e → b ≠ a) ∧ V' = xu V a (.inl (D.2.2.2.2, 15, .inr (.inr (.inr (.inr (va_cpy f (fun _ => none) 0 0 10)))))))) 1 15 A := by
  refine x_headW (own := RJ5) (As := [.ref ed, .int 15]) (bytes := cJ5_copyOf) (maxL := 2) (ret := (some (.array (.object "java/lang/Object")))) (by decide) rfl (Nat.le_of_ble_eq_true rfl) ?_
  intro p e s m below meth c E hml hr hlk hin2 hw ls hl
  have hx := E.1
  have hb := E.2.1
  have hts := E.2.2.1
  have hown := E.2.2.2.1
  have hl : lv_has ls 2 [(0, .ref ed), (1, .int 15)] := hl
  refine lv_aload_n (pc := 0) hx hb dJ5_copyOf_0 rfl (lv_at hl 0 rfl) ?_
  refine lv_iload_n (pc := 1) hx hb dJ5_copyOf_1 rfl (lv_at hl 1 rfl) ?_
  refine lv_aload_n (pc := 2) hx hb dJ5_copyOf_2 rfl (lv_at hl 0 rfl) ?_
  refine va_getC (pc := 3) hx hb (by rw [hml]; exact hl.1.symm) hown (hts _ q295) (va_Nw.use rfl (E.2.2.2.2.1.2.1.2.1 _ q1524)) (hts _ q1523) (hts _ q296) (hts _ q314) E.2.2.2.2.1.2.2.2.1 ⟨_, (hw.1.2 _ _ h2).2, rfl, x_nm3 E.2.2.2.2.1⟩ (Nat.le_of_ble_eq_true rfl) (Nat.le_of_ble_eq_true rfl) dJ5_copyOf_3 ?_
  refine x_goW hw (x_runS (pc := 6) (As := [.ref ed, .int 15, .ref D.1.2.2]) (rest := []) E hml hl.1 (x_preS E hw.2 hw.1) (xtJ5_copyOf_2_10 l D A V ed f h2 hel) q315 q316 q58 q317 hdJ5_copyOf_2.2 ⟨Nat.le_of_ble_eq_true rfl, Nat.le_of_ble_eq_true rfl⟩ rfl rfl rfl (Nat.le_of_ble_eq_true rfl) dJ5_copyOf_6 ⟨Nat.le_of_ble_eq_true rfl, Nat.le_of_ble_eq_true rfl⟩) (fun r_3 V_1 H locs hF_2 hw => ?_)
  obtain ⟨a_4, rfl, hf_5, hV_6⟩ := hF_2
  have hp_7 : V_1 a_4 = some (.inl (D.2.2.2.2, 15, .inr (.inr (.inr (.inr (va_cpy f (fun _ => none) 0 0 10)))))) := by rw [hV_6]; exact xu_s _ _ _
  refine x_more 1 15 (Nat.le_of_ble_eq_true rfl) (Nat.le_of_ble_eq_true rfl) ?_
  exact x_aret E hr (Or.inr ⟨_, rfl⟩) (Or.inr ⟨_, rfl⟩) hlk hw dJ5_copyOf_9 ⟨a_4, rfl, hf_5, hV_6⟩
set_option maxHeartbeats 4000000 in
set_option maxRecDepth 100000 in
theorem xtJ5_copyOf_2_15 (l : Launch) (D : xD) (A : Nat → Prop) (V : xV) (ed : Nat) (f : Nat → Option Nat)  (h2 : V ed = some (.inl (D.2.2.2.2, 15, .inr (.inr (.inr (.inr f)))))) (hel : ∀ i y, i < 15 → f i = some y → ∃ ci fs C T N, V y = some (.inr (ci, fs)) ∧ xCl[ci]? = some (C, T, N) ∧ Cond.castable C "java/lang/Object" ∈ lw_tbl) : Met l yJ5_copyOf_2 (ws_ yJ5_copyOf_2 cJ5_copyOf_2 4 (some (.array (.object "java/lang/Object")))) (xRm 3 1 22) (xP D A V [.ref ed, .int 22, .ref D.1.2.2]) (xQ D A (fun ρ V' => ∃ a, ρ = some (.ref a) ∧ (∀ b e, V b = some e → b ≠ a) ∧ V' = xu V a (.inl (D.2.2.2.2, 22, .inr (.inr (.inr (.inr (va_cpy f (fun _ => none) 0 0 15)))))))) 1 22 A := by
  refine x_headW (own := RJ5) (As := [.ref ed, .int 22, .ref D.1.2.2]) (bytes := cJ5_copyOf_2) (maxL := 4) (ret := (some (.array (.object "java/lang/Object")))) (by decide) rfl (Nat.le_of_ble_eq_true rfl) ?_
  intro p e s m below meth c E hml hr hlk hin2 hw ls hl
  have hx := E.1
  have hb := E.2.1
  have hts := E.2.2.1
  have hown := E.2.2.2.1
  have hl : lv_has ls 4 [(0, .ref ed), (1, .int 22), (2, .ref D.1.2.2)] := hl
  refine lv_aload_n (pc := 0) hx hb dJ5_copyOf_2_0 rfl (lv_at hl 2 rfl) ?_
  refine va_ldcM (pc := 1) hx hb hown (hts _ q318) E.2.2.2.2.1.2.2.2.1 dJ5_copyOf_2_1 ?_
  refine lv_acmp_ne (pc := 3) (tgt := 13) (rx := some D.1.2.2) (ry := some D.1.2.2) hx hb dJ5_copyOf_2_3 (by decide) (fun h_ => absurd rfl h_) (fun _ => ?_)
  refine lv_iload_n (pc := 6) hx hb dJ5_copyOf_2_6 rfl (lv_at hl 1 rfl) ?_
  refine x_newo1 (pc := 7) (N := 22) E hw q319 (by decide) rfl (Nat.le_of_ble_eq_true rfl) (Nat.le_of_ble_eq_true rfl) (Nat.le_of_ble_eq_true rfl) dJ5_copyOf_2_7 (fun a_1 V_2 H hf_4 hV_3 hw => ?_)
  have hp_5 : V_2 a_1 = some (.inl (D.2.2.2.2, 22, .inr (.inr (.inr (.inr (fun _ => none)))))) := by rw [hV_3]; exact xu_s _ _ _
  refine lv_goto (pc := 10) (tgt := 24) hx hb dJ5_copyOf_2_10 (by decide) ?_
  refine lv_astore_n (pc := 24) (lv' := [(3, .ref a_1), (0, .ref ed), (1, .int 22), (2, .ref D.1.2.2)]) hx hb dJ5_copyOf_2_24 rfl hl (by decide) rfl (fun ls hl => ?_)
  refine lv_aload_n (pc := 25) hx hb dJ5_copyOf_2_25 rfl (lv_at hl 1 rfl) ?_
  refine lv_iconst (pc := 26) (v := 0) hx hb dJ5_copyOf_2_26 (by decide) ?_
  refine lv_aload_n (pc := 27) hx hb dJ5_copyOf_2_27 rfl (lv_at hl 0 rfl) ?_
  refine lv_iconst (pc := 28) (v := 0) hx hb dJ5_copyOf_2_28 (by decide) ?_
  refine lv_aload_n (pc := 29) hx hb dJ5_copyOf_2_29 rfl (lv_at hl 1 rfl) ?_
  have hp_6 : V_2 ed = some (.inl (D.2.2.2.2, 15, .inr (.inr (.inr (.inr f))))) := by rw [hV_3, xu_n (hf_4 _ _ h2)]; exact h2
  refine x_len (pc := 30) (v := 15) E hw.1 (cA := D.2.2.2.2) (t0 := 3) hp_6 rfl (by show Int32.ofNat 15 = 15; decide) dJ5_copyOf_2_30 ?_
  refine lv_iload_n (pc := 31) hx hb dJ5_copyOf_2_31 rfl (lv_at hl 2 rfl) ?_
  refine x_mmin (pc := 32) (rest := [.int 0, .ref a_1, .int 0, .ref ed]) hx hb hts hown hml hl.1 q320 (Nat.le_of_ble_eq_true rfl) (Nat.le_of_ble_eq_true rfl) (Nat.le_of_ble_eq_true rfl) (Nat.le_of_ble_eq_true rfl) dJ5_copyOf_2_32 ?_
  refine li_top (v' := .int 15) (by decide) ?_
  have hel_ : ∀ i : Nat, i < (15 : Int32).toNatClampNeg → ∀ y : Nat, f ((0 : Int32).toNatClampNeg + i) = some y → va_Any "java/lang/Object" s H y := by
    intro i hi y hy
    rw [show (0 : Int32).toNatClampNeg + i = i from Nat.zero_add i] at hy
    obtain ⟨ci, fs, C, T, N, he, hc, hq⟩ := hel i y hi hy
    exact x_any E.2.2.2.2.1 hw.1 (show V_2 y = _ by rw [hV_3, xu_n (hf_4 _ _ he)]; exact he) hc hq
  refine x_cpo (pc := 35) (rest := []) E hw hml hl.1 q323 q325 q324 q59 hp_6 hp_5 (by decide) (by decide) (by decide) (by decide) (by decide) (by decide) hel_ (Nat.le_of_ble_eq_true rfl) (Nat.le_of_ble_eq_true rfl) dJ5_copyOf_2_35 (fun V_7 H locs hV_8 hw => ?_)
  have hp_9 : V_7 a_1 = some (.inl (D.2.2.2.2, 22, .inr (.inr (.inr (.inr (va_cpy f (fun _ => none) 0 0 15)))))) := by rw [hV_8]; exact xu_s _ _ _
  refine lv_aload_n (pc := 38) hx hb dJ5_copyOf_2_38 rfl (lv_at hl 0 rfl) ?_
  refine x_more 1 22 (Nat.le_of_ble_eq_true rfl) (Nat.le_of_ble_eq_true rfl) ?_
  exact x_aret E hr (Or.inr ⟨_, rfl⟩) (Or.inr ⟨_, rfl⟩) hlk hw dJ5_copyOf_2_39 ⟨a_1, rfl, hf_4, by rw [hV_8, hV_3, xu_xu]; try rfl⟩
set_option maxHeartbeats 4000000 in
set_option maxRecDepth 100000 in
theorem xtJ5_copyOf_15 (l : Launch) (D : xD) (A : Nat → Prop) (V : xV) (ed : Nat) (f : Nat → Option Nat)  (h2 : V ed = some (.inl (D.2.2.2.2, 15, .inr (.inr (.inr (.inr f)))))) (hel : ∀ i y, i < 15 → f i = some y → ∃ ci fs C T N, V y = some (.inr (ci, fs)) ∧ xCl[ci]? = some (C, T, N) ∧ Cond.castable C "java/lang/Object" ∈ lw_tbl) : Met l yJ5_copyOf (ws_ yJ5_copyOf cJ5_copyOf 2 (some (.array (.object "java/lang/Object")))) (xRm 4 1 22) (xP D A V [.ref ed, .int 22]) (xQ D A (fun ρ V' => ∃ a, ρ = some (.ref a) ∧ (∀ b e, V b = some e → b ≠ a) ∧ V' = xu V a (.inl (D.2.2.2.2, 22, .inr (.inr (.inr (.inr (va_cpy f (fun _ => none) 0 0 15)))))))) 1 22 A := by
  refine x_headW (own := RJ5) (As := [.ref ed, .int 22]) (bytes := cJ5_copyOf) (maxL := 2) (ret := (some (.array (.object "java/lang/Object")))) (by decide) rfl (Nat.le_of_ble_eq_true rfl) ?_
  intro p e s m below meth c E hml hr hlk hin2 hw ls hl
  have hx := E.1
  have hb := E.2.1
  have hts := E.2.2.1
  have hown := E.2.2.2.1
  have hl : lv_has ls 2 [(0, .ref ed), (1, .int 22)] := hl
  refine lv_aload_n (pc := 0) hx hb dJ5_copyOf_0 rfl (lv_at hl 0 rfl) ?_
  refine lv_iload_n (pc := 1) hx hb dJ5_copyOf_1 rfl (lv_at hl 1 rfl) ?_
  refine lv_aload_n (pc := 2) hx hb dJ5_copyOf_2 rfl (lv_at hl 0 rfl) ?_
  refine va_getC (pc := 3) hx hb (by rw [hml]; exact hl.1.symm) hown (hts _ q295) (va_Nw.use rfl (E.2.2.2.2.1.2.1.2.1 _ q1524)) (hts _ q1523) (hts _ q296) (hts _ q314) E.2.2.2.2.1.2.2.2.1 ⟨_, (hw.1.2 _ _ h2).2, rfl, x_nm3 E.2.2.2.2.1⟩ (Nat.le_of_ble_eq_true rfl) (Nat.le_of_ble_eq_true rfl) dJ5_copyOf_3 ?_
  refine x_goW hw (x_runS (pc := 6) (As := [.ref ed, .int 22, .ref D.1.2.2]) (rest := []) E hml hl.1 (x_preS E hw.2 hw.1) (xtJ5_copyOf_2_15 l D A V ed f h2 hel) q315 q316 q58 q317 hdJ5_copyOf_2.2 ⟨Nat.le_of_ble_eq_true rfl, Nat.le_of_ble_eq_true rfl⟩ rfl rfl rfl (Nat.le_of_ble_eq_true rfl) dJ5_copyOf_6 ⟨Nat.le_of_ble_eq_true rfl, Nat.le_of_ble_eq_true rfl⟩) (fun r_3 V_1 H locs hF_2 hw => ?_)
  obtain ⟨a_4, rfl, hf_5, hV_6⟩ := hF_2
  have hp_7 : V_1 a_4 = some (.inl (D.2.2.2.2, 22, .inr (.inr (.inr (.inr (va_cpy f (fun _ => none) 0 0 15)))))) := by rw [hV_6]; exact xu_s _ _ _
  refine x_more 1 22 (Nat.le_of_ble_eq_true rfl) (Nat.le_of_ble_eq_true rfl) ?_
  exact x_aret E hr (Or.inr ⟨_, rfl⟩) (Or.inr ⟨_, rfl⟩) hlk hw dJ5_copyOf_9 ⟨a_4, rfl, hf_5, hV_6⟩
set_option maxHeartbeats 4000000 in
set_option maxRecDepth 100000 in
theorem xtJ2_grow_2_0 (l : Launch) (D : xD) (A : Nat → Prop) (V : xV) (b ed : Nat) (mc : Int32) (f : Nat → Option Nat)  (h1 : V b = some (.inr (8, [.int mc, .ref ed, .int 0]))) (h2 : V ed = some (.inl (D.2.2.2.2, 0, .inr (.inr (.inr (.inr f)))))) (hed : ed = D.1.2.1) : Met l yJ2_grow_2 (ws_ yJ2_grow_2 cJ2_grow_2 4 (some (.array (.object "java/lang/Object")))) (xRm 6 1 10) (xP D A V [.ref b, .int 1]) (xQ D A (fun ρ V' => ∃ a, ρ = some (.ref a) ∧ (∀ b e, V b = some e → b ≠ a) ∧ V' = xu (xu V a (.inl (D.2.2.2.2, 10, .inr (.inr (.inr (.inr (fun _ => none))))))) b (.inr (8, [.int mc, .ref a, .int 0])))) 1 10 A := by
  refine x_headW (own := RJ2) (As := [.ref b, .int 1]) (bytes := cJ2_grow_2) (maxL := 4) (ret := (some (.array (.object "java/lang/Object")))) (by decide) rfl (Nat.le_of_ble_eq_true rfl) ?_
  intro p e s m below meth c E hml hr hlk hin2 hw ls hl
  have hx := E.1
  have hb := E.2.1
  have hts := E.2.2.1
  have hown := E.2.2.2.1
  have hl : lv_has ls 4 [(0, .ref b), (1, .int 1)] := hl
  refine lv_aload_n (pc := 0) hx hb dJ2_grow_2_0 rfl (lv_at hl 0 rfl) ?_
  refine x_rd (pc := 1) (v := .ref ed) E hw.1 1 h1 (C := RJ2) (T := TJ2) (N := 3) rfl in_J2 (Nat.le_of_ble_eq_true rfl) q99 (fun _ h => h) rfl dJ2_grow_2_1 ?_
  refine x_len (pc := 4) (v := 0) E hw.1 (cA := D.2.2.2.2) (t0 := 3) h2 rfl (by show Int32.ofNat 0 = 0; decide) dJ2_grow_2_4 ?_
  refine lv_istore_n (pc := 5) (lv' := [(2, .int 0), (0, .ref b), (1, .int 1)]) hx hb dJ2_grow_2_5 rfl hl (by decide) rfl (fun ls hl => ?_)
  refine lv_iload_n (pc := 6) hx hb dJ2_grow_2_6 rfl (lv_at hl 0 rfl) ?_
  refine li_if_gt (pc := 7) (tgt := 20) hx hb dJ2_grow_2_7 (by decide) (fun h_ => absurd h_ (by decide)) (fun _ => ?_)
  refine lv_aload_n (pc := 10) hx hb dJ2_grow_2_10 rfl (lv_at hl 1 rfl) ?_
  refine x_rd (pc := 11) (v := .ref ed) E hw.1 1 h1 (C := RJ2) (T := TJ2) (N := 3) rfl in_J2 (Nat.le_of_ble_eq_true rfl) q99 (fun _ h => h) rfl dJ2_grow_2_11 ?_
  refine va_gets (pc := 14) hx hb E.2.2.2.2.2.1 hw.2 hown (hts _ q97) (fun _ h => h) dJ2_grow_2_14 ?_
  refine lv_acmp_eq (pc := 17) (tgt := 45) (rx := some ed) (ry := some D.1.2.1) hx hb dJ2_grow_2_17 (by decide) (fun _ => ?_) (fun h_ => absurd (congrArg some hed) h_)
  refine lv_aload_n (pc := 45) hx hb dJ2_grow_2_45 rfl (lv_at hl 1 rfl) ?_
  refine lv_bipush (pc := 46) (v := 10) hx hb dJ2_grow_2_46 (by decide) ?_
  refine lv_iload_n (pc := 48) hx hb dJ2_grow_2_48 rfl (lv_at hl 2 rfl) ?_
  refine x_mmax (pc := 49) (rest := [.ref b]) hx hb hts hown hml hl.1 q326 (Nat.le_of_ble_eq_true rfl) (Nat.le_of_ble_eq_true rfl) (Nat.le_of_ble_eq_true rfl) (Nat.le_of_ble_eq_true rfl) dJ2_grow_2_49 ?_
  refine li_top (v' := .int 10) (by decide) ?_
  refine x_newo1 (pc := 52) (N := 10) E hw q327 (by decide) rfl (Nat.le_of_ble_eq_true rfl) (Nat.le_of_ble_eq_true rfl) (Nat.le_of_ble_eq_true rfl) dJ2_grow_2_52 (fun a_1 V_2 H hf_4 hV_3 hw => ?_)
  have hp_5 : V_2 a_1 = some (.inl (D.2.2.2.2, 10, .inr (.inr (.inr (.inr (fun _ => none)))))) := by rw [hV_3]; exact xu_s _ _ _
  refine lv_dup_x1 (pc := 55) hx hb dJ2_grow_2_55 rfl rfl ?_
  have hp_6 : V_2 b = some (.inr (8, [.int mc, .ref ed, .int 0])) := by rw [hV_3, xu_n (hf_4 _ _ h1)]; exact h1
  refine x_put1 (pc := 56) (v := .ref a_1) E hw 1 hp_6 (C := RJ2) (T := TJ2) (N := 3) rfl in_J2 tyJ2 tyJ2_ok (Nat.le_of_ble_eq_true rfl) q99 (fun _ h => h) rfl (tyJ2_ok 1 (Nat.le_of_ble_eq_true rfl)) rfl rfl (Nat.le_of_ble_eq_true rfl) (fun j hj hne => Or.inl (nmJ2 j hj 1 (Nat.le_of_ble_eq_true rfl) hne)) dJ2_grow_2_56 (fun V_7 H locs hV_8 hw => ?_)
  replace hV_8 : V_7 = xu V_2 b (.inr (8, [.int mc, .ref a_1, .int 0])) := hV_8
  have hp_9 : V_7 b = some (.inr (8, [.int mc, .ref a_1, .int 0])) := by rw [hV_8]; exact xu_s _ _ _
  refine x_more 1 10 (Nat.le_of_ble_eq_true rfl) (Nat.le_of_ble_eq_true rfl) ?_
  exact x_aret E hr (Or.inr ⟨_, rfl⟩) (Or.inr ⟨_, rfl⟩) hlk hw dJ2_grow_2_59 ⟨a_1, rfl, hf_4, by rw [hV_8, hV_3]⟩
set_option maxHeartbeats 4000000 in
set_option maxRecDepth 100000 in
theorem xtJ2_grow_0 (l : Launch) (D : xD) (A : Nat → Prop) (V : xV) (b ed : Nat) (mc : Int32) (f : Nat → Option Nat)  (h1 : V b = some (.inr (8, [.int mc, .ref ed, .int 0]))) (h2 : V ed = some (.inl (D.2.2.2.2, 0, .inr (.inr (.inr (.inr f)))))) (hed : ed = D.1.2.1) : Met l yJ2_grow (ws_ yJ2_grow cJ2_grow 1 (some (.array (.object "java/lang/Object")))) (xRm 7 1 10) (xP D A V [.ref b]) (xQ D A (fun ρ V' => ∃ a, ρ = some (.ref a) ∧ (∀ b e, V b = some e → b ≠ a) ∧ V' = xu (xu V a (.inl (D.2.2.2.2, 10, .inr (.inr (.inr (.inr (fun _ => none))))))) b (.inr (8, [.int mc, .ref a, .int 0])))) 1 10 A := by
  refine x_headW (own := RJ2) (As := [.ref b]) (bytes := cJ2_grow) (maxL := 1) (ret := (some (.array (.object "java/lang/Object")))) (by decide) rfl (Nat.le_of_ble_eq_true rfl) ?_
  intro p e s m below meth c E hml hr hlk hin2 hw ls hl
  have hx := E.1
  have hb := E.2.1
  have hts := E.2.2.1
  have hown := E.2.2.2.1
  have hl : lv_has ls 1 [(0, .ref b)] := hl
  refine lv_aload_n (pc := 0) hx hb dJ2_grow_0 rfl (lv_at hl 0 rfl) ?_
  refine lv_aload_n (pc := 1) hx hb dJ2_grow_1 rfl (lv_at hl 0 rfl) ?_
  refine x_rd (pc := 2) (v := .int 0) E hw.1 2 h1 (C := RJ2) (T := TJ2) (N := 3) rfl in_J2 (Nat.le_of_ble_eq_true rfl) q100 (fun _ h => h) rfl dJ2_grow_2 ?_
  refine lv_iconst (pc := 5) (v := 1) hx hb dJ2_grow_5 (by decide) ?_
  refine lv_iadd (pc := 6) hx hb dJ2_grow_6 ?_
  refine li_top (v' := .int 1) (by decide) ?_
  refine x_goW hw (x_runV (pc := 7) (As := [.int 1]) (rest := []) E hml hl.1 hw.2 hw.1 h1 (C := RJ2) (T := TJ2) (N := 3) rfl (xtJ2_grow_2_0 l D A V b ed mc f h1 h2 hed) q278 q280 qs2 q51 q281 hdJ2_grow_2 ⟨Nat.le_of_ble_eq_true rfl, Nat.le_of_ble_eq_true rfl⟩ rfl rfl rfl (Nat.le_of_ble_eq_true rfl) dJ2_grow_7 ⟨Nat.le_of_ble_eq_true rfl, Nat.le_of_ble_eq_true rfl⟩) (fun r_3 V_1 H locs hF_2 hw => ?_)
  obtain ⟨a_4, rfl, hf_5, hV_6⟩ := hF_2
  have hp_8 : (xu V a_4 (.inl (D.2.2.2.2, 10, .inr (.inr (.inr (.inr (fun _ => none))))))) a_4 = some (.inl (D.2.2.2.2, 10, .inr (.inr (.inr (.inr (fun _ => none)))))) := by rw [show (xu V a_4 (.inl (D.2.2.2.2, 10, .inr (.inr (.inr (.inr (fun _ => none))))))) = xu V a_4 (.inl (D.2.2.2.2, 10, .inr (.inr (.inr (.inr (fun _ => none)))))) from rfl]; exact xu_s _ _ _
  have hp_9 : (xu V a_4 (.inl (D.2.2.2.2, 10, .inr (.inr (.inr (.inr (fun _ => none))))))) b = some (.inr (8, [.int mc, .ref ed, .int 0])) := by rw [show (xu V a_4 (.inl (D.2.2.2.2, 10, .inr (.inr (.inr (.inr (fun _ => none))))))) = xu V a_4 (.inl (D.2.2.2.2, 10, .inr (.inr (.inr (.inr (fun _ => none)))))) from rfl, xu_n (hf_5 _ _ h1)]; exact h1
  have hp_10 : V_1 b = some (.inr (8, [.int mc, .ref a_4, .int 0])) := by rw [hV_6]; exact xu_s _ _ _
  refine x_more 1 10 (Nat.le_of_ble_eq_true rfl) (Nat.le_of_ble_eq_true rfl) ?_
  exact x_aret E hr (Or.inr ⟨_, rfl⟩) (Or.inr ⟨_, rfl⟩) hlk hw dJ2_grow_10 ⟨a_4, rfl, hf_5, hV_6⟩
set_option maxHeartbeats 4000000 in
set_option maxRecDepth 100000 in
theorem xtJ2_grow_2_10 (l : Launch) (D : xD) (A : Nat → Prop) (V : xV) (b ed : Nat) (mc : Int32) (f : Nat → Option Nat)  (h1 : V b = some (.inr (8, [.int mc, .ref ed, .int 10]))) (h2 : V ed = some (.inl (D.2.2.2.2, 10, .inr (.inr (.inr (.inr f)))))) (hel : ∀ i y, i < 10 → f i = some y → ∃ ci fs C T N, V y = some (.inr (ci, fs)) ∧ xCl[ci]? = some (C, T, N) ∧ Cond.castable C "java/lang/Object" ∈ lw_tbl) : Met l yJ2_grow_2 (ws_ yJ2_grow_2 cJ2_grow_2 4 (some (.array (.object "java/lang/Object")))) (xRm 6 1 15) (xP D A V [.ref b, .int 11]) (xQ D A (fun ρ V' => ∃ a, ρ = some (.ref a) ∧ (∀ b e, V b = some e → b ≠ a) ∧ V' = xu (xu V a (.inl (D.2.2.2.2, 15, .inr (.inr (.inr (.inr (va_cpy f (fun _ => none) 0 0 10))))))) b (.inr (8, [.int mc, .ref a, .int 10])))) 1 15 A := by
  refine x_headW (own := RJ2) (As := [.ref b, .int 11]) (bytes := cJ2_grow_2) (maxL := 4) (ret := (some (.array (.object "java/lang/Object")))) (by decide) rfl (Nat.le_of_ble_eq_true rfl) ?_
  intro p e s m below meth c E hml hr hlk hin2 hw ls hl
  have hx := E.1
  have hb := E.2.1
  have hts := E.2.2.1
  have hown := E.2.2.2.1
  have hl : lv_has ls 4 [(0, .ref b), (1, .int 11)] := hl
  refine lv_aload_n (pc := 0) hx hb dJ2_grow_2_0 rfl (lv_at hl 0 rfl) ?_
  refine x_rd (pc := 1) (v := .ref ed) E hw.1 1 h1 (C := RJ2) (T := TJ2) (N := 3) rfl in_J2 (Nat.le_of_ble_eq_true rfl) q99 (fun _ h => h) rfl dJ2_grow_2_1 ?_
  refine x_len (pc := 4) (v := 10) E hw.1 (cA := D.2.2.2.2) (t0 := 3) h2 rfl (by show Int32.ofNat 10 = 10; decide) dJ2_grow_2_4 ?_
  refine lv_istore_n (pc := 5) (lv' := [(2, .int 10), (0, .ref b), (1, .int 11)]) hx hb dJ2_grow_2_5 rfl hl (by decide) rfl (fun ls hl => ?_)
  refine lv_iload_n (pc := 6) hx hb dJ2_grow_2_6 rfl (lv_at hl 0 rfl) ?_
  refine li_if_gt (pc := 7) (tgt := 20) hx hb dJ2_grow_2_7 (by decide) (fun _ => ?_) (fun h_ => absurd h_ (by decide))
  refine lv_iload_n (pc := 20) hx hb dJ2_grow_2_20 rfl (lv_at hl 0 rfl) ?_
  refine lv_iload_n (pc := 21) hx hb dJ2_grow_2_21 rfl (lv_at hl 2 rfl) ?_
  refine lv_iload_n (pc := 22) hx hb dJ2_grow_2_22 rfl (lv_at hl 0 rfl) ?_
  refine lv_isub (pc := 23) hx hb dJ2_grow_2_23 ?_
  refine li_top (v' := .int 1) (by decide) ?_
  refine lv_iload_n (pc := 24) hx hb dJ2_grow_2_24 rfl (lv_at hl 0 rfl) ?_
  refine lv_iconst (pc := 25) (v := 1) hx hb dJ2_grow_2_25 (by decide) ?_
  refine lv_ishr (pc := 26) hx hb dJ2_grow_2_26 ?_
  refine li_top (v' := .int 5) (by decide) ?_
  refine x_goR (x_runS (pc := 27) (As := [.int 10, .int 1, .int 5]) (rest := []) E hml hl.1 (x_preE) (xtJ3_newLength_10 l) q282 q283 q56 q284 hdJ3_newLength.2 ⟨Nat.le_of_ble_eq_true rfl, Nat.le_of_ble_eq_true rfl⟩ rfl rfl rfl (Nat.le_of_ble_eq_true rfl) dJ2_grow_2_27 ⟨Nat.le_of_ble_eq_true rfl, Nat.le_of_ble_eq_true rfl⟩) ?_
  refine lv_istore_n (pc := 30) (lv' := [(3, .int 15), (2, .int 10), (0, .ref b), (1, .int 11)]) hx hb dJ2_grow_2_30 rfl hl (by decide) rfl (fun ls hl => ?_)
  refine lv_aload_n (pc := 31) hx hb dJ2_grow_2_31 rfl (lv_at hl 2 rfl) ?_
  refine lv_aload_n (pc := 32) hx hb dJ2_grow_2_32 rfl (lv_at hl 2 rfl) ?_
  refine x_rd (pc := 33) (v := .ref ed) E hw.1 1 h1 (C := RJ2) (T := TJ2) (N := 3) rfl in_J2 (Nat.le_of_ble_eq_true rfl) q99 (fun _ h => h) rfl dJ2_grow_2_33 ?_
  refine lv_iload_n (pc := 36) hx hb dJ2_grow_2_36 rfl (lv_at hl 0 rfl) ?_
  refine x_goW hw (x_runS (pc := 37) (As := [.ref ed, .int 15]) (rest := [.ref b]) E hml hl.1 (x_preS E hw.2 hw.1) (xtJ5_copyOf_10 l D A V ed f h2 hel) q292 q293 q58 q294 hdJ5_copyOf.2 ⟨Nat.le_of_ble_eq_true rfl, Nat.le_of_ble_eq_true rfl⟩ rfl rfl rfl (Nat.le_of_ble_eq_true rfl) dJ2_grow_2_37 ⟨Nat.le_of_ble_eq_true rfl, Nat.le_of_ble_eq_true rfl⟩) (fun r_3 V_1 H locs hF_2 hw => ?_)
  obtain ⟨a_4, rfl, hf_5, hV_6⟩ := hF_2
  have hp_7 : V_1 a_4 = some (.inl (D.2.2.2.2, 15, .inr (.inr (.inr (.inr (va_cpy f (fun _ => none) 0 0 10)))))) := by rw [hV_6]; exact xu_s _ _ _
  refine lv_dup_x1 (pc := 40) hx hb dJ2_grow_2_40 rfl rfl ?_
  have hp_8 : V_1 b = some (.inr (8, [.int mc, .ref ed, .int 10])) := by rw [hV_6, xu_n (hf_5 _ _ h1)]; exact h1
  refine x_put1 (pc := 41) (v := .ref a_4) E hw 1 hp_8 (C := RJ2) (T := TJ2) (N := 3) rfl in_J2 tyJ2 tyJ2_ok (Nat.le_of_ble_eq_true rfl) q99 (fun _ h => h) rfl (tyJ2_ok 1 (Nat.le_of_ble_eq_true rfl)) rfl rfl (Nat.le_of_ble_eq_true rfl) (fun j hj hne => Or.inl (nmJ2 j hj 1 (Nat.le_of_ble_eq_true rfl) hne)) dJ2_grow_2_41 (fun V_9 H locs hV_10 hw => ?_)
  replace hV_10 : V_9 = xu V_1 b (.inr (8, [.int mc, .ref a_4, .int 10])) := hV_10
  have hp_11 : V_9 b = some (.inr (8, [.int mc, .ref a_4, .int 10])) := by rw [hV_10]; exact xu_s _ _ _
  refine x_more 1 15 (Nat.le_of_ble_eq_true rfl) (Nat.le_of_ble_eq_true rfl) ?_
  exact x_aret E hr (Or.inr ⟨_, rfl⟩) (Or.inr ⟨_, rfl⟩) hlk hw dJ2_grow_2_44 ⟨a_4, rfl, hf_5, by rw [hV_10, hV_6]⟩
set_option maxHeartbeats 4000000 in
set_option maxRecDepth 100000 in
theorem xtJ2_grow_10 (l : Launch) (D : xD) (A : Nat → Prop) (V : xV) (b ed : Nat) (mc : Int32) (f : Nat → Option Nat)  (h1 : V b = some (.inr (8, [.int mc, .ref ed, .int 10]))) (h2 : V ed = some (.inl (D.2.2.2.2, 10, .inr (.inr (.inr (.inr f)))))) (hel : ∀ i y, i < 10 → f i = some y → ∃ ci fs C T N, V y = some (.inr (ci, fs)) ∧ xCl[ci]? = some (C, T, N) ∧ Cond.castable C "java/lang/Object" ∈ lw_tbl) : Met l yJ2_grow (ws_ yJ2_grow cJ2_grow 1 (some (.array (.object "java/lang/Object")))) (xRm 7 1 15) (xP D A V [.ref b]) (xQ D A (fun ρ V' => ∃ a, ρ = some (.ref a) ∧ (∀ b e, V b = some e → b ≠ a) ∧ V' = xu (xu V a (.inl (D.2.2.2.2, 15, .inr (.inr (.inr (.inr (va_cpy f (fun _ => none) 0 0 10))))))) b (.inr (8, [.int mc, .ref a, .int 10])))) 1 15 A := by
  refine x_headW (own := RJ2) (As := [.ref b]) (bytes := cJ2_grow) (maxL := 1) (ret := (some (.array (.object "java/lang/Object")))) (by decide) rfl (Nat.le_of_ble_eq_true rfl) ?_
  intro p e s m below meth c E hml hr hlk hin2 hw ls hl
  have hx := E.1
  have hb := E.2.1
  have hts := E.2.2.1
  have hown := E.2.2.2.1
  have hl : lv_has ls 1 [(0, .ref b)] := hl
  refine lv_aload_n (pc := 0) hx hb dJ2_grow_0 rfl (lv_at hl 0 rfl) ?_
  refine lv_aload_n (pc := 1) hx hb dJ2_grow_1 rfl (lv_at hl 0 rfl) ?_
  refine x_rd (pc := 2) (v := .int 10) E hw.1 2 h1 (C := RJ2) (T := TJ2) (N := 3) rfl in_J2 (Nat.le_of_ble_eq_true rfl) q100 (fun _ h => h) rfl dJ2_grow_2 ?_
  refine lv_iconst (pc := 5) (v := 1) hx hb dJ2_grow_5 (by decide) ?_
  refine lv_iadd (pc := 6) hx hb dJ2_grow_6 ?_
  refine li_top (v' := .int 11) (by decide) ?_
  refine x_goW hw (x_runV (pc := 7) (As := [.int 11]) (rest := []) E hml hl.1 hw.2 hw.1 h1 (C := RJ2) (T := TJ2) (N := 3) rfl (xtJ2_grow_2_10 l D A V b ed mc f h1 h2 hel) q278 q280 qs2 q51 q281 hdJ2_grow_2 ⟨Nat.le_of_ble_eq_true rfl, Nat.le_of_ble_eq_true rfl⟩ rfl rfl rfl (Nat.le_of_ble_eq_true rfl) dJ2_grow_7 ⟨Nat.le_of_ble_eq_true rfl, Nat.le_of_ble_eq_true rfl⟩) (fun r_3 V_1 H locs hF_2 hw => ?_)
  obtain ⟨a_4, rfl, hf_5, hV_6⟩ := hF_2
  have hp_8 : (xu V a_4 (.inl (D.2.2.2.2, 15, .inr (.inr (.inr (.inr (va_cpy f (fun _ => none) 0 0 10))))))) a_4 = some (.inl (D.2.2.2.2, 15, .inr (.inr (.inr (.inr (va_cpy f (fun _ => none) 0 0 10)))))) := by rw [show (xu V a_4 (.inl (D.2.2.2.2, 15, .inr (.inr (.inr (.inr (va_cpy f (fun _ => none) 0 0 10))))))) = xu V a_4 (.inl (D.2.2.2.2, 15, .inr (.inr (.inr (.inr (va_cpy f (fun _ => none) 0 0 10)))))) from rfl]; exact xu_s _ _ _
  have hp_9 : (xu V a_4 (.inl (D.2.2.2.2, 15, .inr (.inr (.inr (.inr (va_cpy f (fun _ => none) 0 0 10))))))) b = some (.inr (8, [.int mc, .ref ed, .int 10])) := by rw [show (xu V a_4 (.inl (D.2.2.2.2, 15, .inr (.inr (.inr (.inr (va_cpy f (fun _ => none) 0 0 10))))))) = xu V a_4 (.inl (D.2.2.2.2, 15, .inr (.inr (.inr (.inr (va_cpy f (fun _ => none) 0 0 10)))))) from rfl, xu_n (hf_5 _ _ h1)]; exact h1
  have hp_10 : V_1 b = some (.inr (8, [.int mc, .ref a_4, .int 10])) := by rw [hV_6]; exact xu_s _ _ _
  refine x_more 1 15 (Nat.le_of_ble_eq_true rfl) (Nat.le_of_ble_eq_true rfl) ?_
  exact x_aret E hr (Or.inr ⟨_, rfl⟩) (Or.inr ⟨_, rfl⟩) hlk hw dJ2_grow_10 ⟨a_4, rfl, hf_5, hV_6⟩
set_option maxHeartbeats 4000000 in
set_option maxRecDepth 100000 in
theorem xtJ2_grow_2_15 (l : Launch) (D : xD) (A : Nat → Prop) (V : xV) (b ed : Nat) (mc : Int32) (f : Nat → Option Nat)  (h1 : V b = some (.inr (8, [.int mc, .ref ed, .int 15]))) (h2 : V ed = some (.inl (D.2.2.2.2, 15, .inr (.inr (.inr (.inr f)))))) (hel : ∀ i y, i < 15 → f i = some y → ∃ ci fs C T N, V y = some (.inr (ci, fs)) ∧ xCl[ci]? = some (C, T, N) ∧ Cond.castable C "java/lang/Object" ∈ lw_tbl) : Met l yJ2_grow_2 (ws_ yJ2_grow_2 cJ2_grow_2 4 (some (.array (.object "java/lang/Object")))) (xRm 6 1 22) (xP D A V [.ref b, .int 16]) (xQ D A (fun ρ V' => ∃ a, ρ = some (.ref a) ∧ (∀ b e, V b = some e → b ≠ a) ∧ V' = xu (xu V a (.inl (D.2.2.2.2, 22, .inr (.inr (.inr (.inr (va_cpy f (fun _ => none) 0 0 15))))))) b (.inr (8, [.int mc, .ref a, .int 15])))) 1 22 A := by
  refine x_headW (own := RJ2) (As := [.ref b, .int 16]) (bytes := cJ2_grow_2) (maxL := 4) (ret := (some (.array (.object "java/lang/Object")))) (by decide) rfl (Nat.le_of_ble_eq_true rfl) ?_
  intro p e s m below meth c E hml hr hlk hin2 hw ls hl
  have hx := E.1
  have hb := E.2.1
  have hts := E.2.2.1
  have hown := E.2.2.2.1
  have hl : lv_has ls 4 [(0, .ref b), (1, .int 16)] := hl
  refine lv_aload_n (pc := 0) hx hb dJ2_grow_2_0 rfl (lv_at hl 0 rfl) ?_
  refine x_rd (pc := 1) (v := .ref ed) E hw.1 1 h1 (C := RJ2) (T := TJ2) (N := 3) rfl in_J2 (Nat.le_of_ble_eq_true rfl) q99 (fun _ h => h) rfl dJ2_grow_2_1 ?_
  refine x_len (pc := 4) (v := 15) E hw.1 (cA := D.2.2.2.2) (t0 := 3) h2 rfl (by show Int32.ofNat 15 = 15; decide) dJ2_grow_2_4 ?_
  refine lv_istore_n (pc := 5) (lv' := [(2, .int 15), (0, .ref b), (1, .int 16)]) hx hb dJ2_grow_2_5 rfl hl (by decide) rfl (fun ls hl => ?_)
  refine lv_iload_n (pc := 6) hx hb dJ2_grow_2_6 rfl (lv_at hl 0 rfl) ?_
  refine li_if_gt (pc := 7) (tgt := 20) hx hb dJ2_grow_2_7 (by decide) (fun _ => ?_) (fun h_ => absurd h_ (by decide))
  refine lv_iload_n (pc := 20) hx hb dJ2_grow_2_20 rfl (lv_at hl 0 rfl) ?_
  refine lv_iload_n (pc := 21) hx hb dJ2_grow_2_21 rfl (lv_at hl 2 rfl) ?_
  refine lv_iload_n (pc := 22) hx hb dJ2_grow_2_22 rfl (lv_at hl 0 rfl) ?_
  refine lv_isub (pc := 23) hx hb dJ2_grow_2_23 ?_
  refine li_top (v' := .int 1) (by decide) ?_
  refine lv_iload_n (pc := 24) hx hb dJ2_grow_2_24 rfl (lv_at hl 0 rfl) ?_
  refine lv_iconst (pc := 25) (v := 1) hx hb dJ2_grow_2_25 (by decide) ?_
  refine lv_ishr (pc := 26) hx hb dJ2_grow_2_26 ?_
  refine li_top (v' := .int 7) (by decide) ?_
  refine x_goR (x_runS (pc := 27) (As := [.int 15, .int 1, .int 7]) (rest := []) E hml hl.1 (x_preE) (xtJ3_newLength_15 l) q282 q283 q56 q284 hdJ3_newLength.2 ⟨Nat.le_of_ble_eq_true rfl, Nat.le_of_ble_eq_true rfl⟩ rfl rfl rfl (Nat.le_of_ble_eq_true rfl) dJ2_grow_2_27 ⟨Nat.le_of_ble_eq_true rfl, Nat.le_of_ble_eq_true rfl⟩) ?_
  refine lv_istore_n (pc := 30) (lv' := [(3, .int 22), (2, .int 15), (0, .ref b), (1, .int 16)]) hx hb dJ2_grow_2_30 rfl hl (by decide) rfl (fun ls hl => ?_)
  refine lv_aload_n (pc := 31) hx hb dJ2_grow_2_31 rfl (lv_at hl 2 rfl) ?_
  refine lv_aload_n (pc := 32) hx hb dJ2_grow_2_32 rfl (lv_at hl 2 rfl) ?_
  refine x_rd (pc := 33) (v := .ref ed) E hw.1 1 h1 (C := RJ2) (T := TJ2) (N := 3) rfl in_J2 (Nat.le_of_ble_eq_true rfl) q99 (fun _ h => h) rfl dJ2_grow_2_33 ?_
  refine lv_iload_n (pc := 36) hx hb dJ2_grow_2_36 rfl (lv_at hl 0 rfl) ?_
  refine x_goW hw (x_runS (pc := 37) (As := [.ref ed, .int 22]) (rest := [.ref b]) E hml hl.1 (x_preS E hw.2 hw.1) (xtJ5_copyOf_15 l D A V ed f h2 hel) q292 q293 q58 q294 hdJ5_copyOf.2 ⟨Nat.le_of_ble_eq_true rfl, Nat.le_of_ble_eq_true rfl⟩ rfl rfl rfl (Nat.le_of_ble_eq_true rfl) dJ2_grow_2_37 ⟨Nat.le_of_ble_eq_true rfl, Nat.le_of_ble_eq_true rfl⟩) (fun r_3 V_1 H locs hF_2 hw => ?_)
  obtain ⟨a_4, rfl, hf_5, hV_6⟩ := hF_2
  have hp_7 : V_1 a_4 = some (.inl (D.2.2.2.2, 22, .inr (.inr (.inr (.inr (va_cpy f (fun _ => none) 0 0 15)))))) := by rw [hV_6]; exact xu_s _ _ _
  refine lv_dup_x1 (pc := 40) hx hb dJ2_grow_2_40 rfl rfl ?_
  have hp_8 : V_1 b = some (.inr (8, [.int mc, .ref ed, .int 15])) := by rw [hV_6, xu_n (hf_5 _ _ h1)]; exact h1
  refine x_put1 (pc := 41) (v := .ref a_4) E hw 1 hp_8 (C := RJ2) (T := TJ2) (N := 3) rfl in_J2 tyJ2 tyJ2_ok (Nat.le_of_ble_eq_true rfl) q99 (fun _ h => h) rfl (tyJ2_ok 1 (Nat.le_of_ble_eq_true rfl)) rfl rfl (Nat.le_of_ble_eq_true rfl) (fun j hj hne => Or.inl (nmJ2 j hj 1 (Nat.le_of_ble_eq_true rfl) hne)) dJ2_grow_2_41 (fun V_9 H locs hV_10 hw => ?_)
  replace hV_10 : V_9 = xu V_1 b (.inr (8, [.int mc, .ref a_4, .int 15])) := hV_10
  have hp_11 : V_9 b = some (.inr (8, [.int mc, .ref a_4, .int 15])) := by rw [hV_10]; exact xu_s _ _ _
  refine x_more 1 22 (Nat.le_of_ble_eq_true rfl) (Nat.le_of_ble_eq_true rfl) ?_
  exact x_aret E hr (Or.inr ⟨_, rfl⟩) (Or.inr ⟨_, rfl⟩) hlk hw dJ2_grow_2_44 ⟨a_4, rfl, hf_5, by rw [hV_10, hV_6]⟩
set_option maxHeartbeats 4000000 in
set_option maxRecDepth 100000 in
theorem xtJ2_grow_15 (l : Launch) (D : xD) (A : Nat → Prop) (V : xV) (b ed : Nat) (mc : Int32) (f : Nat → Option Nat)  (h1 : V b = some (.inr (8, [.int mc, .ref ed, .int 15]))) (h2 : V ed = some (.inl (D.2.2.2.2, 15, .inr (.inr (.inr (.inr f)))))) (hel : ∀ i y, i < 15 → f i = some y → ∃ ci fs C T N, V y = some (.inr (ci, fs)) ∧ xCl[ci]? = some (C, T, N) ∧ Cond.castable C "java/lang/Object" ∈ lw_tbl) : Met l yJ2_grow (ws_ yJ2_grow cJ2_grow 1 (some (.array (.object "java/lang/Object")))) (xRm 7 1 22) (xP D A V [.ref b]) (xQ D A (fun ρ V' => ∃ a, ρ = some (.ref a) ∧ (∀ b e, V b = some e → b ≠ a) ∧ V' = xu (xu V a (.inl (D.2.2.2.2, 22, .inr (.inr (.inr (.inr (va_cpy f (fun _ => none) 0 0 15))))))) b (.inr (8, [.int mc, .ref a, .int 15])))) 1 22 A := by
  refine x_headW (own := RJ2) (As := [.ref b]) (bytes := cJ2_grow) (maxL := 1) (ret := (some (.array (.object "java/lang/Object")))) (by decide) rfl (Nat.le_of_ble_eq_true rfl) ?_
  intro p e s m below meth c E hml hr hlk hin2 hw ls hl
  have hx := E.1
  have hb := E.2.1
  have hts := E.2.2.1
  have hown := E.2.2.2.1
  have hl : lv_has ls 1 [(0, .ref b)] := hl
  refine lv_aload_n (pc := 0) hx hb dJ2_grow_0 rfl (lv_at hl 0 rfl) ?_
  refine lv_aload_n (pc := 1) hx hb dJ2_grow_1 rfl (lv_at hl 0 rfl) ?_
  refine x_rd (pc := 2) (v := .int 15) E hw.1 2 h1 (C := RJ2) (T := TJ2) (N := 3) rfl in_J2 (Nat.le_of_ble_eq_true rfl) q100 (fun _ h => h) rfl dJ2_grow_2 ?_
  refine lv_iconst (pc := 5) (v := 1) hx hb dJ2_grow_5 (by decide) ?_
  refine lv_iadd (pc := 6) hx hb dJ2_grow_6 ?_
  refine li_top (v' := .int 16) (by decide) ?_
  refine x_goW hw (x_runV (pc := 7) (As := [.int 16]) (rest := []) E hml hl.1 hw.2 hw.1 h1 (C := RJ2) (T := TJ2) (N := 3) rfl (xtJ2_grow_2_15 l D A V b ed mc f h1 h2 hel) q278 q280 qs2 q51 q281 hdJ2_grow_2 ⟨Nat.le_of_ble_eq_true rfl, Nat.le_of_ble_eq_true rfl⟩ rfl rfl rfl (Nat.le_of_ble_eq_true rfl) dJ2_grow_7 ⟨Nat.le_of_ble_eq_true rfl, Nat.le_of_ble_eq_true rfl⟩) (fun r_3 V_1 H locs hF_2 hw => ?_)
  obtain ⟨a_4, rfl, hf_5, hV_6⟩ := hF_2
  have hp_8 : (xu V a_4 (.inl (D.2.2.2.2, 22, .inr (.inr (.inr (.inr (va_cpy f (fun _ => none) 0 0 15))))))) a_4 = some (.inl (D.2.2.2.2, 22, .inr (.inr (.inr (.inr (va_cpy f (fun _ => none) 0 0 15)))))) := by rw [show (xu V a_4 (.inl (D.2.2.2.2, 22, .inr (.inr (.inr (.inr (va_cpy f (fun _ => none) 0 0 15))))))) = xu V a_4 (.inl (D.2.2.2.2, 22, .inr (.inr (.inr (.inr (va_cpy f (fun _ => none) 0 0 15)))))) from rfl]; exact xu_s _ _ _
  have hp_9 : (xu V a_4 (.inl (D.2.2.2.2, 22, .inr (.inr (.inr (.inr (va_cpy f (fun _ => none) 0 0 15))))))) b = some (.inr (8, [.int mc, .ref ed, .int 15])) := by rw [show (xu V a_4 (.inl (D.2.2.2.2, 22, .inr (.inr (.inr (.inr (va_cpy f (fun _ => none) 0 0 15))))))) = xu V a_4 (.inl (D.2.2.2.2, 22, .inr (.inr (.inr (.inr (va_cpy f (fun _ => none) 0 0 15)))))) from rfl, xu_n (hf_5 _ _ h1)]; exact h1
  have hp_10 : V_1 b = some (.inr (8, [.int mc, .ref a_4, .int 15])) := by rw [hV_6]; exact xu_s _ _ _
  refine x_more 1 22 (Nat.le_of_ble_eq_true rfl) (Nat.le_of_ble_eq_true rfl) ?_
  exact x_aret E hr (Or.inr ⟨_, rfl⟩) (Or.inr ⟨_, rfl⟩) hlk hw dJ2_grow_10 ⟨a_4, rfl, hf_5, hV_6⟩
