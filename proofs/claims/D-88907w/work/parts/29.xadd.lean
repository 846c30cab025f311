/-! ArrayList.add -/
theorem x_post {l : Launch} {y : MethodName} {ws : List Cond} {rm : Room} {Pc : Array Value → State → Prop} {D : xD} {A : Nat → Prop} {p1 p2 : Option Value → xV → Prop} {mc ms : Nat} (h : ∀ r V', p1 r V' → p2 r V') (hM : Met l y ws rm Pc (xQ D A p1) mc ms A) : Met l y ws rm Pc (xQ D A p2) mc ms A := by
  intro p e a1 a2 a3 s m args below h1 h2 h3 h4
  obtain ⟨n, o, b1, b2, b3, ⟨⟨r, V', e1, e2, e3⟩, F⟩, L⟩ := hM p e a1 a2 a3 s m args below h1 h2 h3 h4
  exact ⟨n, o, b1, b2, b3, ⟨⟨r, V', e1, h _ _ e2, e3⟩, F⟩, L⟩
set_option maxHeartbeats 4000000 in
set_option maxRecDepth 100000 in
theorem xtJ2_add_2_A (l : Launch) (D : xD) (A : Nat → Prop) (V : xV) (b ed n cap o : Nat) (mc : Int32) (f : Nat → Option Nat) (ci : Nat) (fs : List Value) (C : String) (T : u_T) (N : Nat)  (h1 : V b = some (.inr (8, [.int mc, .ref ed, .int (nI n)]))) (h2 : V ed = some (.inl (D.2.2.2.2, cap, .inr (.inr (.inr (.inr f)))))) (hn : n < cap) (hc : cap < 2 ^ 31) (ho : V o = some (.inr (ci, fs))) (hoc : xCl[ci]? = some (C, T, N)) (hoq : Cond.castable C "java/lang/Object" ∈ lw_tbl) (hob : o ≠ b) : Met l yJ2_add_2 (ws_ yJ2_add_2 cJ2_add_2 4 none) (xRm 8 1 22) (xP D A V [.ref b, .ref o, .ref ed, .int (nI n)]) (xQ D A (fun ρ V' => ρ = none ∧ V' = xu (xu V ed (.inl (D.2.2.2.2, cap, .inr (.inr (.inr (.inr (va_up f n (some o)))))))) b (.inr (8, [.int mc, .ref ed, .int (nI (n + 1))])))) 1 22 A := by
  refine x_headW (own := RJ2) (As := [.ref b, .ref o, .ref ed, .int (nI n)]) (bytes := cJ2_add_2) (maxL := 4) (ret := none) (by decide) rfl (Nat.le_of_ble_eq_true rfl) ?_
  intro p e s m below meth c E hml hr hlk hin2 hw ls hl
  have hx := E.1
  have hb := E.2.1
  have hts := E.2.2.1
  have hown := E.2.2.2.1
  have hl : lv_has ls 4 [(0, .ref b), (1, .ref o), (2, .ref ed), (3, .int (nI n))] := hl
  have hoe : o ≠ ed := x_ne ho h2 (by intro h; cases h)
  refine lv_iload_n (pc := 0) hx hb dJ2_add_2_0 rfl (lv_at hl 3 rfl) ?_
  refine lv_aload_n (pc := 1) hx hb dJ2_add_2_1 rfl (lv_at hl 2 rfl) ?_
  refine x_len (pc := 2) (v := (nI cap)) E hw.1 (cA := D.2.2.2.2) (t0 := 3) h2 rfl rfl dJ2_add_2_2 ?_
  refine li_icmp_neN (pc := 3) (a := n) (b := cap) (tgt := 11) hx hb (by omega) (by omega) dJ2_add_2_3 (by decide) (fun c_1 => ?_) (fun c_1 => absurd c_1 (by omega))
  refine lv_aload_n (pc := 11) hx hb dJ2_add_2_11 rfl (lv_at hl 2 rfl) ?_
  refine lv_iload_n (pc := 12) hx hb dJ2_add_2_12 rfl (lv_at hl 3 rfl) ?_
  refine lv_aload_n (pc := 13) hx hb dJ2_add_2_13 rfl (lv_at hl 1 rfl) ?_
  refine x_ost1 (pc := 14) E hw (n) h2 (x_any E.2.2.2.2.1 hw.1 ho hoc hoq) (show n < cap from (by omega)) (hc) dJ2_add_2_14 (fun V_2 H locs hV_3 hw => ?_)
  have hp_4 : V_2 ed = some (.inl (D.2.2.2.2, cap, .inr (.inr (.inr (.inr (va_up f n (some o))))))) := by rw [hV_3]; exact xu_s _ _ _
  refine lv_aload_n (pc := 15) hx hb dJ2_add_2_15 rfl (lv_at hl 0 rfl) ?_
  refine lv_iload_n (pc := 16) hx hb dJ2_add_2_16 rfl (lv_at hl 3 rfl) ?_
  refine lv_iconst (pc := 17) (v := 1) hx hb dJ2_add_2_17 (by decide) ?_
  refine li_addN (pc := 18) (a := n) (b := 1) hx hb dJ2_add_2_18 ?_
  have hp_5 : V_2 b = some (.inr (8, [.int mc, .ref ed, .int (nI n)])) := by rw [hV_3, xu_n (x_ne h1 h2 (by intro h; cases h))]; exact h1
  refine x_put1 (pc := 19) (v := .int (nI (n + 1))) E hw 2 hp_5 (C := RJ2) (T := TJ2) (N := 3) rfl in_J2 tyJ2 tyJ2_ok (Nat.le_of_ble_eq_true rfl) q100 (fun _ h => h) rfl (tyJ2_ok 2 (Nat.le_of_ble_eq_true rfl)) rfl rfl (Nat.le_of_ble_eq_true rfl) (fun j hj hne => Or.inl (nmJ2 j hj 2 (Nat.le_of_ble_eq_true rfl) hne)) dJ2_add_2_19 (fun V_6 H locs hV_7 hw => ?_)
  replace hV_7 : V_6 = xu V_2 b (.inr (8, [.int mc, .ref ed, .int (nI (n + 1))])) := hV_7
  have hp_8 : V_6 b = some (.inr (8, [.int mc, .ref ed, .int (nI (n + 1))])) := by rw [hV_7]; exact xu_s _ _ _
  refine x_more 1 22 (Nat.le_of_ble_eq_true rfl) (Nat.le_of_ble_eq_true rfl) ?_
  exact x_vret E hr hlk hw dJ2_add_2_22 ⟨rfl, by rw [hV_7, hV_3]⟩
set_option maxHeartbeats 4000000 in
set_option maxRecDepth 100000 in
theorem xtJ2_add_A (l : Launch) (D : xD) (A : Nat → Prop) (V : xV) (b ed n cap o : Nat) (mc : Int32) (f : Nat → Option Nat) (ci : Nat) (fs : List Value) (C : String) (T : u_T) (N : Nat)  (h1 : V b = some (.inr (8, [.int mc, .ref ed, .int (nI n)]))) (h2 : V ed = some (.inl (D.2.2.2.2, cap, .inr (.inr (.inr (.inr f)))))) (hn : n < cap) (hc : cap < 2 ^ 31) (ho : V o = some (.inr (ci, fs))) (hoc : xCl[ci]? = some (C, T, N)) (hoq : Cond.castable C "java/lang/Object" ∈ lw_tbl) (hob : o ≠ b) : Met l yJ2_add (ws_ yJ2_add cJ2_add 2 (some .boolean)) (xRm 9 1 22) (xP D A V [.ref b, .ref o]) (xQ D A (fun ρ V' => ρ = (some (.int 1)) ∧ V' = xu (xu V ed (.inl (D.2.2.2.2, cap, .inr (.inr (.inr (.inr (va_up f n (some o)))))))) b (.inr (8, [.int (mc + 1), .ref ed, .int (nI (n + 1))])))) 1 22 A := by
  refine x_headW (own := RJ2) (As := [.ref b, .ref o]) (bytes := cJ2_add) (maxL := 2) (ret := (some .boolean)) (by decide) rfl (Nat.le_of_ble_eq_true rfl) ?_
  intro p e s m below meth c E hml hr hlk hin2 hw ls hl
  have hx := E.1
  have hb := E.2.1
  have hts := E.2.2.1
  have hown := E.2.2.2.1
  have hl : lv_has ls 2 [(0, .ref b), (1, .ref o)] := hl
  have hoe : o ≠ ed := x_ne ho h2 (by intro h; cases h)
  have hne : ed ≠ b := x_ne h2 h1 (by intro h; cases h)
  refine lv_aload_n (pc := 0) hx hb dJ2_add_0 rfl (lv_at hl 0 rfl) ?_
  refine lv_dup (pc := 1) hx hb dJ2_add_1 rfl ?_
  refine x_rd (pc := 2) (v := .int mc) E hw.1 0 h1 (C := RJ2) (T := TJ2) (N := 3) rfl in_J2 (Nat.le_of_ble_eq_true rfl) q102 (u_same (E.2.2.1 _ q103)) rfl dJ2_add_2 ?_
  refine lv_iconst (pc := 5) (v := 1) hx hb dJ2_add_5 (by decide) ?_
  refine lv_iadd (pc := 6) hx hb dJ2_add_6 ?_
  refine x_put1 (pc := 7) (v := .int (mc + 1)) E hw 0 h1 (C := RJ2) (T := TJ2) (N := 3) rfl in_J2 tyJ2 tyJ2_ok (Nat.le_of_ble_eq_true rfl) q102 (u_same (E.2.2.1 _ q103)) rfl (tyJ2_ok 0 (Nat.le_of_ble_eq_true rfl)) rfl rfl (Nat.le_of_ble_eq_true rfl) (fun j hj hne => Or.inl (nmJ2 j hj 0 (Nat.le_of_ble_eq_true rfl) hne)) dJ2_add_7 (fun V_1 H locs hV_2 hw => ?_)
  replace hV_2 : V_1 = xu V b (.inr (8, [.int (mc + 1), .ref ed, .int (nI n)])) := hV_2
  have hp_3 : V_1 b = some (.inr (8, [.int (mc + 1), .ref ed, .int (nI n)])) := by rw [hV_2]; exact xu_s _ _ _
  refine lv_aload_n (pc := 10) hx hb dJ2_add_10 rfl (lv_at hl 0 rfl) ?_
  refine lv_aload_n (pc := 11) hx hb dJ2_add_11 rfl (lv_at hl 1 rfl) ?_
  refine lv_aload_n (pc := 12) hx hb dJ2_add_12 rfl (lv_at hl 0 rfl) ?_
  refine x_rd (pc := 13) (v := .ref ed) E hw.1 1 hp_3 (C := RJ2) (T := TJ2) (N := 3) rfl in_J2 (Nat.le_of_ble_eq_true rfl) q99 (fun _ h => h) rfl dJ2_add_13 ?_
  refine lv_aload_n (pc := 16) hx hb dJ2_add_16 rfl (lv_at hl 0 rfl) ?_
  refine x_rd (pc := 17) (v := .int (nI n)) E hw.1 2 hp_3 (C := RJ2) (T := TJ2) (N := 3) rfl in_J2 (Nat.le_of_ble_eq_true rfl) q100 (fun _ h => h) rfl dJ2_add_17 ?_
  have hp_4 : V_1 ed = some (.inl (D.2.2.2.2, cap, .inr (.inr (.inr (.inr f))))) := by rw [hV_2, xu_n (x_ne h2 h1 (by intro h; cases h))]; exact h2
  have hp_5 : V_1 o = some (.inr (ci, fs)) := by rw [hV_2, xu_n hob]; exact ho
  refine x_goWn hw (x_runV (pc := 20) (As := [.ref o, .ref ed, .int (nI n)]) (rest := []) E hml hl.1 hw.2 hw.1 hp_3 (C := RJ2) (T := TJ2) (N := 3) rfl (xtJ2_add_2_A l D A V_1 b ed n cap o (mc + 1) f ci fs C T N hp_3 hp_4 hn hc hp_5 hoc hoq hob) q270 q272 qs0 q51 q273 hdJ2_add_2 ⟨Nat.le_of_ble_eq_true rfl, Nat.le_of_ble_eq_true rfl⟩ rfl rfl rfl (Nat.le_of_ble_eq_true rfl) dJ2_add_20 ⟨Nat.le_of_ble_eq_true rfl, Nat.le_of_ble_eq_true rfl⟩) (fun V_6 H locs hF_7 hw => ?_)
  have hp_8 : (xu V_1 ed (.inl (D.2.2.2.2, cap, .inr (.inr (.inr (.inr (va_up f n (some o)))))))) ed = some (.inl (D.2.2.2.2, cap, .inr (.inr (.inr (.inr (va_up f n (some o))))))) := by rw [show (xu V_1 ed (.inl (D.2.2.2.2, cap, .inr (.inr (.inr (.inr (va_up f n (some o)))))))) = xu V_1 ed (.inl (D.2.2.2.2, cap, .inr (.inr (.inr (.inr (va_up f n (some o))))))) from rfl]; exact xu_s _ _ _
  have hp_9 : (xu V_1 ed (.inl (D.2.2.2.2, cap, .inr (.inr (.inr (.inr (va_up f n (some o)))))))) b = some (.inr (8, [.int (mc + 1), .ref ed, .int (nI n)])) := by rw [show (xu V_1 ed (.inl (D.2.2.2.2, cap, .inr (.inr (.inr (.inr (va_up f n (some o)))))))) = xu V_1 ed (.inl (D.2.2.2.2, cap, .inr (.inr (.inr (.inr (va_up f n (some o))))))) from rfl, xu_n (x_ne hp_3 hp_4 (by intro h; cases h))]; exact hp_3
  have hp_10 : V_6 b = some (.inr (8, [.int (mc + 1), .ref ed, .int (nI (n + 1))])) := by rw [hF_7]; exact xu_s _ _ _
  refine lv_iconst (pc := 23) (v := 1) hx hb dJ2_add_23 (by decide) ?_
  refine x_more 1 22 (Nat.le_of_ble_eq_true rfl) (Nat.le_of_ble_eq_true rfl) ?_
  exact x_zret E hr hlk hw dJ2_add_24 rfl ⟨rfl, by rw [hF_7, show (xu V_1 ed (.inl (D.2.2.2.2, cap, .inr (.inr (.inr (.inr (va_up f n (some o)))))))) = xu V_1 ed (.inl (D.2.2.2.2, cap, .inr (.inr (.inr (.inr (va_up f n (some o))))))) from rfl, hV_2, xu_comm _ (Ne.symm hne), xu_xu]⟩
set_option maxHeartbeats 4000000 in
set_option maxRecDepth 100000 in
theorem xtJ2_add_2_0 (l : Launch) (D : xD) (A : Nat → Prop) (V : xV) (b ed o : Nat) (mc : Int32) (f : Nat → Option Nat) (ci : Nat) (fs : List Value) (C : String) (T : u_T) (N : Nat)  (h1 : V b = some (.inr (8, [.int mc, .ref ed, .int 0]))) (h2 : V ed = some (.inl (D.2.2.2.2, 0, .inr (.inr (.inr (.inr f)))))) (hed : ed = D.1.2.1) (ho : V o = some (.inr (ci, fs))) (hoc : xCl[ci]? = some (C, T, N)) (hoq : Cond.castable C "java/lang/Object" ∈ lw_tbl) (hob : o ≠ b) : Met l yJ2_add_2 (ws_ yJ2_add_2 cJ2_add_2 4 none) (xRm 8 1 22) (xP D A V [.ref b, .ref o, .ref ed, .int 0]) (xQ D A (fun ρ V' => ρ = none ∧ ∃ a, (∀ b e, V b = some e → b ≠ a) ∧ V' = xu (xu V a (.inl (D.2.2.2.2, 10, .inr (.inr (.inr (.inr (va_up (fun _ => none) 0 (some o)))))))) b (.inr (8, [.int mc, .ref a, .int 1])))) 1 22 A := by
  refine x_headW (own := RJ2) (As := [.ref b, .ref o, .ref ed, .int 0]) (bytes := cJ2_add_2) (maxL := 4) (ret := none) (by decide) rfl (Nat.le_of_ble_eq_true rfl) ?_
  intro p e s m below meth c E hml hr hlk hin2 hw ls hl
  have hx := E.1
  have hb := E.2.1
  have hts := E.2.2.1
  have hown := E.2.2.2.1
  have hl : lv_has ls 4 [(0, .ref b), (1, .ref o), (2, .ref ed), (3, .int 0)] := hl
  have hoe : o ≠ ed := x_ne ho h2 (by intro h; cases h)
  refine lv_iload_n (pc := 0) hx hb dJ2_add_2_0 rfl (lv_at hl 3 rfl) ?_
  refine lv_aload_n (pc := 1) hx hb dJ2_add_2_1 rfl (lv_at hl 2 rfl) ?_
  refine x_len (pc := 2) (v := 0) E hw.1 (cA := D.2.2.2.2) (t0 := 3) h2 rfl (by show Int32.ofNat 0 = 0; decide) dJ2_add_2_2 ?_
  refine li_icne (pc := 3) (tgt := 11) hx hb dJ2_add_2_3 (by decide) (fun h_ => absurd h_ (by decide)) (fun _ => ?_)
  refine lv_aload_n (pc := 6) hx hb dJ2_add_2_6 rfl (lv_at hl 0 rfl) ?_
  refine x_goW hw (x_runV (pc := 7) (As := []) (rest := []) E hml hl.1 hw.2 hw.1 h1 (C := RJ2) (T := TJ2) (N := 3) rfl (xtJ2_grow_0 l D A V b ed mc f h1 h2 hed) q274 q276 qs1 q51 q277 hdJ2_grow ⟨Nat.le_of_ble_eq_true rfl, Nat.le_of_ble_eq_true rfl⟩ rfl rfl rfl (Nat.le_of_ble_eq_true rfl) dJ2_add_2_7 ⟨Nat.le_of_ble_eq_true rfl, Nat.le_of_ble_eq_true rfl⟩) (fun r_3 V_1 H locs hF_2 hw => ?_)
  obtain ⟨a_4, rfl, hf_5, hV_6⟩ := hF_2
  have hp_8 : (xu V a_4 (.inl (D.2.2.2.2, 10, .inr (.inr (.inr (.inr (fun _ => none))))))) a_4 = some (.inl (D.2.2.2.2, 10, .inr (.inr (.inr (.inr (fun _ => none)))))) := by rw [show (xu V a_4 (.inl (D.2.2.2.2, 10, .inr (.inr (.inr (.inr (fun _ => none))))))) = xu V a_4 (.inl (D.2.2.2.2, 10, .inr (.inr (.inr (.inr (fun _ => none)))))) from rfl]; exact xu_s _ _ _
  have hp_9 : (xu V a_4 (.inl (D.2.2.2.2, 10, .inr (.inr (.inr (.inr (fun _ => none))))))) b = some (.inr (8, [.int mc, .ref ed, .int 0])) := by rw [show (xu V a_4 (.inl (D.2.2.2.2, 10, .inr (.inr (.inr (.inr (fun _ => none))))))) = xu V a_4 (.inl (D.2.2.2.2, 10, .inr (.inr (.inr (.inr (fun _ => none)))))) from rfl, xu_n (hf_5 _ _ h1)]; exact h1
  have hp_10 : V_1 b = some (.inr (8, [.int mc, .ref a_4, .int 0])) := by rw [hV_6]; exact xu_s _ _ _
  refine lv_astore_n (pc := 10) (lv' := [(2, .ref a_4), (0, .ref b), (1, .ref o), (3, .int 0)]) hx hb dJ2_add_2_10 rfl hl (by decide) rfl (fun ls hl => ?_)
  refine lv_aload_n (pc := 11) hx hb dJ2_add_2_11 rfl (lv_at hl 0 rfl) ?_
  refine lv_iload_n (pc := 12) hx hb dJ2_add_2_12 rfl (lv_at hl 3 rfl) ?_
  refine lv_aload_n (pc := 13) hx hb dJ2_add_2_13 rfl (lv_at hl 2 rfl) ?_
  have hp_11 : V_1 a_4 = some (.inl (D.2.2.2.2, 10, .inr (.inr (.inr (.inr (fun _ => none)))))) := by rw [hV_6, xu_n (Ne.symm (hf_5 _ _ h1))]; exact hp_8
  have hp_14 : (xu V a_4 (.inl (D.2.2.2.2, 10, .inr (.inr (.inr (.inr (fun _ => none))))))) o = some (.inr (ci, fs)) := by rw [show (xu V a_4 (.inl (D.2.2.2.2, 10, .inr (.inr (.inr (.inr (fun _ => none))))))) = xu V a_4 (.inl (D.2.2.2.2, 10, .inr (.inr (.inr (.inr (fun _ => none)))))) from rfl, xu_n (hf_5 _ _ ho)]; exact ho
  have hp_15 : V_1 o = some (.inr (ci, fs)) := by rw [hV_6, xu_n hob]; exact hp_14
  refine x_ost1 (pc := 14) E hw (0) hp_11 (x_any E.2.2.2.2.1 hw.1 hp_15 hoc hoq) (show 0 < 10 from (by omega)) (Nat.le_of_ble_eq_true rfl) dJ2_add_2_14 (fun V_12 H locs hV_13 hw => ?_)
  have hp_16 : V_12 a_4 = some (.inl (D.2.2.2.2, 10, .inr (.inr (.inr (.inr (va_up (fun _ => none) 0 (some o))))))) := by rw [hV_13]; exact xu_s _ _ _
  refine lv_aload_n (pc := 15) hx hb dJ2_add_2_15 rfl (lv_at hl 1 rfl) ?_
  refine lv_iload_n (pc := 16) hx hb dJ2_add_2_16 rfl (lv_at hl 3 rfl) ?_
  refine lv_iconst (pc := 17) (v := 1) hx hb dJ2_add_2_17 (by decide) ?_
  refine lv_iadd (pc := 18) hx hb dJ2_add_2_18 ?_
  refine li_top (v' := .int 1) (by decide) ?_
  have hp_17 : V_12 b = some (.inr (8, [.int mc, .ref a_4, .int 0])) := by rw [hV_13, xu_n (x_ne hp_10 hp_11 (by intro h; cases h))]; exact hp_10
  refine x_put1 (pc := 19) (v := .int 1) E hw 2 hp_17 (C := RJ2) (T := TJ2) (N := 3) rfl in_J2 tyJ2 tyJ2_ok (Nat.le_of_ble_eq_true rfl) q100 (fun _ h => h) rfl (tyJ2_ok 2 (Nat.le_of_ble_eq_true rfl)) rfl rfl (Nat.le_of_ble_eq_true rfl) (fun j hj hne => Or.inl (nmJ2 j hj 2 (Nat.le_of_ble_eq_true rfl) hne)) dJ2_add_2_19 (fun V_18 H locs hV_19 hw => ?_)
  replace hV_19 : V_18 = xu V_12 b (.inr (8, [.int mc, .ref a_4, .int 1])) := hV_19
  have hp_20 : V_18 b = some (.inr (8, [.int mc, .ref a_4, .int 1])) := by rw [hV_19]; exact xu_s _ _ _
  refine x_more 1 22 (Nat.le_of_ble_eq_true rfl) (Nat.le_of_ble_eq_true rfl) ?_
  have hn_21 : b ≠ a_4 := hf_5 _ _ h1
  refine x_vret E hr hlk hw dJ2_add_2_22 ⟨rfl, a_4, hf_5, ?_⟩
  rw [hV_19, hV_13, hV_6, xu_comm _ hn_21, xu_xu, xu_xu]
set_option maxHeartbeats 4000000 in
set_option maxRecDepth 100000 in
theorem xtJ2_add_0 (l : Launch) (D : xD) (A : Nat → Prop) (V : xV) (b ed o : Nat) (mc : Int32) (f : Nat → Option Nat) (ci : Nat) (fs : List Value) (C : String) (T : u_T) (N : Nat)  (h1 : V b = some (.inr (8, [.int mc, .ref ed, .int 0]))) (h2 : V ed = some (.inl (D.2.2.2.2, 0, .inr (.inr (.inr (.inr f)))))) (hed : ed = D.1.2.1) (ho : V o = some (.inr (ci, fs))) (hoc : xCl[ci]? = some (C, T, N)) (hoq : Cond.castable C "java/lang/Object" ∈ lw_tbl) (hob : o ≠ b) : Met l yJ2_add (ws_ yJ2_add cJ2_add 2 (some .boolean)) (xRm 9 1 22) (xP D A V [.ref b, .ref o]) (xQ D A (fun ρ V' => ρ = (some (.int 1)) ∧ ∃ a, (∀ b e, V b = some e → b ≠ a) ∧ V' = xu (xu V a (.inl (D.2.2.2.2, 10, .inr (.inr (.inr (.inr (va_up (fun _ => none) 0 (some o)))))))) b (.inr (8, [.int (mc + 1), .ref a, .int 1])))) 1 22 A := by
  refine x_headW (own := RJ2) (As := [.ref b, .ref o]) (bytes := cJ2_add) (maxL := 2) (ret := (some .boolean)) (by decide) rfl (Nat.le_of_ble_eq_true rfl) ?_
  intro p e s m below meth c E hml hr hlk hin2 hw ls hl
  have hx := E.1
  have hb := E.2.1
  have hts := E.2.2.1
  have hown := E.2.2.2.1
  have hl : lv_has ls 2 [(0, .ref b), (1, .ref o)] := hl
  have hoe : o ≠ ed := x_ne ho h2 (by intro h; cases h)
  refine lv_aload_n (pc := 0) hx hb dJ2_add_0 rfl (lv_at hl 0 rfl) ?_
  refine lv_dup (pc := 1) hx hb dJ2_add_1 rfl ?_
  refine x_rd (pc := 2) (v := .int mc) E hw.1 0 h1 (C := RJ2) (T := TJ2) (N := 3) rfl in_J2 (Nat.le_of_ble_eq_true rfl) q102 (u_same (E.2.2.1 _ q103)) rfl dJ2_add_2 ?_
  refine lv_iconst (pc := 5) (v := 1) hx hb dJ2_add_5 (by decide) ?_
  refine lv_iadd (pc := 6) hx hb dJ2_add_6 ?_
  refine x_put1 (pc := 7) (v := .int (mc + 1)) E hw 0 h1 (C := RJ2) (T := TJ2) (N := 3) rfl in_J2 tyJ2 tyJ2_ok (Nat.le_of_ble_eq_true rfl) q102 (u_same (E.2.2.1 _ q103)) rfl (tyJ2_ok 0 (Nat.le_of_ble_eq_true rfl)) rfl rfl (Nat.le_of_ble_eq_true rfl) (fun j hj hne => Or.inl (nmJ2 j hj 0 (Nat.le_of_ble_eq_true rfl) hne)) dJ2_add_7 (fun V_1 H locs hV_2 hw => ?_)
  replace hV_2 : V_1 = xu V b (.inr (8, [.int (mc + 1), .ref ed, .int 0])) := hV_2
  have hp_3 : V_1 b = some (.inr (8, [.int (mc + 1), .ref ed, .int 0])) := by rw [hV_2]; exact xu_s _ _ _
  refine lv_aload_n (pc := 10) hx hb dJ2_add_10 rfl (lv_at hl 0 rfl) ?_
  refine lv_aload_n (pc := 11) hx hb dJ2_add_11 rfl (lv_at hl 1 rfl) ?_
  refine lv_aload_n (pc := 12) hx hb dJ2_add_12 rfl (lv_at hl 0 rfl) ?_
  refine x_rd (pc := 13) (v := .ref ed) E hw.1 1 hp_3 (C := RJ2) (T := TJ2) (N := 3) rfl in_J2 (Nat.le_of_ble_eq_true rfl) q99 (fun _ h => h) rfl dJ2_add_13 ?_
  refine lv_aload_n (pc := 16) hx hb dJ2_add_16 rfl (lv_at hl 0 rfl) ?_
  refine x_rd (pc := 17) (v := .int 0) E hw.1 2 hp_3 (C := RJ2) (T := TJ2) (N := 3) rfl in_J2 (Nat.le_of_ble_eq_true rfl) q100 (fun _ h => h) rfl dJ2_add_17 ?_
  have hp_4 : V_1 ed = some (.inl (D.2.2.2.2, 0, .inr (.inr (.inr (.inr f))))) := by rw [hV_2, xu_n (x_ne h2 h1 (by intro h; cases h))]; exact h2
  have hp_5 : V_1 o = some (.inr (ci, fs)) := by rw [hV_2, xu_n hob]; exact ho
  refine x_goWn hw (x_runV (pc := 20) (As := [.ref o, .ref ed, .int 0]) (rest := []) E hml hl.1 hw.2 hw.1 hp_3 (C := RJ2) (T := TJ2) (N := 3) rfl (xtJ2_add_2_0 l D A V_1 b ed o (mc + 1) f ci fs C T N hp_3 hp_4 hed hp_5 hoc hoq hob) q270 q272 qs0 q51 q273 hdJ2_add_2 ⟨Nat.le_of_ble_eq_true rfl, Nat.le_of_ble_eq_true rfl⟩ rfl rfl rfl (Nat.le_of_ble_eq_true rfl) dJ2_add_20 ⟨Nat.le_of_ble_eq_true rfl, Nat.le_of_ble_eq_true rfl⟩) (fun V_6 H locs hF_7 hw => ?_)
  obtain ⟨a_8, hf_9, hV_10⟩ := hF_7
  have hp_11 : (xu V_1 a_8 (.inl (D.2.2.2.2, 10, .inr (.inr (.inr (.inr (va_up (fun _ => none) 0 (some o)))))))) a_8 = some (.inl (D.2.2.2.2, 10, .inr (.inr (.inr (.inr (va_up (fun _ => none) 0 (some o))))))) := by rw [show (xu V_1 a_8 (.inl (D.2.2.2.2, 10, .inr (.inr (.inr (.inr (va_up (fun _ => none) 0 (some o)))))))) = xu V_1 a_8 (.inl (D.2.2.2.2, 10, .inr (.inr (.inr (.inr (va_up (fun _ => none) 0 (some o))))))) from rfl]; exact xu_s _ _ _
  have hp_12 : (xu V_1 a_8 (.inl (D.2.2.2.2, 10, .inr (.inr (.inr (.inr (va_up (fun _ => none) 0 (some o)))))))) b = some (.inr (8, [.int (mc + 1), .ref ed, .int 0])) := by rw [show (xu V_1 a_8 (.inl (D.2.2.2.2, 10, .inr (.inr (.inr (.inr (va_up (fun _ => none) 0 (some o)))))))) = xu V_1 a_8 (.inl (D.2.2.2.2, 10, .inr (.inr (.inr (.inr (va_up (fun _ => none) 0 (some o))))))) from rfl, xu_n (hf_9 _ _ hp_3)]; exact hp_3
  have hp_13 : V_6 b = some (.inr (8, [.int (mc + 1), .ref a_8, .int 1])) := by rw [hV_10]; exact xu_s _ _ _
  refine lv_iconst (pc := 23) (v := 1) hx hb dJ2_add_23 (by decide) ?_
  refine x_more 1 22 (Nat.le_of_ble_eq_true rfl) (Nat.le_of_ble_eq_true rfl) ?_
  have hn_14 : b ≠ a_8 := hf_9 _ _ (show V_1 b = _ by rw [hV_2]; exact xu_s _ _ _)
  have hf_15 : ∀ q e, V q = some e → q ≠ a_8 := by
    intro q e hq
    by_cases hqb : q = b
    · rw [hqb]; exact hn_14
    · exact hf_9 q e (by rw [hV_2, xu_n hqb]; exact hq)
  exact x_zret E hr hlk hw dJ2_add_24 rfl ⟨rfl, a_8, hf_15, by rw [hV_10, hV_2, xu_comm _ hn_14, xu_xu]⟩
set_option maxHeartbeats 4000000 in
set_option maxRecDepth 100000 in
theorem xtJ2_add_2_10 (l : Launch) (D : xD) (A : Nat → Prop) (V : xV) (b ed o : Nat) (mc : Int32) (f : Nat → Option Nat) (ci : Nat) (fs : List Value) (C : String) (T : u_T) (N : Nat)  (h1 : V b = some (.inr (8, [.int mc, .ref ed, .int 10]))) (h2 : V ed = some (.inl (D.2.2.2.2, 10, .inr (.inr (.inr (.inr f)))))) (hel : ∀ i y, i < 10 → f i = some y → ∃ ci fs C T N, V y = some (.inr (ci, fs)) ∧ xCl[ci]? = some (C, T, N) ∧ Cond.castable C "java/lang/Object" ∈ lw_tbl) (hfb : ∀ i, i < 10 → f i ≠ some b) (ho : V o = some (.inr (ci, fs))) (hoc : xCl[ci]? = some (C, T, N)) (hoq : Cond.castable C "java/lang/Object" ∈ lw_tbl) (hob : o ≠ b) : Met l yJ2_add_2 (ws_ yJ2_add_2 cJ2_add_2 4 none) (xRm 8 1 22) (xP D A V [.ref b, .ref o, .ref ed, .int 10]) (xQ D A (fun ρ V' => ρ = none ∧ ∃ a, (∀ b e, V b = some e → b ≠ a) ∧ V' = xu (xu V a (.inl (D.2.2.2.2, 15, .inr (.inr (.inr (.inr (va_up (va_cpy f (fun _ => none) 0 0 10) 10 (some o)))))))) b (.inr (8, [.int mc, .ref a, .int 11])))) 1 22 A := by
  refine x_headW (own := RJ2) (As := [.ref b, .ref o, .ref ed, .int 10]) (bytes := cJ2_add_2) (maxL := 4) (ret := none) (by decide) rfl (Nat.le_of_ble_eq_true rfl) ?_
  intro p e s m below meth c E hml hr hlk hin2 hw ls hl
  have hx := E.1
  have hb := E.2.1
  have hts := E.2.2.1
  have hown := E.2.2.2.1
  have hl : lv_has ls 4 [(0, .ref b), (1, .ref o), (2, .ref ed), (3, .int 10)] := hl
  have hoe : o ≠ ed := x_ne ho h2 (by intro h; cases h)
  refine lv_iload_n (pc := 0) hx hb dJ2_add_2_0 rfl (lv_at hl 3 rfl) ?_
  refine lv_aload_n (pc := 1) hx hb dJ2_add_2_1 rfl (lv_at hl 2 rfl) ?_
  refine x_len (pc := 2) (v := 10) E hw.1 (cA := D.2.2.2.2) (t0 := 3) h2 rfl (by show Int32.ofNat 10 = 10; decide) dJ2_add_2_2 ?_
  refine li_icne (pc := 3) (tgt := 11) hx hb dJ2_add_2_3 (by decide) (fun h_ => absurd h_ (by decide)) (fun _ => ?_)
  refine lv_aload_n (pc := 6) hx hb dJ2_add_2_6 rfl (lv_at hl 0 rfl) ?_
  refine x_goW hw (x_runV (pc := 7) (As := []) (rest := []) E hml hl.1 hw.2 hw.1 h1 (C := RJ2) (T := TJ2) (N := 3) rfl (xtJ2_grow_10 l D A V b ed mc f h1 h2 hel) q274 q276 qs1 q51 q277 hdJ2_grow ⟨Nat.le_of_ble_eq_true rfl, Nat.le_of_ble_eq_true rfl⟩ rfl rfl rfl (Nat.le_of_ble_eq_true rfl) dJ2_add_2_7 ⟨Nat.le_of_ble_eq_true rfl, Nat.le_of_ble_eq_true rfl⟩) (fun r_3 V_1 H locs hF_2 hw => ?_)
  obtain ⟨a_4, rfl, hf_5, hV_6⟩ := hF_2
  have hp_8 : (xu V a_4 (.inl (D.2.2.2.2, 15, .inr (.inr (.inr (.inr (va_cpy f (fun _ => none) 0 0 10))))))) a_4 = some (.inl (D.2.2.2.2, 15, .inr (.inr (.inr (.inr (va_cpy f (fun _ => none) 0 0 10)))))) := by rw [show (xu V a_4 (.inl (D.2.2.2.2, 15, .inr (.inr (.inr (.inr (va_cpy f (fun _ => none) 0 0 10))))))) = xu V a_4 (.inl (D.2.2.2.2, 15, .inr (.inr (.inr (.inr (va_cpy f (fun _ => none) 0 0 10)))))) from rfl]; exact xu_s _ _ _
  have hp_9 : (xu V a_4 (.inl (D.2.2.2.2, 15, .inr (.inr (.inr (.inr (va_cpy f (fun _ => none) 0 0 10))))))) b = some (.inr (8, [.int mc, .ref ed, .int 10])) := by rw [show (xu V a_4 (.inl (D.2.2.2.2, 15, .inr (.inr (.inr (.inr (va_cpy f (fun _ => none) 0 0 10))))))) = xu V a_4 (.inl (D.2.2.2.2, 15, .inr (.inr (.inr (.inr (va_cpy f (fun _ => none) 0 0 10)))))) from rfl, xu_n (hf_5 _ _ h1)]; exact h1
  have hp_10 : V_1 b = some (.inr (8, [.int mc, .ref a_4, .int 10])) := by rw [hV_6]; exact xu_s _ _ _
  refine lv_astore_n (pc := 10) (lv' := [(2, .ref a_4), (0, .ref b), (1, .ref o), (3, .int 10)]) hx hb dJ2_add_2_10 rfl hl (by decide) rfl (fun ls hl => ?_)
  refine lv_aload_n (pc := 11) hx hb dJ2_add_2_11 rfl (lv_at hl 0 rfl) ?_
  refine lv_iload_n (pc := 12) hx hb dJ2_add_2_12 rfl (lv_at hl 3 rfl) ?_
  refine lv_aload_n (pc := 13) hx hb dJ2_add_2_13 rfl (lv_at hl 2 rfl) ?_
  have hp_11 : V_1 a_4 = some (.inl (D.2.2.2.2, 15, .inr (.inr (.inr (.inr (va_cpy f (fun _ => none) 0 0 10)))))) := by rw [hV_6, xu_n (Ne.symm (hf_5 _ _ h1))]; exact hp_8
  have hp_14 : (xu V a_4 (.inl (D.2.2.2.2, 15, .inr (.inr (.inr (.inr (va_cpy f (fun _ => none) 0 0 10))))))) o = some (.inr (ci, fs)) := by rw [show (xu V a_4 (.inl (D.2.2.2.2, 15, .inr (.inr (.inr (.inr (va_cpy f (fun _ => none) 0 0 10))))))) = xu V a_4 (.inl (D.2.2.2.2, 15, .inr (.inr (.inr (.inr (va_cpy f (fun _ => none) 0 0 10)))))) from rfl, xu_n (hf_5 _ _ ho)]; exact ho
  have hp_15 : V_1 o = some (.inr (ci, fs)) := by rw [hV_6, xu_n hob]; exact hp_14
  refine x_ost1 (pc := 14) E hw (10) hp_11 (x_any E.2.2.2.2.1 hw.1 hp_15 hoc hoq) (show 10 < 15 from (by omega)) (Nat.le_of_ble_eq_true rfl) dJ2_add_2_14 (fun V_12 H locs hV_13 hw => ?_)
  have hp_16 : V_12 a_4 = some (.inl (D.2.2.2.2, 15, .inr (.inr (.inr (.inr (va_up (va_cpy f (fun _ => none) 0 0 10) 10 (some o))))))) := by rw [hV_13]; exact xu_s _ _ _
  refine lv_aload_n (pc := 15) hx hb dJ2_add_2_15 rfl (lv_at hl 1 rfl) ?_
  refine lv_iload_n (pc := 16) hx hb dJ2_add_2_16 rfl (lv_at hl 3 rfl) ?_
  refine lv_iconst (pc := 17) (v := 1) hx hb dJ2_add_2_17 (by decide) ?_
  refine lv_iadd (pc := 18) hx hb dJ2_add_2_18 ?_
  refine li_top (v' := .int 11) (by decide) ?_
  have hp_17 : V_12 b = some (.inr (8, [.int mc, .ref a_4, .int 10])) := by rw [hV_13, xu_n (x_ne hp_10 hp_11 (by intro h; cases h))]; exact hp_10
  refine x_put1 (pc := 19) (v := .int 11) E hw 2 hp_17 (C := RJ2) (T := TJ2) (N := 3) rfl in_J2 tyJ2 tyJ2_ok (Nat.le_of_ble_eq_true rfl) q100 (fun _ h => h) rfl (tyJ2_ok 2 (Nat.le_of_ble_eq_true rfl)) rfl rfl (Nat.le_of_ble_eq_true rfl) (fun j hj hne => Or.inl (nmJ2 j hj 2 (Nat.le_of_ble_eq_true rfl) hne)) dJ2_add_2_19 (fun V_18 H locs hV_19 hw => ?_)
  replace hV_19 : V_18 = xu V_12 b (.inr (8, [.int mc, .ref a_4, .int 11])) := hV_19
  have hp_20 : V_18 b = some (.inr (8, [.int mc, .ref a_4, .int 11])) := by rw [hV_19]; exact xu_s _ _ _
  refine x_more 1 22 (Nat.le_of_ble_eq_true rfl) (Nat.le_of_ble_eq_true rfl) ?_
  have hn_21 : b ≠ a_4 := hf_5 _ _ h1
  refine x_vret E hr hlk hw dJ2_add_2_22 ⟨rfl, a_4, hf_5, ?_⟩
  rw [hV_19, hV_13, hV_6, xu_comm _ hn_21, xu_xu, xu_xu]
set_option maxHeartbeats 4000000 in
set_option maxRecDepth 100000 in
theorem xtJ2_add_10 (l : Launch) (D : xD) (A : Nat → Prop) (V : xV) (b ed o : Nat) (mc : Int32) (f : Nat → Option Nat) (ci : Nat) (fs : List Value) (C : String) (T : u_T) (N : Nat)  (h1 : V b = some (.inr (8, [.int mc, .ref ed, .int 10]))) (h2 : V ed = some (.inl (D.2.2.2.2, 10, .inr (.inr (.inr (.inr f)))))) (hel : ∀ i y, i < 10 → f i = some y → ∃ ci fs C T N, V y = some (.inr (ci, fs)) ∧ xCl[ci]? = some (C, T, N) ∧ Cond.castable C "java/lang/Object" ∈ lw_tbl) (hfb : ∀ i, i < 10 → f i ≠ some b) (ho : V o = some (.inr (ci, fs))) (hoc : xCl[ci]? = some (C, T, N)) (hoq : Cond.castable C "java/lang/Object" ∈ lw_tbl) (hob : o ≠ b) : Met l yJ2_add (ws_ yJ2_add cJ2_add 2 (some .boolean)) (xRm 9 1 22) (xP D A V [.ref b, .ref o]) (xQ D A (fun ρ V' => ρ = (some (.int 1)) ∧ ∃ a, (∀ b e, V b = some e → b ≠ a) ∧ V' = xu (xu V a (.inl (D.2.2.2.2, 15, .inr (.inr (.inr (.inr (va_up (va_cpy f (fun _ => none) 0 0 10) 10 (some o)))))))) b (.inr (8, [.int (mc + 1), .ref a, .int 11])))) 1 22 A := by
  refine x_headW (own := RJ2) (As := [.ref b, .ref o]) (bytes := cJ2_add) (maxL := 2) (ret := (some .boolean)) (by decide) rfl (Nat.le_of_ble_eq_true rfl) ?_
  intro p e s m below meth c E hml hr hlk hin2 hw ls hl
  have hx := E.1
  have hb := E.2.1
  have hts := E.2.2.1
  have hown := E.2.2.2.1
  have hl : lv_has ls 2 [(0, .ref b), (1, .ref o)] := hl
  have hoe : o ≠ ed := x_ne ho h2 (by intro h; cases h)
  refine lv_aload_n (pc := 0) hx hb dJ2_add_0 rfl (lv_at hl 0 rfl) ?_
  refine lv_dup (pc := 1) hx hb dJ2_add_1 rfl ?_
  refine x_rd (pc := 2) (v := .int mc) E hw.1 0 h1 (C := RJ2) (T := TJ2) (N := 3) rfl in_J2 (Nat.le_of_ble_eq_true rfl) q102 (u_same (E.2.2.1 _ q103)) rfl dJ2_add_2 ?_
  refine lv_iconst (pc := 5) (v := 1) hx hb dJ2_add_5 (by decide) ?_
  refine lv_iadd (pc := 6) hx hb dJ2_add_6 ?_
  refine x_put1 (pc := 7) (v := .int (mc + 1)) E hw 0 h1 (C := RJ2) (T := TJ2) (N := 3) rfl in_J2 tyJ2 tyJ2_ok (Nat.le_of_ble_eq_true rfl) q102 (u_same (E.2.2.1 _ q103)) rfl (tyJ2_ok 0 (Nat.le_of_ble_eq_true rfl)) rfl rfl (Nat.le_of_ble_eq_true rfl) (fun j hj hne => Or.inl (nmJ2 j hj 0 (Nat.le_of_ble_eq_true rfl) hne)) dJ2_add_7 (fun V_1 H locs hV_2 hw => ?_)
  replace hV_2 : V_1 = xu V b (.inr (8, [.int (mc + 1), .ref ed, .int 10])) := hV_2
  have hp_3 : V_1 b = some (.inr (8, [.int (mc + 1), .ref ed, .int 10])) := by rw [hV_2]; exact xu_s _ _ _
  refine lv_aload_n (pc := 10) hx hb dJ2_add_10 rfl (lv_at hl 0 rfl) ?_
  refine lv_aload_n (pc := 11) hx hb dJ2_add_11 rfl (lv_at hl 1 rfl) ?_
  refine lv_aload_n (pc := 12) hx hb dJ2_add_12 rfl (lv_at hl 0 rfl) ?_
  refine x_rd (pc := 13) (v := .ref ed) E hw.1 1 hp_3 (C := RJ2) (T := TJ2) (N := 3) rfl in_J2 (Nat.le_of_ble_eq_true rfl) q99 (fun _ h => h) rfl dJ2_add_13 ?_
  refine lv_aload_n (pc := 16) hx hb dJ2_add_16 rfl (lv_at hl 0 rfl) ?_
  refine x_rd (pc := 17) (v := .int 10) E hw.1 2 hp_3 (C := RJ2) (T := TJ2) (N := 3) rfl in_J2 (Nat.le_of_ble_eq_true rfl) q100 (fun _ h => h) rfl dJ2_add_17 ?_
  have hp_4 : V_1 ed = some (.inl (D.2.2.2.2, 10, .inr (.inr (.inr (.inr f))))) := by rw [hV_2, xu_n (x_ne h2 h1 (by intro h; cases h))]; exact h2
  have hp_5 : V_1 o = some (.inr (ci, fs)) := by rw [hV_2, xu_n hob]; exact ho
  have hel2 : ∀ i y, i < 10 → f i = some y → ∃ ci fs C T N, V_1 y = some (.inr (ci, fs)) ∧ xCl[ci]? = some (C, T, N) ∧ Cond.castable C "java/lang/Object" ∈ lw_tbl := by
    intro i y hi hy
    obtain ⟨ci, fs, C, T, N, he, hc, hq⟩ := hel i y hi hy
    exact ⟨ci, fs, C, T, N, by rw [hV_2, xu_n (fun e => hfb i hi (by rw [← e]; exact hy))]; exact he, hc, hq⟩
  refine x_goWn hw (x_runV (pc := 20) (As := [.ref o, .ref ed, .int 10]) (rest := []) E hml hl.1 hw.2 hw.1 hp_3 (C := RJ2) (T := TJ2) (N := 3) rfl (xtJ2_add_2_10 l D A V_1 b ed o (mc + 1) f ci fs C T N hp_3 hp_4 hel2 hfb hp_5 hoc hoq hob) q270 q272 qs0 q51 q273 hdJ2_add_2 ⟨Nat.le_of_ble_eq_true rfl, Nat.le_of_ble_eq_true rfl⟩ rfl rfl rfl (Nat.le_of_ble_eq_true rfl) dJ2_add_20 ⟨Nat.le_of_ble_eq_true rfl, Nat.le_of_ble_eq_true rfl⟩) (fun V_6 H locs hF_7 hw => ?_)
  obtain ⟨a_8, hf_9, hV_10⟩ := hF_7
  have hp_11 : (xu V_1 a_8 (.inl (D.2.2.2.2, 15, .inr (.inr (.inr (.inr (va_up (va_cpy f (fun _ => none) 0 0 10) 10 (some o)))))))) a_8 = some (.inl (D.2.2.2.2, 15, .inr (.inr (.inr (.inr (va_up (va_cpy f (fun _ => none) 0 0 10) 10 (some o))))))) := by rw [show (xu V_1 a_8 (.inl (D.2.2.2.2, 15, .inr (.inr (.inr (.inr (va_up (va_cpy f (fun _ => none) 0 0 10) 10 (some o)))))))) = xu V_1 a_8 (.inl (D.2.2.2.2, 15, .inr (.inr (.inr (.inr (va_up (va_cpy f (fun _ => none) 0 0 10) 10 (some o))))))) from rfl]; exact xu_s _ _ _
  have hp_12 : (xu V_1 a_8 (.inl (D.2.2.2.2, 15, .inr (.inr (.inr (.inr (va_up (va_cpy f (fun _ => none) 0 0 10) 10 (some o)))))))) b = some (.inr (8, [.int (mc + 1), .ref ed, .int 10])) := by rw [show (xu V_1 a_8 (.inl (D.2.2.2.2, 15, .inr (.inr (.inr (.inr (va_up (va_cpy f (fun _ => none) 0 0 10) 10 (some o)))))))) = xu V_1 a_8 (.inl (D.2.2.2.2, 15, .inr (.inr (.inr (.inr (va_up (va_cpy f (fun _ => none) 0 0 10) 10 (some o))))))) from rfl, xu_n (hf_9 _ _ hp_3)]; exact hp_3
  have hp_13 : V_6 b = some (.inr (8, [.int (mc + 1), .ref a_8, .int 11])) := by rw [hV_10]; exact xu_s _ _ _
  refine lv_iconst (pc := 23) (v := 1) hx hb dJ2_add_23 (by decide) ?_
  refine x_more 1 22 (Nat.le_of_ble_eq_true rfl) (Nat.le_of_ble_eq_true rfl) ?_
  have hn_14 : b ≠ a_8 := hf_9 _ _ (show V_1 b = _ by rw [hV_2]; exact xu_s _ _ _)
  have hf_15 : ∀ q e, V q = some e → q ≠ a_8 := by
    intro q e hq
    by_cases hqb : q = b
    · rw [hqb]; exact hn_14
    · exact hf_9 q e (by rw [hV_2, xu_n hqb]; exact hq)
  exact x_zret E hr hlk hw dJ2_add_24 rfl ⟨rfl, a_8, hf_15, by rw [hV_10, hV_2, xu_comm _ hn_14, xu_xu]⟩
set_option maxHeartbeats 4000000 in
set_option maxRecDepth 100000 in
theorem xtJ2_add_2_15 (l : Launch) (D : xD) (A : Nat → Prop) (V : xV) (b ed o : Nat) (mc : Int32) (f : Nat → Option Nat) (ci : Nat) (fs : List Value) (C : String) (T : u_T) (N : Nat)  (h1 : V b = some (.inr (8, [.int mc, .ref ed, .int 15]))) (h2 : V ed = some (.inl (D.2.2.2.2, 15, .inr (.inr (.inr (.inr f)))))) (hel : ∀ i y, i < 15 → f i = some y → ∃ ci fs C T N, V y = some (.inr (ci, fs)) ∧ xCl[ci]? = some (C, T, N) ∧ Cond.castable C "java/lang/Object" ∈ lw_tbl) (hfb : ∀ i, i < 15 → f i ≠ some b) (ho : V o = some (.inr (ci, fs))) (hoc : xCl[ci]? = some (C, T, N)) (hoq : Cond.castable C "java/lang/Object" ∈ lw_tbl) (hob : o ≠ b) : Met l yJ2_add_2 (ws_ yJ2_add_2 cJ2_add_2 4 none) (xRm 8 1 22) (xP D A V [.ref b, .ref o, .ref ed, .int 15]) (xQ D A (fun ρ V' => ρ = none ∧ ∃ a, (∀ b e, V b = some e → b ≠ a) ∧ V' = xu (xu V a (.inl (D.2.2.2.2, 22, .inr (.inr (.inr (.inr (va_up (va_cpy f (fun _ => none) 0 0 15) 15 (some o)))))))) b (.inr (8, [.int mc, .ref a, .int 16])))) 1 22 A := by
  refine x_headW (own := RJ2) (As := [.ref b, .ref o, .ref ed, .int 15]) (bytes := cJ2_add_2) (maxL := 4) (ret := none) (by decide) rfl (Nat.le_of_ble_eq_true rfl) ?_
  intro p e s m below meth c E hml hr hlk hin2 hw ls hl
  have hx := E.1
  have hb := E.2.1
  have hts := E.2.2.1
  have hown := E.2.2.2.1
  have hl : lv_has ls 4 [(0, .ref b), (1, .ref o), (2, .ref ed), (3, .int 15)] := hl
  have hoe : o ≠ ed := x_ne ho h2 (by intro h; cases h)
  refine lv_iload_n (pc := 0) hx hb dJ2_add_2_0 rfl (lv_at hl 3 rfl) ?_
  refine lv_aload_n (pc := 1) hx hb dJ2_add_2_1 rfl (lv_at hl 2 rfl) ?_
  refine x_len (pc := 2) (v := 15) E hw.1 (cA := D.2.2.2.2) (t0 := 3) h2 rfl (by show Int32.ofNat 15 = 15; decide) dJ2_add_2_2 ?_
  refine li_icne (pc := 3) (tgt := 11) hx hb dJ2_add_2_3 (by decide) (fun h_ => absurd h_ (by decide)) (fun _ => ?_)
  refine lv_aload_n (pc := 6) hx hb dJ2_add_2_6 rfl (lv_at hl 0 rfl) ?_
  refine x_goW hw (x_runV (pc := 7) (As := []) (rest := []) E hml hl.1 hw.2 hw.1 h1 (C := RJ2) (T := TJ2) (N := 3) rfl (xtJ2_grow_15 l D A V b ed mc f h1 h2 hel) q274 q276 qs1 q51 q277 hdJ2_grow ⟨Nat.le_of_ble_eq_true rfl, Nat.le_of_ble_eq_true rfl⟩ rfl rfl rfl (Nat.le_of_ble_eq_true rfl) dJ2_add_2_7 ⟨Nat.le_of_ble_eq_true rfl, Nat.le_of_ble_eq_true rfl⟩) (fun r_3 V_1 H locs hF_2 hw => ?_)
  obtain ⟨a_4, rfl, hf_5, hV_6⟩ := hF_2
  have hp_8 : (xu V a_4 (.inl (D.2.2.2.2, 22, .inr (.inr (.inr (.inr (va_cpy f (fun _ => none) 0 0 15))))))) a_4 = some (.inl (D.2.2.2.2, 22, .inr (.inr (.inr (.inr (va_cpy f (fun _ => none) 0 0 15)))))) := by rw [show (xu V a_4 (.inl (D.2.2.2.2, 22, .inr (.inr (.inr (.inr (va_cpy f (fun _ => none) 0 0 15))))))) = xu V a_4 (.inl (D.2.2.2.2, 22, .inr (.inr (.inr (.inr (va_cpy f (fun _ => none) 0 0 15)))))) from rfl]; exact xu_s _ _ _
  have hp_9 : (xu V a_4 (.inl (D.2.2.2.2, 22, .inr (.inr (.inr (.inr (va_cpy f (fun _ => none) 0 0 15))))))) b = some (.inr (8, [.int mc, .ref ed, .int 15])) := by rw [show (xu V a_4 (.inl (D.2.2.2.2, 22, .inr (.inr (.inr (.inr (va_cpy f (fun _ => none) 0 0 15))))))) = xu V a_4 (.inl (D.2.2.2.2, 22, .inr (.inr (.inr (.inr (va_cpy f (fun _ => none) 0 0 15)))))) from rfl, xu_n (hf_5 _ _ h1)]; exact h1
  have hp_10 : V_1 b = some (.inr (8, [.int mc, .ref a_4, .int 15])) := by rw [hV_6]; exact xu_s _ _ _
  refine lv_astore_n (pc := 10) (lv' := [(2, .ref a_4), (0, .ref b), (1, .ref o), (3, .int 15)]) hx hb dJ2_add_2_10 rfl hl (by decide) rfl (fun ls hl => ?_)
  refine lv_aload_n (pc := 11) hx hb dJ2_add_2_11 rfl (lv_at hl 0 rfl) ?_
  refine lv_iload_n (pc := 12) hx hb dJ2_add_2_12 rfl (lv_at hl 3 rfl) ?_
  refine lv_aload_n (pc := 13) hx hb dJ2_add_2_13 rfl (lv_at hl 2 rfl) ?_
  have hp_11 : V_1 a_4 = some (.inl (D.2.2.2.2, 22, .inr (.inr (.inr (.inr (va_cpy f (fun _ => none) 0 0 15)))))) := by rw [hV_6, xu_n (Ne.symm (hf_5 _ _ h1))]; exact hp_8
  have hp_14 : (xu V a_4 (.inl (D.2.2.2.2, 22, .inr (.inr (.inr (.inr (va_cpy f (fun _ => none) 0 0 15))))))) o = some (.inr (ci, fs)) := by rw [show (xu V a_4 (.inl (D.2.2.2.2, 22, .inr (.inr (.inr (.inr (va_cpy f (fun _ => none) 0 0 15))))))) = xu V a_4 (.inl (D.2.2.2.2, 22, .inr (.inr (.inr (.inr (va_cpy f (fun _ => none) 0 0 15)))))) from rfl, xu_n (hf_5 _ _ ho)]; exact ho
  have hp_15 : V_1 o = some (.inr (ci, fs)) := by rw [hV_6, xu_n hob]; exact hp_14
  refine x_ost1 (pc := 14) E hw (15) hp_11 (x_any E.2.2.2.2.1 hw.1 hp_15 hoc hoq) (show 15 < 22 from (by omega)) (Nat.le_of_ble_eq_true rfl) dJ2_add_2_14 (fun V_12 H locs hV_13 hw => ?_)
  have hp_16 : V_12 a_4 = some (.inl (D.2.2.2.2, 22, .inr (.inr (.inr (.inr (va_up (va_cpy f (fun _ => none) 0 0 15) 15 (some o))))))) := by rw [hV_13]; exact xu_s _ _ _
  refine lv_aload_n (pc := 15) hx hb dJ2_add_2_15 rfl (lv_at hl 1 rfl) ?_
  refine lv_iload_n (pc := 16) hx hb dJ2_add_2_16 rfl (lv_at hl 3 rfl) ?_
  refine lv_iconst (pc := 17) (v := 1) hx hb dJ2_add_2_17 (by decide) ?_
  refine lv_iadd (pc := 18) hx hb dJ2_add_2_18 ?_
  refine li_top (v' := .int 16) (by decide) ?_
  have hp_17 : V_12 b = some (.inr (8, [.int mc, .ref a_4, .int 15])) := by rw [hV_13, xu_n (x_ne hp_10 hp_11 (by intro h; cases h))]; exact hp_10
  refine x_put1 (pc := 19) (v := .int 16) E hw 2 hp_17 (C := RJ2) (T := TJ2) (N := 3) rfl in_J2 tyJ2 tyJ2_ok (Nat.le_of_ble_eq_true rfl) q100 (fun _ h => h) rfl (tyJ2_ok 2 (Nat.le_of_ble_eq_true rfl)) rfl rfl (Nat.le_of_ble_eq_true rfl) (fun j hj hne => Or.inl (nmJ2 j hj 2 (Nat.le_of_ble_eq_true rfl) hne)) dJ2_add_2_19 (fun V_18 H locs hV_19 hw => ?_)
  replace hV_19 : V_18 = xu V_12 b (.inr (8, [.int mc, .ref a_4, .int 16])) := hV_19
  have hp_20 : V_18 b = some (.inr (8, [.int mc, .ref a_4, .int 16])) := by rw [hV_19]; exact xu_s _ _ _
  refine x_more 1 22 (Nat.le_of_ble_eq_true rfl) (Nat.le_of_ble_eq_true rfl) ?_
  have hn_21 : b ≠ a_4 := hf_5 _ _ h1
  refine x_vret E hr hlk hw dJ2_add_2_22 ⟨rfl, a_4, hf_5, ?_⟩
  rw [hV_19, hV_13, hV_6, xu_comm _ hn_21, xu_xu, xu_xu]
set_option maxHeartbeats 4000000 in
set_option maxRecDepth 100000 in
theorem xtJ2_add_15 (l : Launch) (D : xD) (A : Nat → Prop) (V : xV) (b ed o : Nat) (mc : Int32) (f : Nat → Option Nat) (ci : Nat) (fs : List Value) (C : String) (T : u_T) (N : Nat)  (h1 : V b = some (.inr (8, [.int mc, .ref ed, .int 15]))) (h2 : V ed = some (.inl (D.2.2.2.2, 15, .inr (.inr (.inr (.inr f)))))) (hel : ∀ i y, i < 15 → f i = some y → ∃ ci fs C T N, V y = some (.inr (ci, fs)) ∧ xCl[ci]? = some (C, T, N) ∧ Cond.castable C "java/lang/Object" ∈ lw_tbl) (hfb : ∀ i, i < 15 → f i ≠ some b) (ho : V o = some (.inr (ci, fs))) (hoc : xCl[ci]? = some (C, T, N)) (hoq : Cond.castable C "java/lang/Object" ∈ lw_tbl) (hob : o ≠ b) : Met l yJ2_add (ws_ yJ2_add cJ2_add 2 (some .boolean)) (xRm 9 1 22) (xP D A V [.ref b, .ref o]) (xQ D A (fun ρ V' => ρ = (some (.int 1)) ∧ ∃ a, (∀ b e, V b = some e → b ≠ a) ∧ V' = xu (xu V a (.inl (D.2.2.2.2, 22, .inr (.inr (.inr (.inr (va_up (va_cpy f (fun _ => none) 0 0 15) 15 (some o)))))))) b (.inr (8, [.int (mc + 1), .ref a, .int 16])))) 1 22 A := by
  refine x_headW (own := RJ2) (As := [.ref b, .ref o]) (bytes := cJ2_add) (maxL := 2) (ret := (some .boolean)) (by decide) rfl (Nat.le_of_ble_eq_true rfl) ?_
  intro p e s m below meth c E hml hr hlk hin2 hw ls hl
  have hx := E.1
  have hb := E.2.1
  have hts := E.2.2.1
  have hown := E.2.2.2.1
  have hl : lv_has ls 2 [(0, .ref b), (1, .ref o)] := hl
  have hoe : o ≠ ed := x_ne ho h2 (by intro h; cases h)
  refine lv_aload_n (pc := 0) hx hb dJ2_add_0 rfl (lv_at hl 0 rfl) ?_
  refine lv_dup (pc := 1) hx hb dJ2_add_1 rfl ?_
  refine x_rd (pc := 2) (v := .int mc) E hw.1 0 h1 (C := RJ2) (T := TJ2) (N := 3) rfl in_J2 (Nat.le_of_ble_eq_true rfl) q102 (u_same (E.2.2.1 _ q103)) rfl dJ2_add_2 ?_
  refine lv_iconst (pc := 5) (v := 1) hx hb dJ2_add_5 (by decide) ?_
  refine lv_iadd (pc := 6) hx hb dJ2_add_6 ?_
  refine x_put1 (pc := 7) (v := .int (mc + 1)) E hw 0 h1 (C := RJ2) (T := TJ2) (N := 3) rfl in_J2 tyJ2 tyJ2_ok (Nat.le_of_ble_eq_true rfl) q102 (u_same (E.2.2.1 _ q103)) rfl (tyJ2_ok 0 (Nat.le_of_ble_eq_true rfl)) rfl rfl (Nat.le_of_ble_eq_true rfl) (fun j hj hne => Or.inl (nmJ2 j hj 0 (Nat.le_of_ble_eq_true rfl) hne)) dJ2_add_7 (fun V_1 H locs hV_2 hw => ?_)
  replace hV_2 : V_1 = xu V b (.inr (8, [.int (mc + 1), .ref ed, .int 15])) := hV_2
  have hp_3 : V_1 b = some (.inr (8, [.int (mc + 1), .ref ed, .int 15])) := by rw [hV_2]; exact xu_s _ _ _
  refine lv_aload_n (pc := 10) hx hb dJ2_add_10 rfl (lv_at hl 0 rfl) ?_
  refine lv_aload_n (pc := 11) hx hb dJ2_add_11 rfl (lv_at hl 1 rfl) ?_
  refine lv_aload_n (pc := 12) hx hb dJ2_add_12 rfl (lv_at hl 0 rfl) ?_
  refine x_rd (pc := 13) (v := .ref ed) E hw.1 1 hp_3 (C := RJ2) (T := TJ2) (N := 3) rfl in_J2 (Nat.le_of_ble_eq_true rfl) q99 (fun _ h => h) rfl dJ2_add_13 ?_
  refine lv_aload_n (pc := 16) hx hb dJ2_add_16 rfl (lv_at hl 0 rfl) ?_
  refine x_rd (pc := 17) (v := .int 15) E hw.1 2 hp_3 (C := RJ2) (T := TJ2) (N := 3) rfl in_J2 (Nat.le_of_ble_eq_true rfl) q100 (fun _ h => h) rfl dJ2_add_17 ?_
  have hp_4 : V_1 ed = some (.inl (D.2.2.2.2, 15, .inr (.inr (.inr (.inr f))))) := by rw [hV_2, xu_n (x_ne h2 h1 (by intro h; cases h))]; exact h2
  have hp_5 : V_1 o = some (.inr (ci, fs)) := by rw [hV_2, xu_n hob]; exact ho
  have hel2 : ∀ i y, i < 15 → f i = some y → ∃ ci fs C T N, V_1 y = some (.inr (ci, fs)) ∧ xCl[ci]? = some (C, T, N) ∧ Cond.castable C "java/lang/Object" ∈ lw_tbl := by
    intro i y hi hy
    obtain ⟨ci, fs, C, T, N, he, hc, hq⟩ := hel i y hi hy
    exact ⟨ci, fs, C, T, N, by rw [hV_2, xu_n (fun e => hfb i hi (by rw [← e]; exact hy))]; exact he, hc, hq⟩
  refine x_goWn hw (x_runV (pc := 20) (As := [.ref o, .ref ed, .int 15]) (rest := []) E hml hl.1 hw.2 hw.1 hp_3 (C := RJ2) (T := TJ2) (N := 3) rfl (xtJ2_add_2_15 l D A V_1 b ed o (mc + 1) f ci fs C T N hp_3 hp_4 hel2 hfb hp_5 hoc hoq hob) q270 q272 qs0 q51 q273 hdJ2_add_2 ⟨Nat.le_of_ble_eq_true rfl, Nat.le_of_ble_eq_true rfl⟩ rfl rfl rfl (Nat.le_of_ble_eq_true rfl) dJ2_add_20 ⟨Nat.le_of_ble_eq_true rfl, Nat.le_of_ble_eq_true rfl⟩) (fun V_6 H locs hF_7 hw => ?_)
  obtain ⟨a_8, hf_9, hV_10⟩ := hF_7
  have hp_11 : (xu V_1 a_8 (.inl (D.2.2.2.2, 22, .inr (.inr (.inr (.inr (va_up (va_cpy f (fun _ => none) 0 0 15) 15 (some o)))))))) a_8 = some (.inl (D.2.2.2.2, 22, .inr (.inr (.inr (.inr (va_up (va_cpy f (fun _ => none) 0 0 15) 15 (some o))))))) := by rw [show (xu V_1 a_8 (.inl (D.2.2.2.2, 22, .inr (.inr (.inr (.inr (va_up (va_cpy f (fun _ => none) 0 0 15) 15 (some o)))))))) = xu V_1 a_8 (.inl (D.2.2.2.2, 22, .inr (.inr (.inr (.inr (va_up (va_cpy f (fun _ => none) 0 0 15) 15 (some o))))))) from rfl]; exact xu_s _ _ _
  have hp_12 : (xu V_1 a_8 (.inl (D.2.2.2.2, 22, .inr (.inr (.inr (.inr (va_up (va_cpy f (fun _ => none) 0 0 15) 15 (some o)))))))) b = some (.inr (8, [.int (mc + 1), .ref ed, .int 15])) := by rw [show (xu V_1 a_8 (.inl (D.2.2.2.2, 22, .inr (.inr (.inr (.inr (va_up (va_cpy f (fun _ => none) 0 0 15) 15 (some o)))))))) = xu V_1 a_8 (.inl (D.2.2.2.2, 22, .inr (.inr (.inr (.inr (va_up (va_cpy f (fun _ => none) 0 0 15) 15 (some o))))))) from rfl, xu_n (hf_9 _ _ hp_3)]; exact hp_3
  have hp_13 : V_6 b = some (.inr (8, [.int (mc + 1), .ref a_8, .int 16])) := by rw [hV_10]; exact xu_s _ _ _
  refine lv_iconst (pc := 23) (v := 1) hx hb dJ2_add_23 (by decide) ?_
  refine x_more 1 22 (Nat.le_of_ble_eq_true rfl) (Nat.le_of_ble_eq_true rfl) ?_
  have hn_14 : b ≠ a_8 := hf_9 _ _ (show V_1 b = _ by rw [hV_2]; exact xu_s _ _ _)
  have hf_15 : ∀ q e, V q = some e → q ≠ a_8 := by
    intro q e hq
    by_cases hqb : q = b
    · rw [hqb]; exact hn_14
    · exact hf_9 q e (by rw [hV_2, xu_n hqb]; exact hq)
  exact x_zret E hr hlk hw dJ2_add_24 rfl ⟨rfl, a_8, hf_15, by rw [hV_10, hV_2, xu_comm _ hn_14, xu_xu]⟩
theorem xtJ2_add (l : Launch) (D : xD) (A : Nat → Prop) (V : xV) (b ed n cap o : Nat) (mc : Int32) (f : Nat → Option Nat) (ci : Nat) (fs : List Value) (C : String) (T : u_T) (N : Nat)
    (h1 : V b = some (.inr (8, [.int mc, .ref ed, .int (nI n)]))) (h2 : V ed = some (.inl (D.2.2.2.2, cap, .inr (.inr (.inr (.inr f)))))) (hn : n ≤ cap) (hn2 : n < 22) (hcap : cap = 0 ∧ ed = D.1.2.1 ∨ cap = 10 ∨ cap = 15 ∨ cap = 22)
    (hel : ∀ i y, i < n → f i = some y → y ≠ b ∧ ∃ ci fs C T N, V y = some (.inr (ci, fs)) ∧ xCl[ci]? = some (C, T, N) ∧ Cond.castable C "java/lang/Object" ∈ lw_tbl) (ho : V o = some (.inr (ci, fs))) (hoc : xCl[ci]? = some (C, T, N)) (hoq : Cond.castable C "java/lang/Object" ∈ lw_tbl) (hob : o ≠ b) :
    Met l yJ2_add (ws_ yJ2_add cJ2_add 2 (some .boolean)) (xRm 9 1 22) (xP D A V [.ref b, .ref o]) (xQ D A (fun r V' => r = (some (.int 1)) ∧ ∃ ed' cap' f', (ed' = ed ∧ cap' = cap ∨ ∀ q e, V q = some e → q ≠ ed') ∧ (cap' = 10 ∨ cap' = 15 ∨ cap' = 22) ∧ n < cap' ∧ (∀ i, i < n → f' i = f i) ∧ f' n = some o ∧ V' = xu (xu V ed' (.inl (D.2.2.2.2, cap', .inr (.inr (.inr (.inr f')))))) b (.inr (8, [.int (mc + 1), .ref ed', .int (nI (n + 1))])))) 1 22 A := by
  by_cases hlt : n < cap
  · refine x_post (fun r V' h => ⟨h.1, ed, cap, va_up f n (some o), Or.inl ⟨rfl, rfl⟩, by omega, hlt, fun i hi => by simp [va_up, Nat.ne_of_lt hi], by simp [va_up], h.2⟩) (xtJ2_add_A l D A V b ed n cap o mc f ci fs C T N h1 h2 hlt (by omega) ho hoc hoq hob)
  · have hnc : n = cap := by omega
    subst hnc
    rcases hcap with ⟨rfl, hed⟩ | rfl | rfl | rfl
    · refine x_post (fun r V' h => ⟨h.1, ?_⟩) (xtJ2_add_0 l D A V b ed o mc f ci fs C T N h1 h2 hed ho hoc hoq hob)
      obtain ⟨-, a, g1, g2⟩ := h
      exact ⟨a, 10, _, Or.inr g1, Or.inl rfl, by omega, fun i hi => absurd hi (by omega), by simp [va_up], g2⟩
    · refine x_post (fun r V' h => ⟨h.1, ?_⟩) (xtJ2_add_10 l D A V b ed o mc f ci fs C T N h1 h2 (fun i y hi hy => (hel i y hi hy).2) (fun i hi h => (hel i b hi h).1 rfl) ho hoc hoq hob)
      obtain ⟨-, a, g1, g2⟩ := h
      exact ⟨a, 15, _, Or.inr g1, Or.inr (Or.inl rfl), by omega, fun i hi => by simp [va_up, va_cpy, Nat.ne_of_lt hi, hi], by simp [va_up], g2⟩
    · refine x_post (fun r V' h => ⟨h.1, ?_⟩) (xtJ2_add_15 l D A V b ed o mc f ci fs C T N h1 h2 (fun i y hi hy => (hel i y hi hy).2) (fun i hi h => (hel i b hi h).1 rfl) ho hoc hoq hob)
      obtain ⟨-, a, g1, g2⟩ := h
      exact ⟨a, 22, _, Or.inr g1, Or.inr (Or.inr rfl), by omega, fun i hi => by simp [va_up, va_cpy, Nat.ne_of_lt hi, hi], by simp [va_up], g2⟩
    · omega
