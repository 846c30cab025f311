/-! cars: what is asked of them -/
section XQ
variable {p : Program} {l : Launch} {e : Env} {R : Room} {s : State} {m : MethodId} {args : Array Value} {below : List Frame} {meth : Method} {c : Code} {H : Heap} {locs : List Loc} {cells slots : Nat} {Q : State → Prop}
variable {cc : ByteArray} {pc nL maxL index mc ms : Nat} {ls : Array Slot} {rest As st0 : List Value} {D : xD} {A : Nat → Prop} {V : xV} {own : String} {x y : MethodName} {bytes : ByteArray} {ret : Option FieldType} {rm : Room}
variable {Qc : Array Value → State → Outcome → State → Prop} {free : Addr → Prop} {ci b N : Nat} {C : String} {T : u_T} {fs : List Value}
/-- a private method is selected on an heir too -/
theorem x_selP {n n' : Nat} (hy : y.cls ≠ "java/lang/invoke/MethodHandle" ∧ y.cls ≠ "java/lang/invoke/VarHandle") (hins : (Cond.instantiable C n).before args s = true) (hinY : (Cond.instantiable y.cls n').before args s = true) (hpriv : (Cond.privateMethod y).before args s = true) (hinst : (Cond.instanceMethod y).before args s = true) : (Cond.selects C y y).before args s = true := by
  obtain ⟨c0, -, hc0, -⟩ := Cond.instantiable_spec hins
  obtain ⟨c, k, hc, hk, -, hniab, -, -⟩ := Cond.instantiable_spec hinY
  have hni : k.isInterface = false := (Bool.or_eq_false_iff.mp hniab).1
  obtain ⟨mk, methM, hnamed, hmethM, -, -⟩ := Cond.instanceMethod_spec hinst
  have hfound : s.methodFound? y.cls y.name y.desc = some mk := State.methodFound?_of_named hnamed hy
  have hcls : mk.cls = c := Option.some.inj ((findClass_of_methodNamed hnamed).symm.trans hc)
  have hsel : selectMethod {} s.vm c0 mk = .method mk := selectMethod_private hmethM (Cond.privateMethod_at hpriv mk methM hnamed hmethM)
  simp only [Cond.before, Cond.holds, Cond.value, hc0, hfound, hnamed, hsel, hcls, hk]
  simp; exact hni
/-- a private method called on an object of its class or of an heir -/
theorem x_runP (E : xE own p c cc s m args D A) (hml : c.maxLocals = nL) (hls : ls.size = nL) (hS : va_S A s.heap H locs) (hw : xW D A V H) (ha : V b = some (.inr (ci, fs))) (hc : xCl[ci]? = some (C, T, N)) (hM : Met l y (ws_ y bytes maxL ret) rm (xP D A V (.ref b :: As)) Qc mc ms free) (h3 : (Cond.selects C y y).before args s = true)
    (h1 : Cond.methodLink own index y ∈ lw_all) (h2 : Cond.sameMethod y.cls y.cls y.name y.desc ∈ lw_all) (h4 : Cond.instanceMethod y ∈ lw_all) (h5 : Cond.initialized y.cls ∈ lw_all) (h6 : Cond.code y bytes maxL ret ∈ lw_all)
    (hd : y.cls ≠ "java/lang/invoke/MethodHandle" ∧ y.cls ≠ "java/lang/invoke/VarHandle" ∧ (parseMethodDescriptor y.desc).map (fun d => d.parameters.length) = some As.length)
    (hR : rm.frames + 1 ≤ R.frames ∧ 8 + (maxL + 11) + rm.locals ≤ R.locals) (hrc : rm.cells = mc) (hrs : rm.slots = ms) (hst : st0 = As.reverse ++ .ref b :: rest) (hW : (rest.map fun v => v.category).sum ≤ 8) (hdg : decode cc pc = .ok (.invokevirtual index, 3)) (hf : cells + mc ≤ R.cells ∧ slots + ms ≤ R.slots) :
    va_Run p l e R s m args below meth c H locs cells slots mc ms (F0 m pc ls st0) rest (Qc (Value.ref b :: As).toArray) free := by
  have hG : GoodIn lw_all (ws_ y bytes maxL ret) := lw_meth h6
  have hcd : Cond.code y bytes maxL ret ∈ ws_ y bytes maxL ret := List.mem_cons_self
  refine va_runU (As := As) (rest := rest) (g := F0 m pc ls st0) (b := b) (x := y) (owner := y.cls) (n := As.length) ⟨E.1, E.2.1, hml, E.2.2.2.1, E.2.2.1⟩ hM ⟨⟨hrc, hrs, hR.1, hR.2, pay_in E.2.2.1 hG, hcd⟩, E.2.2.1 _ h6, E.2.2.1 _ h5, ⟨hd.1, hd.2.1⟩, fun sig h => ?_, E.2.2.1 _ h1, E.2.2.1 _ h2, va_Decl.of (E.2.2.1 _ h4) (E.2.2.1 _ h6), h3, E.2.2.1 _ h4⟩ (x_preV E hS hw ha hc) rfl rfl hls hst (lv_room hW) hdg hf
  have h2 := hd.2.2
  rw [h] at h2
  exact (Option.some.inj h2).symm
end XQ
section XB
variable {D : xD} {st : mS} {g : xG} {V : xV}
theorem xR.oc (h : xR D st g V) {j c : Nat} (hj : j < cnt st 35) (hc : c < 8) : g (10 + j) c = 0 ↔ st 39 (8 * j + c) = 0 := ((h.2.2 j hj).2 c hc).1
theorem xR.ob (h : xR D st g V) (hI : mI st) {j c : Nat} (hj : j < cnt st 35) (hc : c < 8) : g (10 + j) c ≤ 1000 := by
  have h1 := ((h.2.2 j hj).2 c hc).2.1
  have h2 := (h.2.2 j hj).1
  have h3 := cnt_le hI.T
  omega
theorem xR.o9 (h : xR D st g V) (hI : mI st) {j : Nat} (hj : j < cnt st 35) : g 9 j ≤ 1000 := by
  have h2 := (h.2.2 j hj).1
  have h3 := cnt_le hI.T
  omega
theorem xR.ol (h : xR D st g V) {j c d : Nat} (hj : j < cnt st 35) (hc : c < 8) (hd : d < 8) : g (10 + j) c < g (10 + j) d ↔ (st 39 (8 * j + c)).toInt < (st 39 (8 * j + d)).toInt := ((h.2.2 j hj).2 c hc).2.2 d hd
theorem xR.car5 (h : xR D st g V) {j : Nat} (hj : j < cnt st 35) (hk : st 37 j = 0) : V (g 4 j) = some (.inr (5, [.int (nI j), .int (st 36 j), .ref (g 5 j), .ref (g 6 j), .ref (g 7 j), .int (nI (g 9 j)), .ref (g 0 0)])) := by
  have q := h.car hj
  rw [hk] at q
  exact q
theorem xR.car6 (h : xR D st g V) {j : Nat} (hj : j < cnt st 35) (hk : st 37 j = 1) : V (g 4 j) = some (.inr (6, [.int (nI j), .int (st 36 j), .ref (g 5 j), .ref (g 6 j), .ref (g 7 j), .int (nI (g 9 j)), .ref (g 0 0), .ref (g 0 0)])) := by
  have q := h.car hj
  rw [hk] at q
  exact q
theorem xR.car7 (h : xR D st g V) {j : Nat} (hj : j < cnt st 35) (hk : st 37 j = 2) : V (g 4 j) = some (.inr (7, [.int (nI j), .int (st 36 j), .ref (g 5 j), .ref (g 6 j), .ref (g 7 j), .int (nI (g 9 j)), .ref (g 0 0), .ref (g 0 0), .ref (g 0 0)])) := by
  have q := h.car hj
  rw [hk] at q
  exact q
end XB
set_option maxHeartbeats 4000000 in
set_option maxRecDepth 100000 in
theorem xtX7_isClocked_5 (l : Launch) (D : xD) (A : Nat → Prop) (V : xV) (st : mS) (g : xG) (a : Nat) (c_ : Nat) (hI : mI st) (hR : xR D st g V) (ha : a < cnt st 35) (hk : st 37 a = 0) (hc : c_ < 8) : Met l yX7_isClocked (ws_ yX7_isClocked cX7_isClocked 2 (some .boolean)) (xRm 1 0 0) (xP D A V [.ref (g 4 a), .int (nI c_)]) (k2_QcV (.int (bI (¬ st 39 (8 * a + c_) = 0)))) 0 0 (fun _ => False) := by
  refine x_headR (own := RX7) (As := [.ref (g 4 a), .int (nI c_)]) (bytes := cX7_isClocked) (maxL := 2) (ret := (some .boolean)) (by decide) rfl (Nat.le_of_ble_eq_true rfl) ?_
  intro p e s m below meth c E hml hr hlk hw0 ls hl
  have hw : xWd D A s V s.heap [] := ⟨hw0, va_S.rf⟩
  have hx := E.1
  have hb := E.2.1
  have hts := E.2.2.1
  have hown := E.2.2.2.1
  have hl : lv_has ls 2 [(0, .ref (g 4 a)), (1, .int (nI c_))] := hl
  have h16 := hI.r16
  have h10 := hI.l10
  have hv8 := hI.v8
  have hc8 := hI.c8
  have hk8 := hI.k8
  have hb8 := hI.b8
  have h1 := hR.car5 ha hk
  have h9 := hR.o9 hI ha
  have hob := hR.ob hI ha hc
  refine lv_aload_n (pc := 0) hx hb dX7_isClocked_0 rfl (lv_at hl 0 rfl) ?_
  refine x_rd (pc := 1) (v := .ref (g 6 a)) E hw.1 3 h1 (C := RX7) (T := TX7) (N := 7) rfl in_X7 (Nat.le_of_ble_eq_true rfl) q660 (fun _ h => h) rfl dX7_isClocked_1 ?_
  refine lv_iload_n (pc := 4) hx hb dX7_isClocked_4 rfl (lv_at hl 1 rfl) ?_
  obtain ⟨v_1f, v_1p, v_1h⟩ := hR.ord (j := a) (by omega)
  refine x_ildN (pc := 5) (v := (nI (g (10 + a) c_))) E hw.1 (c_) v_1p (show c_ < 8 from (by omega)) (Nat.le_of_ble_eq_true rfl) (v_1h _ (by omega)) dX7_isClocked_5 ?_
  refine li_if_leN (pc := 6) (tgt := 13) hx hb (by omega) dX7_isClocked_6 (by decide) (fun c_2 => ?_) (fun c_2 => ?_)
  · refine lv_iconst (pc := 13) (v := 0) hx hb dX7_isClocked_13 (by decide) ?_
    exact m_zretS hx hb hr hlk dX7_isClocked_14 rfl ((bI_f (fun q => q ((hR.oc ha hc).mp (by omega)))).symm)
  · refine lv_iconst (pc := 9) (v := 1) hx hb dX7_isClocked_9 (by decide) ?_
    refine lv_goto (pc := 10) (tgt := 14) hx hb dX7_isClocked_10 (by decide) ?_
    exact m_zretS hx hb hr hlk dX7_isClocked_14 rfl ((bI_t (fun q => absurd ((hR.oc ha hc).mpr q) (by omega))).symm)
set_option maxHeartbeats 4000000 in
set_option maxRecDepth 100000 in
theorem xtX7_isClocked_6 (l : Launch) (D : xD) (A : Nat → Prop) (V : xV) (st : mS) (g : xG) (a : Nat) (c_ : Nat) (hI : mI st) (hR : xR D st g V) (ha : a < cnt st 35) (hk : st 37 a = 1) (hc : c_ < 8) : Met l yX7_isClocked (ws_ yX7_isClocked cX7_isClocked 2 (some .boolean)) (xRm 1 0 0) (xP D A V [.ref (g 4 a), .int (nI c_)]) (k2_QcV (.int (bI (¬ st 39 (8 * a + c_) = 0)))) 0 0 (fun _ => False) := by
  refine x_headR (own := RX7) (As := [.ref (g 4 a), .int (nI c_)]) (bytes := cX7_isClocked) (maxL := 2) (ret := (some .boolean)) (by decide) rfl (Nat.le_of_ble_eq_true rfl) ?_
  intro p e s m below meth c E hml hr hlk hw0 ls hl
  have hw : xWd D A s V s.heap [] := ⟨hw0, va_S.rf⟩
  have hx := E.1
  have hb := E.2.1
  have hts := E.2.2.1
  have hown := E.2.2.2.1
  have hl : lv_has ls 2 [(0, .ref (g 4 a)), (1, .int (nI c_))] := hl
  have h16 := hI.r16
  have h10 := hI.l10
  have hv8 := hI.v8
  have hc8 := hI.c8
  have hk8 := hI.k8
  have hb8 := hI.b8
  have h1 := hR.car6 ha hk
  have h9 := hR.o9 hI ha
  have hob := hR.ob hI ha hc
  refine lv_aload_n (pc := 0) hx hb dX7_isClocked_0 rfl (lv_at hl 0 rfl) ?_
  refine x_rd (pc := 1) (v := .ref (g 6 a)) E hw.1 3 h1 (C := RX8) (T := TX8) (N := 8) rfl in_X8 (Nat.le_of_ble_eq_true rfl) q660 (fun _ h => h) rfl dX7_isClocked_1 ?_
  refine lv_iload_n (pc := 4) hx hb dX7_isClocked_4 rfl (lv_at hl 1 rfl) ?_
  obtain ⟨v_1f, v_1p, v_1h⟩ := hR.ord (j := a) (by omega)
  refine x_ildN (pc := 5) (v := (nI (g (10 + a) c_))) E hw.1 (c_) v_1p (show c_ < 8 from (by omega)) (Nat.le_of_ble_eq_true rfl) (v_1h _ (by omega)) dX7_isClocked_5 ?_
  refine li_if_leN (pc := 6) (tgt := 13) hx hb (by omega) dX7_isClocked_6 (by decide) (fun c_2 => ?_) (fun c_2 => ?_)
  · refine lv_iconst (pc := 13) (v := 0) hx hb dX7_isClocked_13 (by decide) ?_
    exact m_zretS hx hb hr hlk dX7_isClocked_14 rfl ((bI_f (fun q => q ((hR.oc ha hc).mp (by omega)))).symm)
  · refine lv_iconst (pc := 9) (v := 1) hx hb dX7_isClocked_9 (by decide) ?_
    refine lv_goto (pc := 10) (tgt := 14) hx hb dX7_isClocked_10 (by decide) ?_
    exact m_zretS hx hb hr hlk dX7_isClocked_14 rfl ((bI_t (fun q => absurd ((hR.oc ha hc).mpr q) (by omega))).symm)
set_option maxHeartbeats 4000000 in
set_option maxRecDepth 100000 in
theorem xtX7_isClocked_7 (l : Launch) (D : xD) (A : Nat → Prop) (V : xV) (st : mS) (g : xG) (a : Nat) (c_ : Nat) (hI : mI st) (hR : xR D st g V) (ha : a < cnt st 35) (hk : st 37 a = 2) (hc : c_ < 8) : Met l yX7_isClocked (ws_ yX7_isClocked cX7_isClocked 2 (some .boolean)) (xRm 1 0 0) (xP D A V [.ref (g 4 a), .int (nI c_)]) (k2_QcV (.int (bI (¬ st 39 (8 * a + c_) = 0)))) 0 0 (fun _ => False) := by
  refine x_headR (own := RX7) (As := [.ref (g 4 a), .int (nI c_)]) (bytes := cX7_isClocked) (maxL := 2) (ret := (some .boolean)) (by decide) rfl (Nat.le_of_ble_eq_true rfl) ?_
  intro p e s m below meth c E hml hr hlk hw0 ls hl
  have hw : xWd D A s V s.heap [] := ⟨hw0, va_S.rf⟩
  have hx := E.1
  have hb := E.2.1
  have hts := E.2.2.1
  have hown := E.2.2.2.1
  have hl : lv_has ls 2 [(0, .ref (g 4 a)), (1, .int (nI c_))] := hl
  have h16 := hI.r16
  have h10 := hI.l10
  have hv8 := hI.v8
  have hc8 := hI.c8
  have hk8 := hI.k8
  have hb8 := hI.b8
  have h1 := hR.car7 ha hk
  have h9 := hR.o9 hI ha
  have hob := hR.ob hI ha hc
  refine lv_aload_n (pc := 0) hx hb dX7_isClocked_0 rfl (lv_at hl 0 rfl) ?_
  refine x_rd (pc := 1) (v := .ref (g 6 a)) E hw.1 3 h1 (C := RX9) (T := TX9) (N := 9) rfl in_X9 (Nat.le_of_ble_eq_true rfl) q660 (fun _ h => h) rfl dX7_isClocked_1 ?_
  refine lv_iload_n (pc := 4) hx hb dX7_isClocked_4 rfl (lv_at hl 1 rfl) ?_
  obtain ⟨v_1f, v_1p, v_1h⟩ := hR.ord (j := a) (by omega)
  refine x_ildN (pc := 5) (v := (nI (g (10 + a) c_))) E hw.1 (c_) v_1p (show c_ < 8 from (by omega)) (Nat.le_of_ble_eq_true rfl) (v_1h _ (by omega)) dX7_isClocked_5 ?_
  refine li_if_leN (pc := 6) (tgt := 13) hx hb (by omega) dX7_isClocked_6 (by decide) (fun c_2 => ?_) (fun c_2 => ?_)
  · refine lv_iconst (pc := 13) (v := 0) hx hb dX7_isClocked_13 (by decide) ?_
    exact m_zretS hx hb hr hlk dX7_isClocked_14 rfl ((bI_f (fun q => q ((hR.oc ha hc).mp (by omega)))).symm)
  · refine lv_iconst (pc := 9) (v := 1) hx hb dX7_isClocked_9 (by decide) ?_
    refine lv_goto (pc := 10) (tgt := 14) hx hb dX7_isClocked_10 (by decide) ?_
    exact m_zretS hx hb hr hlk dX7_isClocked_14 rfl ((bI_t (fun q => absurd ((hR.oc ha hc).mpr q) (by omega))).symm)
theorem min600 (x : Int32) : (if (600 : Int32).toInt < x.toInt then (600 : Int32) else x).toInt64 = if x.toInt < 600 then x.toInt64 else 600 := by
  have e : (600 : Int32).toInt = 600 := rfl
  rw [e]
  by_cases h : (600 : Int) < x.toInt
  · rw [if_pos h, if_neg (by omega)]; rfl
  · rw [if_neg h]
    by_cases h2 : x.toInt < 600
    · rw [if_pos h2]
    · rw [if_neg h2]
      have : x = 600 := Int32.toInt_inj.mp (by rw [e]; omega)
      rw [this]; rfl
theorem min1500 (x : Int64) : (if (1500 : Int64).toInt < x.toInt then (1500 : Int64) else x) = if x.toInt < 1500 then x else 1500 := by
  have e : (1500 : Int64).toInt = 1500 := rfl
  rw [e]
  by_cases h : (1500 : Int) < x.toInt
  · rw [if_pos h, if_neg (by omega)]
  · rw [if_neg h]
    by_cases h2 : x.toInt < 1500
    · rw [if_pos h2]
    · rw [if_neg h2]
      exact Int64.toInt_inj.mp (by rw [e]; omega)
set_option maxHeartbeats 4000000 in
set_option maxRecDepth 100000 in
theorem xtX7_claimed_5 (l : Launch) (D : xD) (A : Nat → Prop) (V : xV) (st : mS) (g : xG) (a : Nat) (c_ : Nat) (hI : mI st) (hR : xR D st g V) (ha : a < cnt st 35) (hk : st 37 a = 0) (hc : c_ < cnt st 30) : Met l yX7_claimed (ws_ yX7_claimed cX7_claimed 5 (some .long)) (xRm 4 0 0) (xP D A V [.ref (g 4 a), .int (nI c_)]) (k2_QcV (.long (crr st a c_))) 0 0 (fun _ => False) := by
  refine x_headR (own := RX7) (As := [.ref (g 4 a), .int (nI c_)]) (bytes := cX7_claimed) (maxL := 5) (ret := (some .long)) (by decide) rfl (Nat.le_of_ble_eq_true rfl) ?_
  intro p e s m below meth c E hml hr hlk hw0 ls hl
  have hw : xWd D A s V s.heap [] := ⟨hw0, va_S.rf⟩
  have hx := E.1
  have hb := E.2.1
  have hts := E.2.2.1
  have hown := E.2.2.2.1
  have hl : lv_has ls 5 [(0, .ref (g 4 a)), (1, .int (nI c_))] := hl
  have h16 := hI.r16
  have h10 := hI.l10
  have hv8 := hI.v8
  have hc8 := hI.c8
  have hk8 := hI.k8
  have hb8 := hI.b8
  have h1 := hR.car5 ha hk
  have h9 := hR.o9 hI ha
  refine lv_lconst (pc := 0) (v := 0) hx hb dX7_claimed_0 (by decide) ?_
  refine lv_lstore_n (pc := 1) (lv' := [(2, .long 0), (0, .ref (g 4 a)), (1, .int (nI c_))]) hx hb dX7_claimed_1 rfl hl (by decide) rfl (fun ls hl => ?_)
  refine lv_iconst (pc := 2) (v := 0) hx hb dX7_claimed_2 (by decide) ?_
  refine lv_istore (pc := 3) (lv' := [(4, .int 0), (2, .long 0), (0, .ref (g 4 a)), (1, .int (nI c_))]) hx hb dX7_claimed_3 hl (by decide) rfl (fun ls hl => ?_)
  have loop : ∀ (k : Nat) (i : Nat) (z : Int64), i + k = cnt st 30 → ∀ ls : Array Slot, lv_has ls 5 [(0, .ref (g 4 a)), (1, .int (nI c_)), (2, .long z), (4, .int (nI i))] → W p l e (xRm 4 0 0) s m ([.ref (g 4 a), .int (nI c_)] : List Value).toArray below meth c s.heap [] 0 0 (MQ below (k2_QcV (.long (if (crd st a c_ k i z).toInt < 1500 then crd st a c_ k i z else 1500))) ([.ref (g 4 a), .int (nI c_)] : List Value).toArray s 0 0 (fun _ => False)) (F0 m 5 ls []) := by
    intro k
    induction k with
    | zero =>
      intro i z hi ls hl
      refine lv_iload (pc := 5) hx hb dX7_claimed_5 (lv_at hl 3 rfl) ?_
      refine lv_aload_n (pc := 7) hx hb dX7_claimed_7 rfl (lv_at hl 0 rfl) ?_
      refine x_rd (pc := 8) (v := .ref (g 0 0)) E hw.1 6 h1 (C := RX7) (T := TX7) (N := 7) rfl in_X7 (Nat.le_of_ble_eq_true rfl) q664 (fun _ h => h) rfl dX7_claimed_8 ?_
      obtain ⟨b7, b8, b9, hpx⟩ := hR.px hI
      replace hpx : V (g 0 0) = some (.inr (0, [.int (st 0 0), .int (st 0 42), .ref (g 0 2), .ref (g 0 3), .int (nI (cnt st 12)), .ref (g 0 5), .ref (g 0 6), .int b7, .long b8, .int b9, .int (st 0 14), .ref (g 0 11), .int (nI (cnt st 24)), .int (st 0 25), .ref (g 0 14), .ref (g 0 15), .int (nI (cnt st 27)), .ref (g 0 17), .ref (g 0 18), .ref (g 0 19)])) := hpx
      refine x_rdN (pc := 11) (v := .ref (g 0 17)) E hw.1 17 hpx (C := RX0) (T := TX0) (N := 20) rfl in_X0 (Nat.le_of_ble_eq_true rfl) q131 (fun _ h => h) rfl dX7_claimed_11 ?_
      obtain ⟨mc_17, hpl_17⟩ := hR.p17
      refine x_goR5 (x_runF (pc := 14) (As := []) (rest := [.int (nI i)]) E hml hl.1 hw.2 hw.1 hpl_17 (C := RJ2) (T := TJ2) (N := 3) rfl (xtJ2_size l D A V (g 0 17) (g 1 1) (cnt st 30) mc_17 hpl_17) E.2.2.2.2.1.2.1.2.2.2.2.2.1 q762 q194 q196 q51 q198 hdF_size ⟨Nat.le_of_ble_eq_true rfl, Nat.le_of_ble_eq_true rfl⟩ rfl rfl rfl (Nat.le_of_ble_eq_true rfl) dX7_claimed_14 ⟨Nat.le_of_ble_eq_true rfl, Nat.le_of_ble_eq_true rfl⟩) ?_
      refine li_icmp_geN (pc := 19) (a := i) (b := cnt st 30) (tgt := 91) hx hb (by omega) (by omega) dX7_claimed_19 (by decide) (fun c_1 => ?_) (fun c_1 => absurd c_1 (by omega))
      refine lv_lload_n (pc := 91) hx hb dX7_claimed_91 rfl (lv_at hl 2 rfl) ?_
      refine lv_ldc2 (pc := 92) hx hb hown (hts _ q764) dX7_claimed_92 ?_
      refine x_mmin_2 (pc := 95) (rest := []) hx hb hts hown hml hl.1 q765 (Nat.le_of_ble_eq_true rfl) (Nat.le_of_ble_eq_true rfl) (Nat.le_of_ble_eq_true rfl) (Nat.le_of_ble_eq_true rfl) dX7_claimed_95 ?_
      exact m_lretS hx hb hr hlk dX7_claimed_98 (min1500 _)
    | succ k ih_loop =>
      intro i z hi ls hl
      refine lv_iload (pc := 5) hx hb dX7_claimed_5 (lv_at hl 3 rfl) ?_
      refine lv_aload_n (pc := 7) hx hb dX7_claimed_7 rfl (lv_at hl 0 rfl) ?_
      refine x_rd (pc := 8) (v := .ref (g 0 0)) E hw.1 6 h1 (C := RX7) (T := TX7) (N := 7) rfl in_X7 (Nat.le_of_ble_eq_true rfl) q664 (fun _ h => h) rfl dX7_claimed_8 ?_
      obtain ⟨b7, b8, b9, hpx⟩ := hR.px hI
      replace hpx : V (g 0 0) = some (.inr (0, [.int (st 0 0), .int (st 0 42), .ref (g 0 2), .ref (g 0 3), .int (nI (cnt st 12)), .ref (g 0 5), .ref (g 0 6), .int b7, .long b8, .int b9, .int (st 0 14), .ref (g 0 11), .int (nI (cnt st 24)), .int (st 0 25), .ref (g 0 14), .ref (g 0 15), .int (nI (cnt st 27)), .ref (g 0 17), .ref (g 0 18), .ref (g 0 19)])) := hpx
      refine x_rdN (pc := 11) (v := .ref (g 0 17)) E hw.1 17 hpx (C := RX0) (T := TX0) (N := 20) rfl in_X0 (Nat.le_of_ble_eq_true rfl) q131 (fun _ h => h) rfl dX7_claimed_11 ?_
      obtain ⟨mc_17, hpl_17⟩ := hR.p17
      refine x_goR5 (x_runF (pc := 14) (As := []) (rest := [.int (nI i)]) E hml hl.1 hw.2 hw.1 hpl_17 (C := RJ2) (T := TJ2) (N := 3) rfl (xtJ2_size l D A V (g 0 17) (g 1 1) (cnt st 30) mc_17 hpl_17) E.2.2.2.2.1.2.1.2.2.2.2.2.1 q762 q194 q196 q51 q198 hdF_size ⟨Nat.le_of_ble_eq_true rfl, Nat.le_of_ble_eq_true rfl⟩ rfl rfl rfl (Nat.le_of_ble_eq_true rfl) dX7_claimed_14 ⟨Nat.le_of_ble_eq_true rfl, Nat.le_of_ble_eq_true rfl⟩) ?_
      refine li_icmp_geN (pc := 19) (a := i) (b := cnt st 30) (tgt := 91) hx hb (by omega) (by omega) dX7_claimed_19 (by decide) (fun c_2 => absurd c_2 (by omega)) (fun c_2 => ?_)
      refine lv_lload_n (pc := 22) hx hb dX7_claimed_22 rfl (lv_at hl 2 rfl) ?_
      refine lv_aload_n (pc := 23) hx hb dX7_claimed_23 rfl (lv_at hl 0 rfl) ?_
      refine x_rd (pc := 24) (v := .ref (g 0 0)) E hw.1 6 h1 (C := RX7) (T := TX7) (N := 7) rfl in_X7 (Nat.le_of_ble_eq_true rfl) q664 (fun _ h => h) rfl dX7_claimed_24 ?_
      refine x_rdN (pc := 27) (v := .ref (g 0 17)) E hw.1 17 hpx (C := RX0) (T := TX0) (N := 20) rfl in_X0 (Nat.le_of_ble_eq_true rfl) q131 (fun _ h => h) rfl dX7_claimed_27 ?_
      refine lv_iload (pc := 30) hx hb dX7_claimed_30 (lv_at hl 3 rfl) ?_
      obtain ⟨cap_1, f1_1, hpe_1, hcap_1, hle_1, hel_1⟩ := hR.pe (j := 1) (by decide)
      replace hle_1 : cnt st 30 ≤ cap_1 := hle_1
      replace hel_1 : ∀ q, q < cnt st 30 → f1_1 q = some (g 3 q) := hel_1
      refine x_goR5 (x_runF (pc := 32) (As := [.int (nI i)]) (rest := [.long z]) E hml hl.1 hw.2 hw.1 hpl_17 (C := RJ2) (T := TJ2) (N := 3) rfl (xtJ2_get l D A V (g 0 17) (g 1 1) (cnt st 30) cap_1 (g 3 i) i mc_17 f1_1 hpl_17 hpe_1 (show i < cnt st 30 from (by omega)) hle_1 (by have := hcap_1; omega) (hel_1 _ (by omega))) E.2.2.2.2.1.2.1.2.2.2.2.2.2.1 q753 q340 q342 q51 q344 hdF_get ⟨Nat.le_of_ble_eq_true rfl, Nat.le_of_ble_eq_true rfl⟩ rfl rfl rfl (Nat.le_of_ble_eq_true rfl) dX7_claimed_32 ⟨Nat.le_of_ble_eq_true rfl, Nat.le_of_ble_eq_true rfl⟩) ?_
      obtain ⟨k_3a, k_3b, k_3c, k_3d, k_3h, k_3e⟩ := hR.ctl (j := i) (by omega)
      refine x_castS (pc := 37) E hw.1 k_3h (C := RX6) (T := TX6) (N := 7) rfl q754 dX7_claimed_37 ?_
      refine x_rdN (pc := 40) (v := .int (st 31 i)) E hw.1 0 k_3h (C := RX6) (T := TX6) (N := 7) rfl in_X6 (Nat.le_of_ble_eq_true rfl) q593 (fun _ h => h) rfl dX7_claimed_40 ?_
      refine lv_aload_n (pc := 43) hx hb dX7_claimed_43 rfl (lv_at hl 0 rfl) ?_
      refine x_rd (pc := 44) (v := .ref (g 0 0)) E hw.1 6 h1 (C := RX7) (T := TX7) (N := 7) rfl in_X7 (Nat.le_of_ble_eq_true rfl) q664 (fun _ h => h) rfl dX7_claimed_44 ?_
      refine x_rdN (pc := 47) (v := .ref (g 0 17)) E hw.1 17 hpx (C := RX0) (T := TX0) (N := 20) rfl in_X0 (Nat.le_of_ble_eq_true rfl) q131 (fun _ h => h) rfl dX7_claimed_47 ?_
      refine lv_iload_n (pc := 50) hx hb dX7_claimed_50 rfl (lv_at hl 1 rfl) ?_
      refine x_goR5 (x_runF (pc := 51) (As := [.int (nI c_)]) (rest := [.int (st 31 i), .long z]) E hml hl.1 hw.2 hw.1 hpl_17 (C := RJ2) (T := TJ2) (N := 3) rfl (xtJ2_get l D A V (g 0 17) (g 1 1) (cnt st 30) cap_1 (g 3 c_) c_ mc_17 f1_1 hpl_17 hpe_1 (show c_ < cnt st 30 from (by omega)) hle_1 (by have := hcap_1; omega) (hel_1 _ (by omega))) E.2.2.2.2.1.2.1.2.2.2.2.2.2.1 q753 q340 q342 q51 q344 hdF_get ⟨Nat.le_of_ble_eq_true rfl, Nat.le_of_ble_eq_true rfl⟩ rfl rfl rfl (Nat.le_of_ble_eq_true rfl) dX7_claimed_51 ⟨Nat.le_of_ble_eq_true rfl, Nat.le_of_ble_eq_true rfl⟩) ?_
      obtain ⟨k_4a, k_4b, k_4c, k_4d, k_4h, k_4e⟩ := hR.ctl (j := c_) (by omega)
      refine x_castS (pc := 56) E hw.1 k_4h (C := RX6) (T := TX6) (N := 7) rfl q754 dX7_claimed_56 ?_
      refine x_rdN (pc := 59) (v := .int (st 31 c_)) E hw.1 0 k_4h (C := RX6) (T := TX6) (N := 7) rfl in_X6 (Nat.le_of_ble_eq_true rfl) q593 (fun _ h => h) rfl dX7_claimed_59 ?_
      refine li_icmp_gt (pc := 62) (tgt := 82) hx hb dX7_claimed_62 (by decide) (fun c_5 => ?_) (fun c_5 => ?_)
      · refine lv_lconst (pc := 82) (v := 0) hx hb dX7_claimed_82 (by decide) ?_
        refine lv_ladd (pc := 83) hx hb dX7_claimed_83 ?_
        refine lv_lstore_n (pc := 84) (lv' := [(2, .long (z + 0)), (0, .ref (g 4 a)), (1, .int (nI c_)), (4, .int (nI i))]) hx hb dX7_claimed_84 rfl hl (by decide) rfl (fun ls hl => ?_)
        refine lv_iinc (pc := 85) (v := (nI (i + 1))) (lv' := [(4, .int (nI (i + 1))), (2, .long (z + 0)), (0, .ref (g 4 a)), (1, .int (nI c_))]) hx hb dX7_claimed_85 hl (k := 3) rfl (nI_1 _) (by decide) rfl (fun ls hl => ?_)
        refine lv_goto (pc := 88) (tgt := 5) hx hb dX7_claimed_88 (by decide) ?_
        exact x_toR (by simp only [crd, if_pos c_5, min600]) (ih_loop (i + 1) (z + 0) (by omega) _ (lv_sub hl [2, 3, 1, 0] rfl))
      · refine lv_aload_n (pc := 65) hx hb dX7_claimed_65 rfl (lv_at hl 0 rfl) ?_
        refine x_rd (pc := 66) (v := .ref (g 7 a)) E hw.1 4 h1 (C := RX7) (T := TX7) (N := 7) rfl in_X7 (Nat.le_of_ble_eq_true rfl) q661 (fun _ h => h) rfl dX7_claimed_66 ?_
        refine lv_iload (pc := 69) hx hb dX7_claimed_69 (lv_at hl 3 rfl) ?_
        obtain ⟨v_6f, v_6p, v_6h⟩ := hR.clm (j := a) (by omega)
        refine x_ildN (pc := 71) (v := (st 41 (8 * a + i))) E hw.1 (i) v_6p (show i < 8 from (by omega)) (Nat.le_of_ble_eq_true rfl) (v_6h _ (by omega)) dX7_claimed_71 ?_
        refine lv_sipush (pc := 72) (v := 600) hx hb dX7_claimed_72 (by decide) ?_
        refine x_mmin (pc := 75) (rest := [.long z]) hx hb hts hown hml hl.1 q763 (Nat.le_of_ble_eq_true rfl) (Nat.le_of_ble_eq_true rfl) (Nat.le_of_ble_eq_true rfl) (Nat.le_of_ble_eq_true rfl) dX7_claimed_75 ?_
        refine lv_i2l (pc := 78) (v := (if (600 : Int32).toInt < (st 41 (8 * a + i) : Int32).toInt then (600 : Int32) else st 41 (8 * a + i)).toInt64) hx hb dX7_claimed_78 rfl ?_
        refine lv_goto (pc := 79) (tgt := 83) hx hb dX7_claimed_79 (by decide) ?_
        refine lv_ladd (pc := 83) hx hb dX7_claimed_83 ?_
        refine lv_lstore_n (pc := 84) (lv' := [(2, .long (z + (if (600 : Int32).toInt < (st 41 (8 * a + i) : Int32).toInt then (600 : Int32) else st 41 (8 * a + i)).toInt64)), (0, .ref (g 4 a)), (1, .int (nI c_)), (4, .int (nI i))]) hx hb dX7_claimed_84 rfl hl (by decide) rfl (fun ls hl => ?_)
        refine lv_iinc (pc := 85) (v := (nI (i + 1))) (lv' := [(4, .int (nI (i + 1))), (2, .long (z + (if (600 : Int32).toInt < (st 41 (8 * a + i) : Int32).toInt then (600 : Int32) else st 41 (8 * a + i)).toInt64)), (0, .ref (g 4 a)), (1, .int (nI c_))]) hx hb dX7_claimed_85 hl (k := 3) rfl (nI_1 _) (by decide) rfl (fun ls hl => ?_)
        refine lv_goto (pc := 88) (tgt := 5) hx hb dX7_claimed_88 (by decide) ?_
        exact x_toR (by simp only [crd, if_neg c_5, min600]) (ih_loop (i + 1) (z + (if (600 : Int32).toInt < (st 41 (8 * a + i) : Int32).toInt then (600 : Int32) else st 41 (8 * a + i)).toInt64) (by omega) _ (lv_sub hl [2, 3, 1, 0] rfl))
  exact x_toR rfl (loop (cnt st 30) 0 0 (by omega) _ (lv_sub hl [2, 3, 1, 0] rfl))
set_option maxHeartbeats 4000000 in
set_option maxRecDepth 100000 in
theorem xtX7_claimed_6 (l : Launch) (D : xD) (A : Nat → Prop) (V : xV) (st : mS) (g : xG) (a : Nat) (c_ : Nat) (hI : mI st) (hR : xR D st g V) (ha : a < cnt st 35) (hk : st 37 a = 1) (hc : c_ < cnt st 30) : Met l yX7_claimed (ws_ yX7_claimed cX7_claimed 5 (some .long)) (xRm 4 0 0) (xP D A V [.ref (g 4 a), .int (nI c_)]) (k2_QcV (.long (crr st a c_))) 0 0 (fun _ => False) := by
  refine x_headR (own := RX7) (As := [.ref (g 4 a), .int (nI c_)]) (bytes := cX7_claimed) (maxL := 5) (ret := (some .long)) (by decide) rfl (Nat.le_of_ble_eq_true rfl) ?_
  intro p e s m below meth c E hml hr hlk hw0 ls hl
  have hw : xWd D A s V s.heap [] := ⟨hw0, va_S.rf⟩
  have hx := E.1
  have hb := E.2.1
  have hts := E.2.2.1
  have hown := E.2.2.2.1
  have hl : lv_has ls 5 [(0, .ref (g 4 a)), (1, .int (nI c_))] := hl
  have h16 := hI.r16
  have h10 := hI.l10
  have hv8 := hI.v8
  have hc8 := hI.c8
  have hk8 := hI.k8
  have hb8 := hI.b8
  have h1 := hR.car6 ha hk
  have h9 := hR.o9 hI ha
  refine lv_lconst (pc := 0) (v := 0) hx hb dX7_claimed_0 (by decide) ?_
  refine lv_lstore_n (pc := 1) (lv' := [(2, .long 0), (0, .ref (g 4 a)), (1, .int (nI c_))]) hx hb dX7_claimed_1 rfl hl (by decide) rfl (fun ls hl => ?_)
  refine lv_iconst (pc := 2) (v := 0) hx hb dX7_claimed_2 (by decide) ?_
  refine lv_istore (pc := 3) (lv' := [(4, .int 0), (2, .long 0), (0, .ref (g 4 a)), (1, .int (nI c_))]) hx hb dX7_claimed_3 hl (by decide) rfl (fun ls hl => ?_)
  have loop : ∀ (k : Nat) (i : Nat) (z : Int64), i + k = cnt st 30 → ∀ ls : Array Slot, lv_has ls 5 [(0, .ref (g 4 a)), (1, .int (nI c_)), (2, .long z), (4, .int (nI i))] → W p l e (xRm 4 0 0) s m ([.ref (g 4 a), .int (nI c_)] : List Value).toArray below meth c s.heap [] 0 0 (MQ below (k2_QcV (.long (if (crd st a c_ k i z).toInt < 1500 then crd st a c_ k i z else 1500))) ([.ref (g 4 a), .int (nI c_)] : List Value).toArray s 0 0 (fun _ => False)) (F0 m 5 ls []) := by
    intro k
    induction k with
    | zero =>
      intro i z hi ls hl
      refine lv_iload (pc := 5) hx hb dX7_claimed_5 (lv_at hl 3 rfl) ?_
      refine lv_aload_n (pc := 7) hx hb dX7_claimed_7 rfl (lv_at hl 0 rfl) ?_
      refine x_rd (pc := 8) (v := .ref (g 0 0)) E hw.1 6 h1 (C := RX8) (T := TX8) (N := 8) rfl in_X8 (Nat.le_of_ble_eq_true rfl) q664 (fun _ h => h) rfl dX7_claimed_8 ?_
      obtain ⟨b7, b8, b9, hpx⟩ := hR.px hI
      replace hpx : V (g 0 0) = some (.inr (0, [.int (st 0 0), .int (st 0 42), .ref (g 0 2), .ref (g 0 3), .int (nI (cnt st 12)), .ref (g 0 5), .ref (g 0 6), .int b7, .long b8, .int b9, .int (st 0 14), .ref (g 0 11), .int (nI (cnt st 24)), .int (st 0 25), .ref (g 0 14), .ref (g 0 15), .int (nI (cnt st 27)), .ref (g 0 17), .ref (g 0 18), .ref (g 0 19)])) := hpx
      refine x_rdN (pc := 11) (v := .ref (g 0 17)) E hw.1 17 hpx (C := RX0) (T := TX0) (N := 20) rfl in_X0 (Nat.le_of_ble_eq_true rfl) q131 (fun _ h => h) rfl dX7_claimed_11 ?_
      obtain ⟨mc_17, hpl_17⟩ := hR.p17
      refine x_goR5 (x_runF (pc := 14) (As := []) (rest := [.int (nI i)]) E hml hl.1 hw.2 hw.1 hpl_17 (C := RJ2) (T := TJ2) (N := 3) rfl (xtJ2_size l D A V (g 0 17) (g 1 1) (cnt st 30) mc_17 hpl_17) E.2.2.2.2.1.2.1.2.2.2.2.2.1 q762 q194 q196 q51 q198 hdF_size ⟨Nat.le_of_ble_eq_true rfl, Nat.le_of_ble_eq_true rfl⟩ rfl rfl rfl (Nat.le_of_ble_eq_true rfl) dX7_claimed_14 ⟨Nat.le_of_ble_eq_true rfl, Nat.le_of_ble_eq_true rfl⟩) ?_
      refine li_icmp_geN (pc := 19) (a := i) (b := cnt st 30) (tgt := 91) hx hb (by omega) (by omega) dX7_claimed_19 (by decide) (fun c_1 => ?_) (fun c_1 => absurd c_1 (by omega))
      refine lv_lload_n (pc := 91) hx hb dX7_claimed_91 rfl (lv_at hl 2 rfl) ?_
      refine lv_ldc2 (pc := 92) hx hb hown (hts _ q764) dX7_claimed_92 ?_
      refine x_mmin_2 (pc := 95) (rest := []) hx hb hts hown hml hl.1 q765 (Nat.le_of_ble_eq_true rfl) (Nat.le_of_ble_eq_true rfl) (Nat.le_of_ble_eq_true rfl) (Nat.le_of_ble_eq_true rfl) dX7_claimed_95 ?_
      exact m_lretS hx hb hr hlk dX7_claimed_98 (min1500 _)
    | succ k ih_loop =>
      intro i z hi ls hl
      refine lv_iload (pc := 5) hx hb dX7_claimed_5 (lv_at hl 3 rfl) ?_
      refine lv_aload_n (pc := 7) hx hb dX7_claimed_7 rfl (lv_at hl 0 rfl) ?_
      refine x_rd (pc := 8) (v := .ref (g 0 0)) E hw.1 6 h1 (C := RX8) (T := TX8) (N := 8) rfl in_X8 (Nat.le_of_ble_eq_true rfl) q664 (fun _ h => h) rfl dX7_claimed_8 ?_
      obtain ⟨b7, b8, b9, hpx⟩ := hR.px hI
      replace hpx : V (g 0 0) = some (.inr (0, [.int (st 0 0), .int (st 0 42), .ref (g 0 2), .ref (g 0 3), .int (nI (cnt st 12)), .ref (g 0 5), .ref (g 0 6), .int b7, .long b8, .int b9, .int (st 0 14), .ref (g 0 11), .int (nI (cnt st 24)), .int (st 0 25), .ref (g 0 14), .ref (g 0 15), .int (nI (cnt st 27)), .ref (g 0 17), .ref (g 0 18), .ref (g 0 19)])) := hpx
      refine x_rdN (pc := 11) (v := .ref (g 0 17)) E hw.1 17 hpx (C := RX0) (T := TX0) (N := 20) rfl in_X0 (Nat.le_of_ble_eq_true rfl) q131 (fun _ h => h) rfl dX7_claimed_11 ?_
      obtain ⟨mc_17, hpl_17⟩ := hR.p17
      refine x_goR5 (x_runF (pc := 14) (As := []) (rest := [.int (nI i)]) E hml hl.1 hw.2 hw.1 hpl_17 (C := RJ2) (T := TJ2) (N := 3) rfl (xtJ2_size l D A V (g 0 17) (g 1 1) (cnt st 30) mc_17 hpl_17) E.2.2.2.2.1.2.1.2.2.2.2.2.1 q762 q194 q196 q51 q198 hdF_size ⟨Nat.le_of_ble_eq_true rfl, Nat.le_of_ble_eq_true rfl⟩ rfl rfl rfl (Nat.le_of_ble_eq_true rfl) dX7_claimed_14 ⟨Nat.le_of_ble_eq_true rfl, Nat.le_of_ble_eq_true rfl⟩) ?_
      refine li_icmp_geN (pc := 19) (a := i) (b := cnt st 30) (tgt := 91) hx hb (by omega) (by omega) dX7_claimed_19 (by decide) (fun c_2 => absurd c_2 (by omega)) (fun c_2 => ?_)
      refine lv_lload_n (pc := 22) hx hb dX7_claimed_22 rfl (lv_at hl 2 rfl) ?_
      refine lv_aload_n (pc := 23) hx hb dX7_claimed_23 rfl (lv_at hl 0 rfl) ?_
      refine x_rd (pc := 24) (v := .ref (g 0 0)) E hw.1 6 h1 (C := RX8) (T := TX8) (N := 8) rfl in_X8 (Nat.le_of_ble_eq_true rfl) q664 (fun _ h => h) rfl dX7_claimed_24 ?_
      refine x_rdN (pc := 27) (v := .ref (g 0 17)) E hw.1 17 hpx (C := RX0) (T := TX0) (N := 20) rfl in_X0 (Nat.le_of_ble_eq_true rfl) q131 (fun _ h => h) rfl dX7_claimed_27 ?_
      refine lv_iload (pc := 30) hx hb dX7_claimed_30 (lv_at hl 3 rfl) ?_
      obtain ⟨cap_1, f1_1, hpe_1, hcap_1, hle_1, hel_1⟩ := hR.pe (j := 1) (by decide)
      replace hle_1 : cnt st 30 ≤ cap_1 := hle_1
      replace hel_1 : ∀ q, q < cnt st 30 → f1_1 q = some (g 3 q) := hel_1
      refine x_goR5 (x_runF (pc := 32) (As := [.int (nI i)]) (rest := [.long z]) E hml hl.1 hw.2 hw.1 hpl_17 (C := RJ2) (T := TJ2) (N := 3) rfl (xtJ2_get l D A V (g 0 17) (g 1 1) (cnt st 30) cap_1 (g 3 i) i mc_17 f1_1 hpl_17 hpe_1 (show i < cnt st 30 from (by omega)) hle_1 (by have := hcap_1; omega) (hel_1 _ (by omega))) E.2.2.2.2.1.2.1.2.2.2.2.2.2.1 q753 q340 q342 q51 q344 hdF_get ⟨Nat.le_of_ble_eq_true rfl, Nat.le_of_ble_eq_true rfl⟩ rfl rfl rfl (Nat.le_of_ble_eq_true rfl) dX7_claimed_32 ⟨Nat.le_of_ble_eq_true rfl, Nat.le_of_ble_eq_true rfl⟩) ?_
      obtain ⟨k_3a, k_3b, k_3c, k_3d, k_3h, k_3e⟩ := hR.ctl (j := i) (by omega)
      refine x_castS (pc := 37) E hw.1 k_3h (C := RX6) (T := TX6) (N := 7) rfl q754 dX7_claimed_37 ?_
      refine x_rdN (pc := 40) (v := .int (st 31 i)) E hw.1 0 k_3h (C := RX6) (T := TX6) (N := 7) rfl in_X6 (Nat.le_of_ble_eq_true rfl) q593 (fun _ h => h) rfl dX7_claimed_40 ?_
      refine lv_aload_n (pc := 43) hx hb dX7_claimed_43 rfl (lv_at hl 0 rfl) ?_
      refine x_rd (pc := 44) (v := .ref (g 0 0)) E hw.1 6 h1 (C := RX8) (T := TX8) (N := 8) rfl in_X8 (Nat.le_of_ble_eq_true rfl) q664 (fun _ h => h) rfl dX7_claimed_44 ?_
      refine x_rdN (pc := 47) (v := .ref (g 0 17)) E hw.1 17 hpx (C := RX0) (T := TX0) (N := 20) rfl in_X0 (Nat.le_of_ble_eq_true rfl) q131 (fun _ h => h) rfl dX7_claimed_47 ?_
      refine lv_iload_n (pc := 50) hx hb dX7_claimed_50 rfl (lv_at hl 1 rfl) ?_
      refine x_goR5 (x_runF (pc := 51) (As := [.int (nI c_)]) (rest := [.int (st 31 i), .long z]) E hml hl.1 hw.2 hw.1 hpl_17 (C := RJ2) (T := TJ2) (N := 3) rfl (xtJ2_get l D A V (g 0 17) (g 1 1) (cnt st 30) cap_1 (g 3 c_) c_ mc_17 f1_1 hpl_17 hpe_1 (show c_ < cnt st 30 from (by omega)) hle_1 (by have := hcap_1; omega) (hel_1 _ (by omega))) E.2.2.2.2.1.2.1.2.2.2.2.2.2.1 q753 q340 q342 q51 q344 hdF_get ⟨Nat.le_of_ble_eq_true rfl, Nat.le_of_ble_eq_true rfl⟩ rfl rfl rfl (Nat.le_of_ble_eq_true rfl) dX7_claimed_51 ⟨Nat.le_of_ble_eq_true rfl, Nat.le_of_ble_eq_true rfl⟩) ?_
      obtain ⟨k_4a, k_4b, k_4c, k_4d, k_4h, k_4e⟩ := hR.ctl (j := c_) (by omega)
      refine x_castS (pc := 56) E hw.1 k_4h (C := RX6) (T := TX6) (N := 7) rfl q754 dX7_claimed_56 ?_
      refine x_rdN (pc := 59) (v := .int (st 31 c_)) E hw.1 0 k_4h (C := RX6) (T := TX6) (N := 7) rfl in_X6 (Nat.le_of_ble_eq_true rfl) q593 (fun _ h => h) rfl dX7_claimed_59 ?_
      refine li_icmp_gt (pc := 62) (tgt := 82) hx hb dX7_claimed_62 (by decide) (fun c_5 => ?_) (fun c_5 => ?_)
      · refine lv_lconst (pc := 82) (v := 0) hx hb dX7_claimed_82 (by decide) ?_
        refine lv_ladd (pc := 83) hx hb dX7_claimed_83 ?_
        refine lv_lstore_n (pc := 84) (lv' := [(2, .long (z + 0)), (0, .ref (g 4 a)), (1, .int (nI c_)), (4, .int (nI i))]) hx hb dX7_claimed_84 rfl hl (by decide) rfl (fun ls hl => ?_)
        refine lv_iinc (pc := 85) (v := (nI (i + 1))) (lv' := [(4, .int (nI (i + 1))), (2, .long (z + 0)), (0, .ref (g 4 a)), (1, .int (nI c_))]) hx hb dX7_claimed_85 hl (k := 3) rfl (nI_1 _) (by decide) rfl (fun ls hl => ?_)
        refine lv_goto (pc := 88) (tgt := 5) hx hb dX7_claimed_88 (by decide) ?_
        exact x_toR (by simp only [crd, if_pos c_5, min600]) (ih_loop (i + 1) (z + 0) (by omega) _ (lv_sub hl [2, 3, 1, 0] rfl))
      · refine lv_aload_n (pc := 65) hx hb dX7_claimed_65 rfl (lv_at hl 0 rfl) ?_
        refine x_rd (pc := 66) (v := .ref (g 7 a)) E hw.1 4 h1 (C := RX8) (T := TX8) (N := 8) rfl in_X8 (Nat.le_of_ble_eq_true rfl) q661 (fun _ h => h) rfl dX7_claimed_66 ?_
        refine lv_iload (pc := 69) hx hb dX7_claimed_69 (lv_at hl 3 rfl) ?_
        obtain ⟨v_6f, v_6p, v_6h⟩ := hR.clm (j := a) (by omega)
        refine x_ildN (pc := 71) (v := (st 41 (8 * a + i))) E hw.1 (i) v_6p (show i < 8 from (by omega)) (Nat.le_of_ble_eq_true rfl) (v_6h _ (by omega)) dX7_claimed_71 ?_
        refine lv_sipush (pc := 72) (v := 600) hx hb dX7_claimed_72 (by decide) ?_
        refine x_mmin (pc := 75) (rest := [.long z]) hx hb hts hown hml hl.1 q763 (Nat.le_of_ble_eq_true rfl) (Nat.le_of_ble_eq_true rfl) (Nat.le_of_ble_eq_true rfl) (Nat.le_of_ble_eq_true rfl) dX7_claimed_75 ?_
        refine lv_i2l (pc := 78) (v := (if (600 : Int32).toInt < (st 41 (8 * a + i) : Int32).toInt then (600 : Int32) else st 41 (8 * a + i)).toInt64) hx hb dX7_claimed_78 rfl ?_
        refine lv_goto (pc := 79) (tgt := 83) hx hb dX7_claimed_79 (by decide) ?_
        refine lv_ladd (pc := 83) hx hb dX7_claimed_83 ?_
        refine lv_lstore_n (pc := 84) (lv' := [(2, .long (z + (if (600 : Int32).toInt < (st 41 (8 * a + i) : Int32).toInt then (600 : Int32) else st 41 (8 * a + i)).toInt64)), (0, .ref (g 4 a)), (1, .int (nI c_)), (4, .int (nI i))]) hx hb dX7_claimed_84 rfl hl (by decide) rfl (fun ls hl => ?_)
        refine lv_iinc (pc := 85) (v := (nI (i + 1))) (lv' := [(4, .int (nI (i + 1))), (2, .long (z + (if (600 : Int32).toInt < (st 41 (8 * a + i) : Int32).toInt then (600 : Int32) else st 41 (8 * a + i)).toInt64)), (0, .ref (g 4 a)), (1, .int (nI c_))]) hx hb dX7_claimed_85 hl (k := 3) rfl (nI_1 _) (by decide) rfl (fun ls hl => ?_)
        refine lv_goto (pc := 88) (tgt := 5) hx hb dX7_claimed_88 (by decide) ?_
        exact x_toR (by simp only [crd, if_neg c_5, min600]) (ih_loop (i + 1) (z + (if (600 : Int32).toInt < (st 41 (8 * a + i) : Int32).toInt then (600 : Int32) else st 41 (8 * a + i)).toInt64) (by omega) _ (lv_sub hl [2, 3, 1, 0] rfl))
  exact x_toR rfl (loop (cnt st 30) 0 0 (by omega) _ (lv_sub hl [2, 3, 1, 0] rfl))
set_option maxHeartbeats 4000000 in
set_option maxRecDepth 100000 in
theorem xtX7_claimed_7 (l : Launch) (D : xD) (A : Nat → Prop) (V : xV) (st : mS) (g : xG) (a : Nat) (c_ : Nat) (hI : mI st) (hR : xR D st g V) (ha : a < cnt st 35) (hk : st 37 a = 2) (hc : c_ < cnt st 30) : Met l yX7_claimed (ws_ yX7_claimed cX7_claimed 5 (some .long)) (xRm 4 0 0) (xP D A V [.ref (g 4 a), .int (nI c_)]) (k2_QcV (.long (crr st a c_))) 0 0 (fun _ => False) := by
  refine x_headR (own := RX7) (As := [.ref (g 4 a), .int (nI c_)]) (bytes := cX7_claimed) (maxL := 5) (ret := (some .long)) (by decide) rfl (Nat.le_of_ble_eq_true rfl) ?_
  intro p e s m below meth c E hml hr hlk hw0 ls hl
  have hw : xWd D A s V s.heap [] := ⟨hw0, va_S.rf⟩
  have hx := E.1
  have hb := E.2.1
  have hts := E.2.2.1
  have hown := E.2.2.2.1
  have hl : lv_has ls 5 [(0, .ref (g 4 a)), (1, .int (nI c_))] := hl
  have h16 := hI.r16
  have h10 := hI.l10
  have hv8 := hI.v8
  have hc8 := hI.c8
  have hk8 := hI.k8
  have hb8 := hI.b8
  have h1 := hR.car7 ha hk
  have h9 := hR.o9 hI ha
  refine lv_lconst (pc := 0) (v := 0) hx hb dX7_claimed_0 (by decide) ?_
  refine lv_lstore_n (pc := 1) (lv' := [(2, .long 0), (0, .ref (g 4 a)), (1, .int (nI c_))]) hx hb dX7_claimed_1 rfl hl (by decide) rfl (fun ls hl => ?_)
  refine lv_iconst (pc := 2) (v := 0) hx hb dX7_claimed_2 (by decide) ?_
  refine lv_istore (pc := 3) (lv' := [(4, .int 0), (2, .long 0), (0, .ref (g 4 a)), (1, .int (nI c_))]) hx hb dX7_claimed_3 hl (by decide) rfl (fun ls hl => ?_)
  have loop : ∀ (k : Nat) (i : Nat) (z : Int64), i + k = cnt st 30 → ∀ ls : Array Slot, lv_has ls 5 [(0, .ref (g 4 a)), (1, .int (nI c_)), (2, .long z), (4, .int (nI i))] → W p l e (xRm 4 0 0) s m ([.ref (g 4 a), .int (nI c_)] : List Value).toArray below meth c s.heap [] 0 0 (MQ below (k2_QcV (.long (if (crd st a c_ k i z).toInt < 1500 then crd st a c_ k i z else 1500))) ([.ref (g 4 a), .int (nI c_)] : List Value).toArray s 0 0 (fun _ => False)) (F0 m 5 ls []) := by
    intro k
    induction k with
    | zero =>
      intro i z hi ls hl
      refine lv_iload (pc := 5) hx hb dX7_claimed_5 (lv_at hl 3 rfl) ?_
      refine lv_aload_n (pc := 7) hx hb dX7_claimed_7 rfl (lv_at hl 0 rfl) ?_
      refine x_rd (pc := 8) (v := .ref (g 0 0)) E hw.1 6 h1 (C := RX9) (T := TX9) (N := 9) rfl in_X9 (Nat.le_of_ble_eq_true rfl) q664 (fun _ h => h) rfl dX7_claimed_8 ?_
      obtain ⟨b7, b8, b9, hpx⟩ := hR.px hI
      replace hpx : V (g 0 0) = some (.inr (0, [.int (st 0 0), .int (st 0 42), .ref (g 0 2), .ref (g 0 3), .int (nI (cnt st 12)), .ref (g 0 5), .ref (g 0 6), .int b7, .long b8, .int b9, .int (st 0 14), .ref (g 0 11), .int (nI (cnt st 24)), .int (st 0 25), .ref (g 0 14), .ref (g 0 15), .int (nI (cnt st 27)), .ref (g 0 17), .ref (g 0 18), .ref (g 0 19)])) := hpx
      refine x_rdN (pc := 11) (v := .ref (g 0 17)) E hw.1 17 hpx (C := RX0) (T := TX0) (N := 20) rfl in_X0 (Nat.le_of_ble_eq_true rfl) q131 (fun _ h => h) rfl dX7_claimed_11 ?_
      obtain ⟨mc_17, hpl_17⟩ := hR.p17
      refine x_goR5 (x_runF (pc := 14) (As := []) (rest := [.int (nI i)]) E hml hl.1 hw.2 hw.1 hpl_17 (C := RJ2) (T := TJ2) (N := 3) rfl (xtJ2_size l D A V (g 0 17) (g 1 1) (cnt st 30) mc_17 hpl_17) E.2.2.2.2.1.2.1.2.2.2.2.2.1 q762 q194 q196 q51 q198 hdF_size ⟨Nat.le_of_ble_eq_true rfl, Nat.le_of_ble_eq_true rfl⟩ rfl rfl rfl (Nat.le_of_ble_eq_true rfl) dX7_claimed_14 ⟨Nat.le_of_ble_eq_true rfl, Nat.le_of_ble_eq_true rfl⟩) ?_
      refine li_icmp_geN (pc := 19) (a := i) (b := cnt st 30) (tgt := 91) hx hb (by omega) (by omega) dX7_claimed_19 (by decide) (fun c_1 => ?_) (fun c_1 => absurd c_1 (by omega))
      refine lv_lload_n (pc := 91) hx hb dX7_claimed_91 rfl (lv_at hl 2 rfl) ?_
      refine lv_ldc2 (pc := 92) hx hb hown (hts _ q764) dX7_claimed_92 ?_
      refine x_mmin_2 (pc := 95) (rest := []) hx hb hts hown hml hl.1 q765 (Nat.le_of_ble_eq_true rfl) (Nat.le_of_ble_eq_true rfl) (Nat.le_of_ble_eq_true rfl) (Nat.le_of_ble_eq_true rfl) dX7_claimed_95 ?_
      exact m_lretS hx hb hr hlk dX7_claimed_98 (min1500 _)
    | succ k ih_loop =>
      intro i z hi ls hl
      refine lv_iload (pc := 5) hx hb dX7_claimed_5 (lv_at hl 3 rfl) ?_
      refine lv_aload_n (pc := 7) hx hb dX7_claimed_7 rfl (lv_at hl 0 rfl) ?_
      refine x_rd (pc := 8) (v := .ref (g 0 0)) E hw.1 6 h1 (C := RX9) (T := TX9) (N := 9) rfl in_X9 (Nat.le_of_ble_eq_true rfl) q664 (fun _ h => h) rfl dX7_claimed_8 ?_
      obtain ⟨b7, b8, b9, hpx⟩ := hR.px hI
      replace hpx : V (g 0 0) = some (.inr (0, [.int (st 0 0), .int (st 0 42), .ref (g 0 2), .ref (g 0 3), .int (nI (cnt st 12)), .ref (g 0 5), .ref (g 0 6), .int b7, .long b8, .int b9, .int (st 0 14), .ref (g 0 11), .int (nI (cnt st 24)), .int (st 0 25), .ref (g 0 14), .ref (g 0 15), .int (nI (cnt st 27)), .ref (g 0 17), .ref (g 0 18), .ref (g 0 19)])) := hpx
      refine x_rdN (pc := 11) (v := .ref (g 0 17)) E hw.1 17 hpx (C := RX0) (T := TX0) (N := 20) rfl in_X0 (Nat.le_of_ble_eq_true rfl) q131 (fun _ h => h) rfl dX7_claimed_11 ?_
      obtain ⟨mc_17, hpl_17⟩ := hR.p17
      refine x_goR5 (x_runF (pc := 14) (As := []) (rest := [.int (nI i)]) E hml hl.1 hw.2 hw.1 hpl_17 (C := RJ2) (T := TJ2) (N := 3) rfl (xtJ2_size l D A V (g 0 17) (g 1 1) (cnt st 30) mc_17 hpl_17) E.2.2.2.2.1.2.1.2.2.2.2.2.1 q762 q194 q196 q51 q198 hdF_size ⟨Nat.le_of_ble_eq_true rfl, Nat.le_of_ble_eq_true rfl⟩ rfl rfl rfl (Nat.le_of_ble_eq_true rfl) dX7_claimed_14 ⟨Nat.le_of_ble_eq_true rfl, Nat.le_of_ble_eq_true rfl⟩) ?_
      refine li_icmp_geN (pc := 19) (a := i) (b := cnt st 30) (tgt := 91) hx hb (by omega) (by omega) dX7_claimed_19 (by decide) (fun c_2 => absurd c_2 (by omega)) (fun c_2 => ?_)
      refine lv_lload_n (pc := 22) hx hb dX7_claimed_22 rfl (lv_at hl 2 rfl) ?_
      refine lv_aload_n (pc := 23) hx hb dX7_claimed_23 rfl (lv_at hl 0 rfl) ?_
      refine x_rd (pc := 24) (v := .ref (g 0 0)) E hw.1 6 h1 (C := RX9) (T := TX9) (N := 9) rfl in_X9 (Nat.le_of_ble_eq_true rfl) q664 (fun _ h => h) rfl dX7_claimed_24 ?_
      refine x_rdN (pc := 27) (v := .ref (g 0 17)) E hw.1 17 hpx (C := RX0) (T := TX0) (N := 20) rfl in_X0 (Nat.le_of_ble_eq_true rfl) q131 (fun _ h => h) rfl dX7_claimed_27 ?_
      refine lv_iload (pc := 30) hx hb dX7_claimed_30 (lv_at hl 3 rfl) ?_
      obtain ⟨cap_1, f1_1, hpe_1, hcap_1, hle_1, hel_1⟩ := hR.pe (j := 1) (by decide)
      replace hle_1 : cnt st 30 ≤ cap_1 := hle_1
      replace hel_1 : ∀ q, q < cnt st 30 → f1_1 q = some (g 3 q) := hel_1
      refine x_goR5 (x_runF (pc := 32) (As := [.int (nI i)]) (rest := [.long z]) E hml hl.1 hw.2 hw.1 hpl_17 (C := RJ2) (T := TJ2) (N := 3) rfl (xtJ2_get l D A V (g 0 17) (g 1 1) (cnt st 30) cap_1 (g 3 i) i mc_17 f1_1 hpl_17 hpe_1 (show i < cnt st 30 from (by omega)) hle_1 (by have := hcap_1; omega) (hel_1 _ (by omega))) E.2.2.2.2.1.2.1.2.2.2.2.2.2.1 q753 q340 q342 q51 q344 hdF_get ⟨Nat.le_of_ble_eq_true rfl, Nat.le_of_ble_eq_true rfl⟩ rfl rfl rfl (Nat.le_of_ble_eq_true rfl) dX7_claimed_32 ⟨Nat.le_of_ble_eq_true rfl, Nat.le_of_ble_eq_true rfl⟩) ?_
      obtain ⟨k_3a, k_3b, k_3c, k_3d, k_3h, k_3e⟩ := hR.ctl (j := i) (by omega)
      refine x_castS (pc := 37) E hw.1 k_3h (C := RX6) (T := TX6) (N := 7) rfl q754 dX7_claimed_37 ?_
      refine x_rdN (pc := 40) (v := .int (st 31 i)) E hw.1 0 k_3h (C := RX6) (T := TX6) (N := 7) rfl in_X6 (Nat.le_of_ble_eq_true rfl) q593 (fun _ h => h) rfl dX7_claimed_40 ?_
      refine lv_aload_n (pc := 43) hx hb dX7_claimed_43 rfl (lv_at hl 0 rfl) ?_
      refine x_rd (pc := 44) (v := .ref (g 0 0)) E hw.1 6 h1 (C := RX9) (T := TX9) (N := 9) rfl in_X9 (Nat.le_of_ble_eq_true rfl) q664 (fun _ h => h) rfl dX7_claimed_44 ?_
      refine x_rdN (pc := 47) (v := .ref (g 0 17)) E hw.1 17 hpx (C := RX0) (T := TX0) (N := 20) rfl in_X0 (Nat.le_of_ble_eq_true rfl) q131 (fun _ h => h) rfl dX7_claimed_47 ?_
      refine lv_iload_n (pc := 50) hx hb dX7_claimed_50 rfl (lv_at hl 1 rfl) ?_
      refine x_goR5 (x_runF (pc := 51) (As := [.int (nI c_)]) (rest := [.int (st 31 i), .long z]) E hml hl.1 hw.2 hw.1 hpl_17 (C := RJ2) (T := TJ2) (N := 3) rfl (xtJ2_get l D A V (g 0 17) (g 1 1) (cnt st 30) cap_1 (g 3 c_) c_ mc_17 f1_1 hpl_17 hpe_1 (show c_ < cnt st 30 from (by omega)) hle_1 (by have := hcap_1; omega) (hel_1 _ (by omega))) E.2.2.2.2.1.2.1.2.2.2.2.2.2.1 q753 q340 q342 q51 q344 hdF_get ⟨Nat.le_of_ble_eq_true rfl, Nat.le_of_ble_eq_true rfl⟩ rfl rfl rfl (Nat.le_of_ble_eq_true rfl) dX7_claimed_51 ⟨Nat.le_of_ble_eq_true rfl, Nat.le_of_ble_eq_true rfl⟩) ?_
      obtain ⟨k_4a, k_4b, k_4c, k_4d, k_4h, k_4e⟩ := hR.ctl (j := c_) (by omega)
      refine x_castS (pc := 56) E hw.1 k_4h (C := RX6) (T := TX6) (N := 7) rfl q754 dX7_claimed_56 ?_
      refine x_rdN (pc := 59) (v := .int (st 31 c_)) E hw.1 0 k_4h (C := RX6) (T := TX6) (N := 7) rfl in_X6 (Nat.le_of_ble_eq_true rfl) q593 (fun _ h => h) rfl dX7_claimed_59 ?_
      refine li_icmp_gt (pc := 62) (tgt := 82) hx hb dX7_claimed_62 (by decide) (fun c_5 => ?_) (fun c_5 => ?_)
      · refine lv_lconst (pc := 82) (v := 0) hx hb dX7_claimed_82 (by decide) ?_
        refine lv_ladd (pc := 83) hx hb dX7_claimed_83 ?_
        refine lv_lstore_n (pc := 84) (lv' := [(2, .long (z + 0)), (0, .ref (g 4 a)), (1, .int (nI c_)), (4, .int (nI i))]) hx hb dX7_claimed_84 rfl hl (by decide) rfl (fun ls hl => ?_)
        refine lv_iinc (pc := 85) (v := (nI (i + 1))) (lv' := [(4, .int (nI (i + 1))), (2, .long (z + 0)), (0, .ref (g 4 a)), (1, .int (nI c_))]) hx hb dX7_claimed_85 hl (k := 3) rfl (nI_1 _) (by decide) rfl (fun ls hl => ?_)
        refine lv_goto (pc := 88) (tgt := 5) hx hb dX7_claimed_88 (by decide) ?_
        exact x_toR (by simp only [crd, if_pos c_5, min600]) (ih_loop (i + 1) (z + 0) (by omega) _ (lv_sub hl [2, 3, 1, 0] rfl))
      · refine lv_aload_n (pc := 65) hx hb dX7_claimed_65 rfl (lv_at hl 0 rfl) ?_
        refine x_rd (pc := 66) (v := .ref (g 7 a)) E hw.1 4 h1 (C := RX9) (T := TX9) (N := 9) rfl in_X9 (Nat.le_of_ble_eq_true rfl) q661 (fun _ h => h) rfl dX7_claimed_66 ?_
        refine lv_iload (pc := 69) hx hb dX7_claimed_69 (lv_at hl 3 rfl) ?_
        obtain ⟨v_6f, v_6p, v_6h⟩ := hR.clm (j := a) (by omega)
        refine x_ildN (pc := 71) (v := (st 41 (8 * a + i))) E hw.1 (i) v_6p (show i < 8 from (by omega)) (Nat.le_of_ble_eq_true rfl) (v_6h _ (by omega)) dX7_claimed_71 ?_
        refine lv_sipush (pc := 72) (v := 600) hx hb dX7_claimed_72 (by decide) ?_
        refine x_mmin (pc := 75) (rest := [.long z]) hx hb hts hown hml hl.1 q763 (Nat.le_of_ble_eq_true rfl) (Nat.le_of_ble_eq_true rfl) (Nat.le_of_ble_eq_true rfl) (Nat.le_of_ble_eq_true rfl) dX7_claimed_75 ?_
        refine lv_i2l (pc := 78) (v := (if (600 : Int32).toInt < (st 41 (8 * a + i) : Int32).toInt then (600 : Int32) else st 41 (8 * a + i)).toInt64) hx hb dX7_claimed_78 rfl ?_
        refine lv_goto (pc := 79) (tgt := 83) hx hb dX7_claimed_79 (by decide) ?_
        refine lv_ladd (pc := 83) hx hb dX7_claimed_83 ?_
        refine lv_lstore_n (pc := 84) (lv' := [(2, .long (z + (if (600 : Int32).toInt < (st 41 (8 * a + i) : Int32).toInt then (600 : Int32) else st 41 (8 * a + i)).toInt64)), (0, .ref (g 4 a)), (1, .int (nI c_)), (4, .int (nI i))]) hx hb dX7_claimed_84 rfl hl (by decide) rfl (fun ls hl => ?_)
        refine lv_iinc (pc := 85) (v := (nI (i + 1))) (lv' := [(4, .int (nI (i + 1))), (2, .long (z + (if (600 : Int32).toInt < (st 41 (8 * a + i) : Int32).toInt then (600 : Int32) else st 41 (8 * a + i)).toInt64)), (0, .ref (g 4 a)), (1, .int (nI c_))]) hx hb dX7_claimed_85 hl (k := 3) rfl (nI_1 _) (by decide) rfl (fun ls hl => ?_)
        refine lv_goto (pc := 88) (tgt := 5) hx hb dX7_claimed_88 (by decide) ?_
        exact x_toR (by simp only [crd, if_neg c_5, min600]) (ih_loop (i + 1) (z + (if (600 : Int32).toInt < (st 41 (8 * a + i) : Int32).toInt then (600 : Int32) else st 41 (8 * a + i)).toInt64) (by omega) _ (lv_sub hl [2, 3, 1, 0] rfl))
  exact x_toR rfl (loop (cnt st 30) 0 0 (by omega) _ (lv_sub hl [2, 3, 1, 0] rfl))
theorem max0 (x : Int64) : (if x.toInt < (0 : Int64).toInt then (0 : Int64) else x) = if 0 < x.toInt then x else 0 := by
  have e : (0 : Int64).toInt = 0 := rfl
  rw [e]
  by_cases h : x.toInt < 0
  · rw [if_pos h, if_neg (by omega)]
  · rw [if_neg h]
    by_cases h2 : 0 < x.toInt
    · rw [if_pos h2]
    · rw [if_neg h2]
      exact Int64.toInt_inj.mp (by rw [e]; omega)
set_option maxHeartbeats 4000000 in
set_option maxRecDepth 100000 in
theorem xtX7_error_5 (l : Launch) (D : xD) (A : Nat → Prop) (V : xV) (st : mS) (g : xG) (a : Nat) (c_ : Nat) (hI : mI st) (hR : xR D st g V) (ha : a < cnt st 35) (hk : st 37 a = 0) (hc : c_ < cnt st 30) (hD : hasD st) : Met l yX7_error (ws_ yX7_error cX7_error 4 (some .long)) (xRm 5 0 0) (xP D A V [.ref (g 4 a), .int (nI c_)]) (k2_QcV (.long (err st a c_))) 0 0 (fun _ => False) := by
  refine x_headR (own := RX7) (As := [.ref (g 4 a), .int (nI c_)]) (bytes := cX7_error) (maxL := 4) (ret := (some .long)) (by decide) rfl (Nat.le_of_ble_eq_true rfl) ?_
  intro p e s m below meth c E hml hr hlk hw0 ls hl
  have hw : xWd D A s V s.heap [] := ⟨hw0, va_S.rf⟩
  have hx := E.1
  have hb := E.2.1
  have hts := E.2.2.1
  have hown := E.2.2.2.1
  have hl : lv_has ls 4 [(0, .ref (g 4 a)), (1, .int (nI c_))] := hl
  have h16 := hI.r16
  have h10 := hI.l10
  have hv8 := hI.v8
  have hc8 := hI.c8
  have hk8 := hI.k8
  have hb8 := hI.b8
  have h1 := hR.car5 ha hk
  have h9 := hR.o9 hI ha
  refine lv_aload_n (pc := 0) hx hb dX7_error_0 rfl (lv_at hl 0 rfl) ?_
  refine x_rd (pc := 1) (v := .ref (g 0 0)) E hw.1 6 h1 (C := RX7) (T := TX7) (N := 7) rfl in_X7 (Nat.le_of_ble_eq_true rfl) q664 (fun _ h => h) rfl dX7_error_1 ?_
  obtain ⟨b7, b8, b9, hpx⟩ := hR.px hI
  replace hpx : V (g 0 0) = some (.inr (0, [.int (st 0 0), .int (st 0 42), .ref (g 0 2), .ref (g 0 3), .int (nI (cnt st 12)), .ref (g 0 5), .ref (g 0 6), .int b7, .long b8, .int b9, .int (st 0 14), .ref (g 0 11), .int (nI (cnt st 24)), .int (st 0 25), .ref (g 0 14), .ref (g 0 15), .int (nI (cnt st 27)), .ref (g 0 17), .ref (g 0 18), .ref (g 0 19)])) := hpx
  refine x_rdN (pc := 4) (v := .ref (g 0 17)) E hw.1 17 hpx (C := RX0) (T := TX0) (N := 20) rfl in_X0 (Nat.le_of_ble_eq_true rfl) q131 (fun _ h => h) rfl dX7_error_4 ?_
  refine lv_iload_n (pc := 7) hx hb dX7_error_7 rfl (lv_at hl 1 rfl) ?_
  obtain ⟨mc_17, hpl_17⟩ := hR.p17
  obtain ⟨cap_1, f1_1, hpe_1, hcap_1, hle_1, hel_1⟩ := hR.pe (j := 1) (by decide)
  replace hle_1 : cnt st 30 ≤ cap_1 := hle_1
  replace hel_1 : ∀ q, q < cnt st 30 → f1_1 q = some (g 3 q) := hel_1
  refine x_goR5 (x_runF (pc := 8) (As := [.int (nI c_)]) (rest := []) E hml hl.1 hw.2 hw.1 hpl_17 (C := RJ2) (T := TJ2) (N := 3) rfl (xtJ2_get l D A V (g 0 17) (g 1 1) (cnt st 30) cap_1 (g 3 c_) c_ mc_17 f1_1 hpl_17 hpe_1 (show c_ < cnt st 30 from (by omega)) hle_1 (by have := hcap_1; omega) (hel_1 _ (by omega))) E.2.2.2.2.1.2.1.2.2.2.2.2.2.1 q753 q340 q342 q51 q344 hdF_get ⟨Nat.le_of_ble_eq_true rfl, Nat.le_of_ble_eq_true rfl⟩ rfl rfl rfl (Nat.le_of_ble_eq_true rfl) dX7_error_8 ⟨Nat.le_of_ble_eq_true rfl, Nat.le_of_ble_eq_true rfl⟩) ?_
  obtain ⟨k_1a, k_1b, k_1c, k_1d, k_1h, k_1e⟩ := hR.ctl (j := c_) (by omega)
  refine x_castS (pc := 13) E hw.1 k_1h (C := RX6) (T := TX6) (N := 7) rfl q754 dX7_error_13 ?_
  refine lv_aload_n (pc := 16) hx hb dX7_error_16 rfl (lv_at hl 0 rfl) ?_
  refine x_rd (pc := 17) (v := .ref (g 5 a)) E hw.1 2 h1 (C := RX7) (T := TX7) (N := 7) rfl in_X7 (Nat.le_of_ble_eq_true rfl) q659 (fun _ h => h) rfl dX7_error_17 ?_
  refine lv_iload_n (pc := 20) hx hb dX7_error_20 rfl (lv_at hl 1 rfl) ?_
  obtain ⟨v_2f, v_2p, v_2h⟩ := hR.tim (j := a) (by omega)
  refine x_ildN (pc := 21) (v := (st 40 (8 * a + c_))) E hw.1 (c_) v_2p (show c_ < 8 from (by omega)) (Nat.le_of_ble_eq_true rfl) (v_2h _ (by omega)) dX7_error_21 ?_
  refine x_goR (x_runV (pc := 22) (As := [.int (st 40 (8 * a + c_))]) (rest := []) E hml hl.1 hw.2 hw.1 k_1h (C := RX6) (T := TX6) (N := 7) rfl (xtX6_right l D A V (g 3 c_) (st 31 c_) (st 32 c_) (st 33 c_) k_1a k_1b k_1c k_1d (st 40 (8 * a + c_)) k_1h (rgt_ne hI (j := c_) (by omega) k_1e)) q755 q639 q640 q72 q641 hdX6_right ⟨Nat.le_of_ble_eq_true rfl, Nat.le_of_ble_eq_true rfl⟩ rfl rfl rfl (Nat.le_of_ble_eq_true rfl) dX7_error_22 ⟨Nat.le_of_ble_eq_true rfl, Nat.le_of_ble_eq_true rfl⟩) ?_
  refine li_top (v' := .long (rgt st c_ (st 40 (8 * a + c_)).toInt64)) (congrArg Value.long (rgt_eq hI (j := c_) (by omega) k_1e)) ?_
  refine lv_aload_n (pc := 25) hx hb dX7_error_25 rfl (lv_at hl 0 rfl) ?_
  refine x_rd (pc := 26) (v := .int (st 36 a)) E hw.1 1 h1 (C := RX7) (T := TX7) (N := 7) rfl in_X7 (Nat.le_of_ble_eq_true rfl) q658 (fun _ h => h) rfl dX7_error_26 ?_
  refine lv_i2l (pc := 29) (v := (st 36 a).toInt64) hx hb dX7_error_29 rfl ?_
  refine lv_lsub (pc := 30) hx hb dX7_error_30 ?_
  refine lv_aload_n (pc := 31) hx hb dX7_error_31 rfl (lv_at hl 0 rfl) ?_
  refine x_rd (pc := 32) (v := .ref (g 0 0)) E hw.1 6 h1 (C := RX7) (T := TX7) (N := 7) rfl in_X7 (Nat.le_of_ble_eq_true rfl) q664 (fun _ h => h) rfl dX7_error_32 ?_
  refine lv_aload_n (pc := 35) hx hb dX7_error_35 rfl (lv_at hl 0 rfl) ?_
  refine x_rd (pc := 36) (v := .ref (g 0 0)) E hw.1 6 h1 (C := RX7) (T := TX7) (N := 7) rfl in_X7 (Nat.le_of_ble_eq_true rfl) q664 (fun _ h => h) rfl dX7_error_36 ?_
  refine x_rdN (pc := 39) (v := .ref (g 0 17)) E hw.1 17 hpx (C := RX0) (T := TX0) (N := 20) rfl in_X0 (Nat.le_of_ble_eq_true rfl) q131 (fun _ h => h) rfl dX7_error_39 ?_
  refine lv_iload_n (pc := 42) hx hb dX7_error_42 rfl (lv_at hl 1 rfl) ?_
  refine x_goR5 (x_runF (pc := 43) (As := [.int (nI c_)]) (rest := [.ref (g 0 0), .long ((rgt st c_ (st 40 (8 * a + c_)).toInt64) - (st 36 a).toInt64)]) E hml hl.1 hw.2 hw.1 hpl_17 (C := RJ2) (T := TJ2) (N := 3) rfl (xtJ2_get l D A V (g 0 17) (g 1 1) (cnt st 30) cap_1 (g 3 c_) c_ mc_17 f1_1 hpl_17 hpe_1 (show c_ < cnt st 30 from (by omega)) hle_1 (by have := hcap_1; omega) (hel_1 _ (by omega))) E.2.2.2.2.1.2.1.2.2.2.2.2.2.1 q753 q340 q342 q51 q344 hdF_get ⟨Nat.le_of_ble_eq_true rfl, Nat.le_of_ble_eq_true rfl⟩ rfl rfl rfl (Nat.le_of_ble_eq_true rfl) dX7_error_43 ⟨Nat.le_of_ble_eq_true rfl, Nat.le_of_ble_eq_true rfl⟩) ?_
  refine x_castS (pc := 48) E hw.1 k_1h (C := RX6) (T := TX6) (N := 7) rfl q754 dX7_error_48 ?_
  refine x_rdN (pc := 51) (v := .int (st 31 c_)) E hw.1 0 k_1h (C := RX6) (T := TX6) (N := 7) rfl in_X6 (Nat.le_of_ble_eq_true rfl) q593 (fun _ h => h) rfl dX7_error_51 ?_
  refine x_goR (x_runVN (pc := 54) (As := [.int (st 31 c_)]) (rest := [.long ((rgt st c_ (st 40 (8 * a + c_)).toInt64) - (st 36 a).toInt64)]) E hml hl.1 hw.2 hw.1 hpx (C := RX0) (T := TX0) (N := 20) rfl (xtX0_dueAt l D A V st g (st 31 c_) hI hR (by have := (hI.2.2.1.2.2.2.2.2 c_ hc).1; omega) hD) q756 q569 qs12 q48 q570 hdX0_dueAt.2 ⟨Nat.le_of_ble_eq_true rfl, Nat.le_of_ble_eq_true rfl⟩ rfl rfl rfl (Nat.le_of_ble_eq_true rfl) dX7_error_54 ⟨Nat.le_of_ble_eq_true rfl, Nat.le_of_ble_eq_true rfl⟩) ?_
  refine lv_lsub (pc := 57) hx hb dX7_error_57 ?_
  refine lv_lstore_n (pc := 58) (lv' := [(2, .long (((rgt st c_ (st 40 (8 * a + c_)).toInt64) - (st 36 a).toInt64) - (dueA st (st 31 c_)))), (0, .ref (g 4 a)), (1, .int (nI c_))]) hx hb dX7_error_58 rfl hl (by decide) rfl (fun ls hl => ?_)
  refine lv_lload_n (pc := 59) hx hb dX7_error_59 rfl (lv_at hl 0 rfl) ?_
  refine lv_lconst (pc := 60) (v := 0) hx hb dX7_error_60 (by decide) ?_
  refine ll_leL (pc := 61) (Y := 0) (tgt := 79) hx hb rfl dX7_error_61 dX7_error_62 (by decide) (fun c_3 => ?_) (fun c_3 => ?_)
  · refine lv_lload_n (pc := 79) hx hb dX7_error_79 rfl (lv_at hl 0 rfl) ?_
    exact m_lretS hx hb hr hlk dX7_error_80 (by unfold err; rw [if_neg (show ¬ 0 < (er0 st a c_).toInt from c_3)]; rfl)
  · refine lv_lconst (pc := 65) (v := 0) hx hb dX7_error_65 (by decide) ?_
    refine lv_lload_n (pc := 66) hx hb dX7_error_66 rfl (lv_at hl 0 rfl) ?_
    refine lv_aload_n (pc := 67) hx hb dX7_error_67 rfl (lv_at hl 1 rfl) ?_
    refine lv_iload_n (pc := 68) hx hb dX7_error_68 rfl (lv_at hl 2 rfl) ?_
    refine x_goR (x_runP (pc := 69) (As := [.int (nI c_)]) (rest := [.long (((rgt st c_ (st 40 (8 * a + c_)).toInt64) - (st 36 a).toInt64) - (dueA st (st 31 c_))), .long 0]) E hml hl.1 hw.2 hw.1 h1 (C := RX7) (T := TX7) (N := 7) rfl (xtX7_claimed_5 l D A V st g a c_ hI hR ha hk hc) (x_selP (n := 7) (n' := 7) ⟨hdX7_claimed.2.1, hdX7_claimed.2.2.1⟩ (hts _ q651) (hts _ q651) (va_Nw.use rfl E.2.2.2.2.1.2.2.2.2.1) (hts _ q759)) q757 q1491 q759 q73 q760 hdX7_claimed.2 ⟨Nat.le_of_ble_eq_true rfl, Nat.le_of_ble_eq_true rfl⟩ rfl rfl rfl (Nat.le_of_ble_eq_true rfl) dX7_error_69 ⟨Nat.le_of_ble_eq_true rfl, Nat.le_of_ble_eq_true rfl⟩) ?_
    refine lv_lsub (pc := 72) hx hb dX7_error_72 ?_
    refine x_mmax_2 (pc := 73) (rest := []) hx hb hts hown hml hl.1 q768 (Nat.le_of_ble_eq_true rfl) (Nat.le_of_ble_eq_true rfl) (Nat.le_of_ble_eq_true rfl) (Nat.le_of_ble_eq_true rfl) dX7_error_73 ?_
    refine lv_goto (pc := 76) (tgt := 80) hx hb dX7_error_76 (by decide) ?_
    exact m_lretS hx hb hr hlk dX7_error_80 (by unfold err; rw [if_pos (show 0 < (er0 st a c_).toInt from c_3)]; exact max0 _)
set_option maxHeartbeats 4000000 in
set_option maxRecDepth 100000 in
theorem xtX7_error_6 (l : Launch) (D : xD) (A : Nat → Prop) (V : xV) (st : mS) (g : xG) (a : Nat) (c_ : Nat) (hI : mI st) (hR : xR D st g V) (ha : a < cnt st 35) (hk : st 37 a = 1) (hc : c_ < cnt st 30) (hD : hasD st) : Met l yX7_error (ws_ yX7_error cX7_error 4 (some .long)) (xRm 5 0 0) (xP D A V [.ref (g 4 a), .int (nI c_)]) (k2_QcV (.long (err st a c_))) 0 0 (fun _ => False) := by
  refine x_headR (own := RX7) (As := [.ref (g 4 a), .int (nI c_)]) (bytes := cX7_error) (maxL := 4) (ret := (some .long)) (by decide) rfl (Nat.le_of_ble_eq_true rfl) ?_
  intro p e s m below meth c E hml hr hlk hw0 ls hl
  have hw : xWd D A s V s.heap [] := ⟨hw0, va_S.rf⟩
  have hx := E.1
  have hb := E.2.1
  have hts := E.2.2.1
  have hown := E.2.2.2.1
  have hl : lv_has ls 4 [(0, .ref (g 4 a)), (1, .int (nI c_))] := hl
  have h16 := hI.r16
  have h10 := hI.l10
  have hv8 := hI.v8
  have hc8 := hI.c8
  have hk8 := hI.k8
  have hb8 := hI.b8
  have h1 := hR.car6 ha hk
  have h9 := hR.o9 hI ha
  refine lv_aload_n (pc := 0) hx hb dX7_error_0 rfl (lv_at hl 0 rfl) ?_
  refine x_rd (pc := 1) (v := .ref (g 0 0)) E hw.1 6 h1 (C := RX8) (T := TX8) (N := 8) rfl in_X8 (Nat.le_of_ble_eq_true rfl) q664 (fun _ h => h) rfl dX7_error_1 ?_
  obtain ⟨b7, b8, b9, hpx⟩ := hR.px hI
  replace hpx : V (g 0 0) = some (.inr (0, [.int (st 0 0), .int (st 0 42), .ref (g 0 2), .ref (g 0 3), .int (nI (cnt st 12)), .ref (g 0 5), .ref (g 0 6), .int b7, .long b8, .int b9, .int (st 0 14), .ref (g 0 11), .int (nI (cnt st 24)), .int (st 0 25), .ref (g 0 14), .ref (g 0 15), .int (nI (cnt st 27)), .ref (g 0 17), .ref (g 0 18), .ref (g 0 19)])) := hpx
  refine x_rdN (pc := 4) (v := .ref (g 0 17)) E hw.1 17 hpx (C := RX0) (T := TX0) (N := 20) rfl in_X0 (Nat.le_of_ble_eq_true rfl) q131 (fun _ h => h) rfl dX7_error_4 ?_
  refine lv_iload_n (pc := 7) hx hb dX7_error_7 rfl (lv_at hl 1 rfl) ?_
  obtain ⟨mc_17, hpl_17⟩ := hR.p17
  obtain ⟨cap_1, f1_1, hpe_1, hcap_1, hle_1, hel_1⟩ := hR.pe (j := 1) (by decide)
  replace hle_1 : cnt st 30 ≤ cap_1 := hle_1
  replace hel_1 : ∀ q, q < cnt st 30 → f1_1 q = some (g 3 q) := hel_1
  refine x_goR5 (x_runF (pc := 8) (As := [.int (nI c_)]) (rest := []) E hml hl.1 hw.2 hw.1 hpl_17 (C := RJ2) (T := TJ2) (N := 3) rfl (xtJ2_get l D A V (g 0 17) (g 1 1) (cnt st 30) cap_1 (g 3 c_) c_ mc_17 f1_1 hpl_17 hpe_1 (show c_ < cnt st 30 from (by omega)) hle_1 (by have := hcap_1; omega) (hel_1 _ (by omega))) E.2.2.2.2.1.2.1.2.2.2.2.2.2.1 q753 q340 q342 q51 q344 hdF_get ⟨Nat.le_of_ble_eq_true rfl, Nat.le_of_ble_eq_true rfl⟩ rfl rfl rfl (Nat.le_of_ble_eq_true rfl) dX7_error_8 ⟨Nat.le_of_ble_eq_true rfl, Nat.le_of_ble_eq_true rfl⟩) ?_
  obtain ⟨k_1a, k_1b, k_1c, k_1d, k_1h, k_1e⟩ := hR.ctl (j := c_) (by omega)
  refine x_castS (pc := 13) E hw.1 k_1h (C := RX6) (T := TX6) (N := 7) rfl q754 dX7_error_13 ?_
  refine lv_aload_n (pc := 16) hx hb dX7_error_16 rfl (lv_at hl 0 rfl) ?_
  refine x_rd (pc := 17) (v := .ref (g 5 a)) E hw.1 2 h1 (C := RX8) (T := TX8) (N := 8) rfl in_X8 (Nat.le_of_ble_eq_true rfl) q659 (fun _ h => h) rfl dX7_error_17 ?_
  refine lv_iload_n (pc := 20) hx hb dX7_error_20 rfl (lv_at hl 1 rfl) ?_
  obtain ⟨v_2f, v_2p, v_2h⟩ := hR.tim (j := a) (by omega)
  refine x_ildN (pc := 21) (v := (st 40 (8 * a + c_))) E hw.1 (c_) v_2p (show c_ < 8 from (by omega)) (Nat.le_of_ble_eq_true rfl) (v_2h _ (by omega)) dX7_error_21 ?_
  refine x_goR (x_runV (pc := 22) (As := [.int (st 40 (8 * a + c_))]) (rest := []) E hml hl.1 hw.2 hw.1 k_1h (C := RX6) (T := TX6) (N := 7) rfl (xtX6_right l D A V (g 3 c_) (st 31 c_) (st 32 c_) (st 33 c_) k_1a k_1b k_1c k_1d (st 40 (8 * a + c_)) k_1h (rgt_ne hI (j := c_) (by omega) k_1e)) q755 q639 q640 q72 q641 hdX6_right ⟨Nat.le_of_ble_eq_true rfl, Nat.le_of_ble_eq_true rfl⟩ rfl rfl rfl (Nat.le_of_ble_eq_true rfl) dX7_error_22 ⟨Nat.le_of_ble_eq_true rfl, Nat.le_of_ble_eq_true rfl⟩) ?_
  refine li_top (v' := .long (rgt st c_ (st 40 (8 * a + c_)).toInt64)) (congrArg Value.long (rgt_eq hI (j := c_) (by omega) k_1e)) ?_
  refine lv_aload_n (pc := 25) hx hb dX7_error_25 rfl (lv_at hl 0 rfl) ?_
  refine x_rd (pc := 26) (v := .int (st 36 a)) E hw.1 1 h1 (C := RX8) (T := TX8) (N := 8) rfl in_X8 (Nat.le_of_ble_eq_true rfl) q658 (fun _ h => h) rfl dX7_error_26 ?_
  refine lv_i2l (pc := 29) (v := (st 36 a).toInt64) hx hb dX7_error_29 rfl ?_
  refine lv_lsub (pc := 30) hx hb dX7_error_30 ?_
  refine lv_aload_n (pc := 31) hx hb dX7_error_31 rfl (lv_at hl 0 rfl) ?_
  refine x_rd (pc := 32) (v := .ref (g 0 0)) E hw.1 6 h1 (C := RX8) (T := TX8) (N := 8) rfl in_X8 (Nat.le_of_ble_eq_true rfl) q664 (fun _ h => h) rfl dX7_error_32 ?_
  refine lv_aload_n (pc := 35) hx hb dX7_error_35 rfl (lv_at hl 0 rfl) ?_
  refine x_rd (pc := 36) (v := .ref (g 0 0)) E hw.1 6 h1 (C := RX8) (T := TX8) (N := 8) rfl in_X8 (Nat.le_of_ble_eq_true rfl) q664 (fun _ h => h) rfl dX7_error_36 ?_
  refine x_rdN (pc := 39) (v := .ref (g 0 17)) E hw.1 17 hpx (C := RX0) (T := TX0) (N := 20) rfl in_X0 (Nat.le_of_ble_eq_true rfl) q131 (fun _ h => h) rfl dX7_error_39 ?_
  refine lv_iload_n (pc := 42) hx hb dX7_error_42 rfl (lv_at hl 1 rfl) ?_
  refine x_goR5 (x_runF (pc := 43) (As := [.int (nI c_)]) (rest := [.ref (g 0 0), .long ((rgt st c_ (st 40 (8 * a + c_)).toInt64) - (st 36 a).toInt64)]) E hml hl.1 hw.2 hw.1 hpl_17 (C := RJ2) (T := TJ2) (N := 3) rfl (xtJ2_get l D A V (g 0 17) (g 1 1) (cnt st 30) cap_1 (g 3 c_) c_ mc_17 f1_1 hpl_17 hpe_1 (show c_ < cnt st 30 from (by omega)) hle_1 (by have := hcap_1; omega) (hel_1 _ (by omega))) E.2.2.2.2.1.2.1.2.2.2.2.2.2.1 q753 q340 q342 q51 q344 hdF_get ⟨Nat.le_of_ble_eq_true rfl, Nat.le_of_ble_eq_true rfl⟩ rfl rfl rfl (Nat.le_of_ble_eq_true rfl) dX7_error_43 ⟨Nat.le_of_ble_eq_true rfl, Nat.le_of_ble_eq_true rfl⟩) ?_
  refine x_castS (pc := 48) E hw.1 k_1h (C := RX6) (T := TX6) (N := 7) rfl q754 dX7_error_48 ?_
  refine x_rdN (pc := 51) (v := .int (st 31 c_)) E hw.1 0 k_1h (C := RX6) (T := TX6) (N := 7) rfl in_X6 (Nat.le_of_ble_eq_true rfl) q593 (fun _ h => h) rfl dX7_error_51 ?_
  refine x_goR (x_runVN (pc := 54) (As := [.int (st 31 c_)]) (rest := [.long ((rgt st c_ (st 40 (8 * a + c_)).toInt64) - (st 36 a).toInt64)]) E hml hl.1 hw.2 hw.1 hpx (C := RX0) (T := TX0) (N := 20) rfl (xtX0_dueAt l D A V st g (st 31 c_) hI hR (by have := (hI.2.2.1.2.2.2.2.2 c_ hc).1; omega) hD) q756 q569 qs12 q48 q570 hdX0_dueAt.2 ⟨Nat.le_of_ble_eq_true rfl, Nat.le_of_ble_eq_true rfl⟩ rfl rfl rfl (Nat.le_of_ble_eq_true rfl) dX7_error_54 ⟨Nat.le_of_ble_eq_true rfl, Nat.le_of_ble_eq_true rfl⟩) ?_
  refine lv_lsub (pc := 57) hx hb dX7_error_57 ?_
  refine lv_lstore_n (pc := 58) (lv' := [(2, .long (((rgt st c_ (st 40 (8 * a + c_)).toInt64) - (st 36 a).toInt64) - (dueA st (st 31 c_)))), (0, .ref (g 4 a)), (1, .int (nI c_))]) hx hb dX7_error_58 rfl hl (by decide) rfl (fun ls hl => ?_)
  refine lv_lload_n (pc := 59) hx hb dX7_error_59 rfl (lv_at hl 0 rfl) ?_
  refine lv_lconst (pc := 60) (v := 0) hx hb dX7_error_60 (by decide) ?_
  refine ll_leL (pc := 61) (Y := 0) (tgt := 79) hx hb rfl dX7_error_61 dX7_error_62 (by decide) (fun c_3 => ?_) (fun c_3 => ?_)
  · refine lv_lload_n (pc := 79) hx hb dX7_error_79 rfl (lv_at hl 0 rfl) ?_
    exact m_lretS hx hb hr hlk dX7_error_80 (by unfold err; rw [if_neg (show ¬ 0 < (er0 st a c_).toInt from c_3)]; rfl)
  · refine lv_lconst (pc := 65) (v := 0) hx hb dX7_error_65 (by decide) ?_
    refine lv_lload_n (pc := 66) hx hb dX7_error_66 rfl (lv_at hl 0 rfl) ?_
    refine lv_aload_n (pc := 67) hx hb dX7_error_67 rfl (lv_at hl 1 rfl) ?_
    refine lv_iload_n (pc := 68) hx hb dX7_error_68 rfl (lv_at hl 2 rfl) ?_
    refine x_goR (x_runP (pc := 69) (As := [.int (nI c_)]) (rest := [.long (((rgt st c_ (st 40 (8 * a + c_)).toInt64) - (st 36 a).toInt64) - (dueA st (st 31 c_))), .long 0]) E hml hl.1 hw.2 hw.1 h1 (C := RX8) (T := TX8) (N := 8) rfl (xtX7_claimed_6 l D A V st g a c_ hI hR ha hk hc) (x_selP (n := 8) (n' := 7) ⟨hdX7_claimed.2.1, hdX7_claimed.2.2.1⟩ (hts _ q681) (hts _ q651) (va_Nw.use rfl E.2.2.2.2.1.2.2.2.2.1) (hts _ q759)) q757 q1491 q759 q73 q760 hdX7_claimed.2 ⟨Nat.le_of_ble_eq_true rfl, Nat.le_of_ble_eq_true rfl⟩ rfl rfl rfl (Nat.le_of_ble_eq_true rfl) dX7_error_69 ⟨Nat.le_of_ble_eq_true rfl, Nat.le_of_ble_eq_true rfl⟩) ?_
    refine lv_lsub (pc := 72) hx hb dX7_error_72 ?_
    refine x_mmax_2 (pc := 73) (rest := []) hx hb hts hown hml hl.1 q768 (Nat.le_of_ble_eq_true rfl) (Nat.le_of_ble_eq_true rfl) (Nat.le_of_ble_eq_true rfl) (Nat.le_of_ble_eq_true rfl) dX7_error_73 ?_
    refine lv_goto (pc := 76) (tgt := 80) hx hb dX7_error_76 (by decide) ?_
    exact m_lretS hx hb hr hlk dX7_error_80 (by unfold err; rw [if_pos (show 0 < (er0 st a c_).toInt from c_3)]; exact max0 _)
set_option maxHeartbeats 4000000 in
set_option maxRecDepth 100000 in
theorem xtX7_error_7 (l : Launch) (D : xD) (A : Nat → Prop) (V : xV) (st : mS) (g : xG) (a : Nat) (c_ : Nat) (hI : mI st) (hR : xR D st g V) (ha : a < cnt st 35) (hk : st 37 a = 2) (hc : c_ < cnt st 30) (hD : hasD st) : Met l yX7_error (ws_ yX7_error cX7_error 4 (some .long)) (xRm 5 0 0) (xP D A V [.ref (g 4 a), .int (nI c_)]) (k2_QcV (.long (err st a c_))) 0 0 (fun _ => False) := by
  refine x_headR (own := RX7) (As := [.ref (g 4 a), .int (nI c_)]) (bytes := cX7_error) (maxL := 4) (ret := (some .long)) (by decide) rfl (Nat.le_of_ble_eq_true rfl) ?_
  intro p e s m below meth c E hml hr hlk hw0 ls hl
  have hw : xWd D A s V s.heap [] := ⟨hw0, va_S.rf⟩
  have hx := E.1
  have hb := E.2.1
  have hts := E.2.2.1
  have hown := E.2.2.2.1
  have hl : lv_has ls 4 [(0, .ref (g 4 a)), (1, .int (nI c_))] := hl
  have h16 := hI.r16
  have h10 := hI.l10
  have hv8 := hI.v8
  have hc8 := hI.c8
  have hk8 := hI.k8
  have hb8 := hI.b8
  have h1 := hR.car7 ha hk
  have h9 := hR.o9 hI ha
  refine lv_aload_n (pc := 0) hx hb dX7_error_0 rfl (lv_at hl 0 rfl) ?_
  refine x_rd (pc := 1) (v := .ref (g 0 0)) E hw.1 6 h1 (C := RX9) (T := TX9) (N := 9) rfl in_X9 (Nat.le_of_ble_eq_true rfl) q664 (fun _ h => h) rfl dX7_error_1 ?_
  obtain ⟨b7, b8, b9, hpx⟩ := hR.px hI
  replace hpx : V (g 0 0) = some (.inr (0, [.int (st 0 0), .int (st 0 42), .ref (g 0 2), .ref (g 0 3), .int (nI (cnt st 12)), .ref (g 0 5), .ref (g 0 6), .int b7, .long b8, .int b9, .int (st 0 14), .ref (g 0 11), .int (nI (cnt st 24)), .int (st 0 25), .ref (g 0 14), .ref (g 0 15), .int (nI (cnt st 27)), .ref (g 0 17), .ref (g 0 18), .ref (g 0 19)])) := hpx
  refine x_rdN (pc := 4) (v := .ref (g 0 17)) E hw.1 17 hpx (C := RX0) (T := TX0) (N := 20) rfl in_X0 (Nat.le_of_ble_eq_true rfl) q131 (fun _ h => h) rfl dX7_error_4 ?_
  refine lv_iload_n (pc := 7) hx hb dX7_error_7 rfl (lv_at hl 1 rfl) ?_
  obtain ⟨mc_17, hpl_17⟩ := hR.p17
  obtain ⟨cap_1, f1_1, hpe_1, hcap_1, hle_1, hel_1⟩ := hR.pe (j := 1) (by decide)
  replace hle_1 : cnt st 30 ≤ cap_1 := hle_1
  replace hel_1 : ∀ q, q < cnt st 30 → f1_1 q = some (g 3 q) := hel_1
  refine x_goR5 (x_runF (pc := 8) (As := [.int (nI c_)]) (rest := []) E hml hl.1 hw.2 hw.1 hpl_17 (C := RJ2) (T := TJ2) (N := 3) rfl (xtJ2_get l D A V (g 0 17) (g 1 1) (cnt st 30) cap_1 (g 3 c_) c_ mc_17 f1_1 hpl_17 hpe_1 (show c_ < cnt st 30 from (by omega)) hle_1 (by have := hcap_1; omega) (hel_1 _ (by omega))) E.2.2.2.2.1.2.1.2.2.2.2.2.2.1 q753 q340 q342 q51 q344 hdF_get ⟨Nat.le_of_ble_eq_true rfl, Nat.le_of_ble_eq_true rfl⟩ rfl rfl rfl (Nat.le_of_ble_eq_true rfl) dX7_error_8 ⟨Nat.le_of_ble_eq_true rfl, Nat.le_of_ble_eq_true rfl⟩) ?_
  obtain ⟨k_1a, k_1b, k_1c, k_1d, k_1h, k_1e⟩ := hR.ctl (j := c_) (by omega)
  refine x_castS (pc := 13) E hw.1 k_1h (C := RX6) (T := TX6) (N := 7) rfl q754 dX7_error_13 ?_
  refine lv_aload_n (pc := 16) hx hb dX7_error_16 rfl (lv_at hl 0 rfl) ?_
  refine x_rd (pc := 17) (v := .ref (g 5 a)) E hw.1 2 h1 (C := RX9) (T := TX9) (N := 9) rfl in_X9 (Nat.le_of_ble_eq_true rfl) q659 (fun _ h => h) rfl dX7_error_17 ?_
  refine lv_iload_n (pc := 20) hx hb dX7_error_20 rfl (lv_at hl 1 rfl) ?_
  obtain ⟨v_2f, v_2p, v_2h⟩ := hR.tim (j := a) (by omega)
  refine x_ildN (pc := 21) (v := (st 40 (8 * a + c_))) E hw.1 (c_) v_2p (show c_ < 8 from (by omega)) (Nat.le_of_ble_eq_true rfl) (v_2h _ (by omega)) dX7_error_21 ?_
  refine x_goR (x_runV (pc := 22) (As := [.int (st 40 (8 * a + c_))]) (rest := []) E hml hl.1 hw.2 hw.1 k_1h (C := RX6) (T := TX6) (N := 7) rfl (xtX6_right l D A V (g 3 c_) (st 31 c_) (st 32 c_) (st 33 c_) k_1a k_1b k_1c k_1d (st 40 (8 * a + c_)) k_1h (rgt_ne hI (j := c_) (by omega) k_1e)) q755 q639 q640 q72 q641 hdX6_right ⟨Nat.le_of_ble_eq_true rfl, Nat.le_of_ble_eq_true rfl⟩ rfl rfl rfl (Nat.le_of_ble_eq_true rfl) dX7_error_22 ⟨Nat.le_of_ble_eq_true rfl, Nat.le_of_ble_eq_true rfl⟩) ?_
  refine li_top (v' := .long (rgt st c_ (st 40 (8 * a + c_)).toInt64)) (congrArg Value.long (rgt_eq hI (j := c_) (by omega) k_1e)) ?_
  refine lv_aload_n (pc := 25) hx hb dX7_error_25 rfl (lv_at hl 0 rfl) ?_
  refine x_rd (pc := 26) (v := .int (st 36 a)) E hw.1 1 h1 (C := RX9) (T := TX9) (N := 9) rfl in_X9 (Nat.le_of_ble_eq_true rfl) q658 (fun _ h => h) rfl dX7_error_26 ?_
  refine lv_i2l (pc := 29) (v := (st 36 a).toInt64) hx hb dX7_error_29 rfl ?_
  refine lv_lsub (pc := 30) hx hb dX7_error_30 ?_
  refine lv_aload_n (pc := 31) hx hb dX7_error_31 rfl (lv_at hl 0 rfl) ?_
  refine x_rd (pc := 32) (v := .ref (g 0 0)) E hw.1 6 h1 (C := RX9) (T := TX9) (N := 9) rfl in_X9 (Nat.le_of_ble_eq_true rfl) q664 (fun _ h => h) rfl dX7_error_32 ?_
  refine lv_aload_n (pc := 35) hx hb dX7_error_35 rfl (lv_at hl 0 rfl) ?_
  refine x_rd (pc := 36) (v := .ref (g 0 0)) E hw.1 6 h1 (C := RX9) (T := TX9) (N := 9) rfl in_X9 (Nat.le_of_ble_eq_true rfl) q664 (fun _ h => h) rfl dX7_error_36 ?_
  refine x_rdN (pc := 39) (v := .ref (g 0 17)) E hw.1 17 hpx (C := RX0) (T := TX0) (N := 20) rfl in_X0 (Nat.le_of_ble_eq_true rfl) q131 (fun _ h => h) rfl dX7_error_39 ?_
  refine lv_iload_n (pc := 42) hx hb dX7_error_42 rfl (lv_at hl 1 rfl) ?_
  refine x_goR5 (x_runF (pc := 43) (As := [.int (nI c_)]) (rest := [.ref (g 0 0), .long ((rgt st c_ (st 40 (8 * a + c_)).toInt64) - (st 36 a).toInt64)]) E hml hl.1 hw.2 hw.1 hpl_17 (C := RJ2) (T := TJ2) (N := 3) rfl (xtJ2_get l D A V (g 0 17) (g 1 1) (cnt st 30) cap_1 (g 3 c_) c_ mc_17 f1_1 hpl_17 hpe_1 (show c_ < cnt st 30 from (by omega)) hle_1 (by have := hcap_1; omega) (hel_1 _ (by omega))) E.2.2.2.2.1.2.1.2.2.2.2.2.2.1 q753 q340 q342 q51 q344 hdF_get ⟨Nat.le_of_ble_eq_true rfl, Nat.le_of_ble_eq_true rfl⟩ rfl rfl rfl (Nat.le_of_ble_eq_true rfl) dX7_error_43 ⟨Nat.le_of_ble_eq_true rfl, Nat.le_of_ble_eq_true rfl⟩) ?_
  refine x_castS (pc := 48) E hw.1 k_1h (C := RX6) (T := TX6) (N := 7) rfl q754 dX7_error_48 ?_
  refine x_rdN (pc := 51) (v := .int (st 31 c_)) E hw.1 0 k_1h (C := RX6) (T := TX6) (N := 7) rfl in_X6 (Nat.le_of_ble_eq_true rfl) q593 (fun _ h => h) rfl dX7_error_51 ?_
  refine x_goR (x_runVN (pc := 54) (As := [.int (st 31 c_)]) (rest := [.long ((rgt st c_ (st 40 (8 * a + c_)).toInt64) - (st 36 a).toInt64)]) E hml hl.1 hw.2 hw.1 hpx (C := RX0) (T := TX0) (N := 20) rfl (xtX0_dueAt l D A V st g (st 31 c_) hI hR (by have := (hI.2.2.1.2.2.2.2.2 c_ hc).1; omega) hD) q756 q569 qs12 q48 q570 hdX0_dueAt.2 ⟨Nat.le_of_ble_eq_true rfl, Nat.le_of_ble_eq_true rfl⟩ rfl rfl rfl (Nat.le_of_ble_eq_true rfl) dX7_error_54 ⟨Nat.le_of_ble_eq_true rfl, Nat.le_of_ble_eq_true rfl⟩) ?_
  refine lv_lsub (pc := 57) hx hb dX7_error_57 ?_
  refine lv_lstore_n (pc := 58) (lv' := [(2, .long (((rgt st c_ (st 40 (8 * a + c_)).toInt64) - (st 36 a).toInt64) - (dueA st (st 31 c_)))), (0, .ref (g 4 a)), (1, .int (nI c_))]) hx hb dX7_error_58 rfl hl (by decide) rfl (fun ls hl => ?_)
  refine lv_lload_n (pc := 59) hx hb dX7_error_59 rfl (lv_at hl 0 rfl) ?_
  refine lv_lconst (pc := 60) (v := 0) hx hb dX7_error_60 (by decide) ?_
  refine ll_leL (pc := 61) (Y := 0) (tgt := 79) hx hb rfl dX7_error_61 dX7_error_62 (by decide) (fun c_3 => ?_) (fun c_3 => ?_)
  · refine lv_lload_n (pc := 79) hx hb dX7_error_79 rfl (lv_at hl 0 rfl) ?_
    exact m_lretS hx hb hr hlk dX7_error_80 (by unfold err; rw [if_neg (show ¬ 0 < (er0 st a c_).toInt from c_3)]; rfl)
  · refine lv_lconst (pc := 65) (v := 0) hx hb dX7_error_65 (by decide) ?_
    refine lv_lload_n (pc := 66) hx hb dX7_error_66 rfl (lv_at hl 0 rfl) ?_
    refine lv_aload_n (pc := 67) hx hb dX7_error_67 rfl (lv_at hl 1 rfl) ?_
    refine lv_iload_n (pc := 68) hx hb dX7_error_68 rfl (lv_at hl 2 rfl) ?_
    refine x_goR (x_runP (pc := 69) (As := [.int (nI c_)]) (rest := [.long (((rgt st c_ (st 40 (8 * a + c_)).toInt64) - (st 36 a).toInt64) - (dueA st (st 31 c_))), .long 0]) E hml hl.1 hw.2 hw.1 h1 (C := RX9) (T := TX9) (N := 9) rfl (xtX7_claimed_7 l D A V st g a c_ hI hR ha hk hc) (x_selP (n := 9) (n' := 7) ⟨hdX7_claimed.2.1, hdX7_claimed.2.2.1⟩ (hts _ q698) (hts _ q651) (va_Nw.use rfl E.2.2.2.2.1.2.2.2.2.1) (hts _ q759)) q757 q1491 q759 q73 q760 hdX7_claimed.2 ⟨Nat.le_of_ble_eq_true rfl, Nat.le_of_ble_eq_true rfl⟩ rfl rfl rfl (Nat.le_of_ble_eq_true rfl) dX7_error_69 ⟨Nat.le_of_ble_eq_true rfl, Nat.le_of_ble_eq_true rfl⟩) ?_
    refine lv_lsub (pc := 72) hx hb dX7_error_72 ?_
    refine x_mmax_2 (pc := 73) (rest := []) hx hb hts hown hml hl.1 q768 (Nat.le_of_ble_eq_true rfl) (Nat.le_of_ble_eq_true rfl) (Nat.le_of_ble_eq_true rfl) (Nat.le_of_ble_eq_true rfl) dX7_error_73 ?_
    refine lv_goto (pc := 76) (tgt := 80) hx hb dX7_error_76 (by decide) ?_
    exact m_lretS hx hb hr hlk dX7_error_80 (by unfold err; rw [if_pos (show 0 < (er0 st a c_).toInt from c_3)]; exact max0 _)
def xoo (st : mS) (a c : Nat) : Nat → Nat → Int32 → Int32
  | 0, _, y => y
  | n + 1, i, y => xoo st a c n (i + 1) (y ||| (if st 32 i = 0 then if (st 31 c).toInt < (st 31 i).toInt then if st 39 (8 * a + i) = 0 then 0 else if (st 39 (8 * a + i)).toInt < (st 39 (8 * a + c)).toInt then 1 else 0 else 0 else 0))
theorem xoo_eq {st : mS} {a c : Nat} : ∀ (n i : Nat) (y : Int32), (∀ k, i ≤ k → k < i + n → 0 ≤ (st 39 (8 * a + k)).toInt) → (y = 0 ∨ y = 1) → xoo st a c n i y = ooo st a c n i y ∧ (xoo st a c n i y = 0 ∨ xoo st a c n i y = 1) := by
  intro n
  induction n with
  | zero => intro i y _ h; exact ⟨rfl, h⟩
  | succ n ih =>
    intro i y hp h
    simp only [xoo, ooo]
    have h39 := hp i (Nat.le_refl _) (by omega)
    have e : (y ||| (if st 32 i = 0 then if (st 31 c).toInt < (st 31 i).toInt then if st 39 (8 * a + i) = 0 then 0 else if (st 39 (8 * a + i)).toInt < (st 39 (8 * a + c)).toInt then 1 else 0 else 0 else 0)) = (if y = 0 then if (st 31 c).toInt < (st 31 i).toInt then if st 32 i = 0 then if 0 < (st 39 (8 * a + i)).toInt then if (st 39 (8 * a + i)).toInt < (st 39 (8 * a + c)).toInt then 1 else 0 else 0 else 0 else 0 else 1) := by
      have hpos : 0 < (st 39 (8 * a + i)).toInt ↔ ¬ st 39 (8 * a + i) = 0 := by
        constructor
        · intro q e0; rw [e0] at q; exact absurd q (by decide)
        · intro q
          rcases Int.lt_or_eq_of_le h39 with r | r
          · exact r
          · exact absurd (Int32.toInt_inj.mp (by rw [← r]; rfl)) q
      by_cases h1 : st 32 i = 0
      · by_cases h2 : (st 31 c).toInt < (st 31 i).toInt
        · by_cases h3 : st 39 (8 * a + i) = 0
          · simp only [if_pos h1, if_pos h2, if_pos h3, if_neg (fun q => hpos.mp q h3)]; rcases h with rfl | rfl <;> decide
          · by_cases h4 : (st 39 (8 * a + i)).toInt < (st 39 (8 * a + c)).toInt
            · simp only [if_pos h1, if_pos h2, if_neg h3, if_pos (hpos.mpr h3), if_pos h4]; rcases h with rfl | rfl <;> decide
            · simp only [if_pos h1, if_pos h2, if_neg h3, if_pos (hpos.mpr h3), if_neg h4]; rcases h with rfl | rfl <;> decide
        · simp only [if_pos h1, if_neg h2]; rcases h with rfl | rfl <;> decide
      · by_cases h2 : (st 31 c).toInt < (st 31 i).toInt
        · simp only [if_neg h1, if_pos h2]; rcases h with rfl | rfl <;> decide
        · simp only [if_neg h1, if_neg h2]; rcases h with rfl | rfl <;> decide
    rw [e]
    refine ih (i + 1) _ (fun k h1 h2 => hp k (by omega) (by omega)) ?_
    rcases h with rfl | rfl
    · simp only [if_true]
      split
      · split
        · split
          · split <;> simp
          · exact Or.inl rfl
        · exact Or.inl rfl
      · exact Or.inl rfl
    · exact Or.inr (if_neg (by decide))
theorem xoo_all {st : mS} (hI : mI st) {a c : Nat} (ha : a < cnt st 35) : xoo st a c (cnt st 30) 0 0 = oor st a c ∧ (oor st a c = 0 ∨ oor st a c = 1) := by
  have h8 := hI.k8
  have c8 := hI.c8
  have h := xoo_eq (st := st) (a := a) (c := c) (cnt st 30) 0 0 (fun k _ hk => (hI.2.2.2.1.2 (8 * a + k) (by omega)).1.1) (Or.inl rfl)
  refine ⟨h.1, ?_⟩
  rcases h.2 with q | q
  · left; unfold oor; rw [← h.1]; exact q
  · right; unfold oor; rw [← h.1]; exact q
set_option maxHeartbeats 4000000 in
set_option maxRecDepth 100000 in
theorem xtX7_isOutOfOrder_5 (l : Launch) (D : xD) (A : Nat → Prop) (V : xV) (st : mS) (g : xG) (a : Nat) (c_ : Nat) (hI : mI st) (hR : xR D st g V) (ha : a < cnt st 35) (hk : st 37 a = 0) (hc : c_ < cnt st 30) : Met l yX7_isOutOfOrder (ws_ yX7_isOutOfOrder cX7_isOutOfOrder 4 (some .boolean)) (xRm 4 0 0) (xP D A V [.ref (g 4 a), .int (nI c_)]) (k2_QcV (.int (oor st a c_))) 0 0 (fun _ => False) := by
  refine x_headR (own := RX7) (As := [.ref (g 4 a), .int (nI c_)]) (bytes := cX7_isOutOfOrder) (maxL := 4) (ret := (some .boolean)) (by decide) rfl (Nat.le_of_ble_eq_true rfl) ?_
  intro p e s m below meth c E hml hr hlk hw0 ls hl
  have hw : xWd D A s V s.heap [] := ⟨hw0, va_S.rf⟩
  have hx := E.1
  have hb := E.2.1
  have hts := E.2.2.1
  have hown := E.2.2.2.1
  have hl : lv_has ls 4 [(0, .ref (g 4 a)), (1, .int (nI c_))] := hl
  have h16 := hI.r16
  have h10 := hI.l10
  have hv8 := hI.v8
  have hc8 := hI.c8
  have hk8 := hI.k8
  have hb8 := hI.b8
  have h1 := hR.car5 ha hk
  have h9 := hR.o9 hI ha
  refine lv_iconst (pc := 0) (v := 0) hx hb dX7_isOutOfOrder_0 (by decide) ?_
  refine lv_istore_n (pc := 1) (lv' := [(2, .int 0), (0, .ref (g 4 a)), (1, .int (nI c_))]) hx hb dX7_isOutOfOrder_1 rfl hl (by decide) rfl (fun ls hl => ?_)
  refine lv_iconst (pc := 2) (v := 0) hx hb dX7_isOutOfOrder_2 (by decide) ?_
  refine lv_istore_n (pc := 3) (lv' := [(3, .int 0), (2, .int 0), (0, .ref (g 4 a)), (1, .int (nI c_))]) hx hb dX7_isOutOfOrder_3 rfl hl (by decide) rfl (fun ls hl => ?_)
  have loop : ∀ (k : Nat) (i : Nat) (y : Int32), i + k = cnt st 30 → xoo st a c_ k i y = 0 ∨ xoo st a c_ k i y = 1 → ∀ ls : Array Slot, lv_has ls 4 [(0, .ref (g 4 a)), (1, .int (nI c_)), (2, .int y), (3, .int (nI i))] → W p l e (xRm 4 0 0) s m ([.ref (g 4 a), .int (nI c_)] : List Value).toArray below meth c s.heap [] 0 0 (MQ below (k2_QcV (.int (xoo st a c_ k i y))) ([.ref (g 4 a), .int (nI c_)] : List Value).toArray s 0 0 (fun _ => False)) (F0 m 4 ls []) := by
    intro k
    induction k with
    | zero =>
      intro i y hi hyy ls hl
      refine lv_iload_n (pc := 4) hx hb dX7_isOutOfOrder_4 rfl (lv_at hl 3 rfl) ?_
      refine lv_aload_n (pc := 5) hx hb dX7_isOutOfOrder_5 rfl (lv_at hl 0 rfl) ?_
      refine x_rd (pc := 6) (v := .ref (g 0 0)) E hw.1 6 h1 (C := RX7) (T := TX7) (N := 7) rfl in_X7 (Nat.le_of_ble_eq_true rfl) q664 (fun _ h => h) rfl dX7_isOutOfOrder_6 ?_
      obtain ⟨b7, b8, b9, hpx⟩ := hR.px hI
      replace hpx : V (g 0 0) = some (.inr (0, [.int (st 0 0), .int (st 0 42), .ref (g 0 2), .ref (g 0 3), .int (nI (cnt st 12)), .ref (g 0 5), .ref (g 0 6), .int b7, .long b8, .int b9, .int (st 0 14), .ref (g 0 11), .int (nI (cnt st 24)), .int (st 0 25), .ref (g 0 14), .ref (g 0 15), .int (nI (cnt st 27)), .ref (g 0 17), .ref (g 0 18), .ref (g 0 19)])) := hpx
      refine x_rdN (pc := 9) (v := .ref (g 0 17)) E hw.1 17 hpx (C := RX0) (T := TX0) (N := 20) rfl in_X0 (Nat.le_of_ble_eq_true rfl) q131 (fun _ h => h) rfl dX7_isOutOfOrder_9 ?_
      obtain ⟨mc_17, hpl_17⟩ := hR.p17
      refine x_goR5 (x_runF (pc := 12) (As := []) (rest := [.int (nI i)]) E hml hl.1 hw.2 hw.1 hpl_17 (C := RJ2) (T := TJ2) (N := 3) rfl (xtJ2_size l D A V (g 0 17) (g 1 1) (cnt st 30) mc_17 hpl_17) E.2.2.2.2.1.2.1.2.2.2.2.2.1 q762 q194 q196 q51 q198 hdF_size ⟨Nat.le_of_ble_eq_true rfl, Nat.le_of_ble_eq_true rfl⟩ rfl rfl rfl (Nat.le_of_ble_eq_true rfl) dX7_isOutOfOrder_12 ⟨Nat.le_of_ble_eq_true rfl, Nat.le_of_ble_eq_true rfl⟩) ?_
      refine li_icmp_geN (pc := 17) (a := i) (b := cnt st 30) (tgt := 120) hx hb (by omega) (by omega) dX7_isOutOfOrder_17 (by decide) (fun c_1 => ?_) (fun c_1 => absurd c_1 (by omega))
      refine lv_iload_n (pc := 120) hx hb dX7_isOutOfOrder_120 rfl (lv_at hl 2 rfl) ?_
      exact m_zretS hx hb hr hlk dX7_isOutOfOrder_121 (by rcases hyy with q | q; (rw [show y = 0 from q]; rfl); (rw [show y = 1 from q]; rfl)) rfl
    | succ k ih_loop =>
      intro i y hi hyy ls hl
      have hob1 := hR.ob hI ha (c := i) (by omega)
      have hob2 := hR.ob hI ha (c := c_) (by omega)
      refine lv_iload_n (pc := 4) hx hb dX7_isOutOfOrder_4 rfl (lv_at hl 3 rfl) ?_
      refine lv_aload_n (pc := 5) hx hb dX7_isOutOfOrder_5 rfl (lv_at hl 0 rfl) ?_
      refine x_rd (pc := 6) (v := .ref (g 0 0)) E hw.1 6 h1 (C := RX7) (T := TX7) (N := 7) rfl in_X7 (Nat.le_of_ble_eq_true rfl) q664 (fun _ h => h) rfl dX7_isOutOfOrder_6 ?_
      obtain ⟨b7, b8, b9, hpx⟩ := hR.px hI
      replace hpx : V (g 0 0) = some (.inr (0, [.int (st 0 0), .int (st 0 42), .ref (g 0 2), .ref (g 0 3), .int (nI (cnt st 12)), .ref (g 0 5), .ref (g 0 6), .int b7, .long b8, .int b9, .int (st 0 14), .ref (g 0 11), .int (nI (cnt st 24)), .int (st 0 25), .ref (g 0 14), .ref (g 0 15), .int (nI (cnt st 27)), .ref (g 0 17), .ref (g 0 18), .ref (g 0 19)])) := hpx
      refine x_rdN (pc := 9) (v := .ref (g 0 17)) E hw.1 17 hpx (C := RX0) (T := TX0) (N := 20) rfl in_X0 (Nat.le_of_ble_eq_true rfl) q131 (fun _ h => h) rfl dX7_isOutOfOrder_9 ?_
      obtain ⟨mc_17, hpl_17⟩ := hR.p17
      refine x_goR5 (x_runF (pc := 12) (As := []) (rest := [.int (nI i)]) E hml hl.1 hw.2 hw.1 hpl_17 (C := RJ2) (T := TJ2) (N := 3) rfl (xtJ2_size l D A V (g 0 17) (g 1 1) (cnt st 30) mc_17 hpl_17) E.2.2.2.2.1.2.1.2.2.2.2.2.1 q762 q194 q196 q51 q198 hdF_size ⟨Nat.le_of_ble_eq_true rfl, Nat.le_of_ble_eq_true rfl⟩ rfl rfl rfl (Nat.le_of_ble_eq_true rfl) dX7_isOutOfOrder_12 ⟨Nat.le_of_ble_eq_true rfl, Nat.le_of_ble_eq_true rfl⟩) ?_
      refine li_icmp_geN (pc := 17) (a := i) (b := cnt st 30) (tgt := 120) hx hb (by omega) (by omega) dX7_isOutOfOrder_17 (by decide) (fun c_2 => absurd c_2 (by omega)) (fun c_2 => ?_)
      refine lv_iload_n (pc := 20) hx hb dX7_isOutOfOrder_20 rfl (lv_at hl 2 rfl) ?_
      refine lv_aload_n (pc := 21) hx hb dX7_isOutOfOrder_21 rfl (lv_at hl 0 rfl) ?_
      refine x_rd (pc := 22) (v := .ref (g 0 0)) E hw.1 6 h1 (C := RX7) (T := TX7) (N := 7) rfl in_X7 (Nat.le_of_ble_eq_true rfl) q664 (fun _ h => h) rfl dX7_isOutOfOrder_22 ?_
      refine x_rdN (pc := 25) (v := .ref (g 0 17)) E hw.1 17 hpx (C := RX0) (T := TX0) (N := 20) rfl in_X0 (Nat.le_of_ble_eq_true rfl) q131 (fun _ h => h) rfl dX7_isOutOfOrder_25 ?_
      refine lv_iload_n (pc := 28) hx hb dX7_isOutOfOrder_28 rfl (lv_at hl 3 rfl) ?_
      obtain ⟨cap_1, f1_1, hpe_1, hcap_1, hle_1, hel_1⟩ := hR.pe (j := 1) (by decide)
      replace hle_1 : cnt st 30 ≤ cap_1 := hle_1
      replace hel_1 : ∀ q, q < cnt st 30 → f1_1 q = some (g 3 q) := hel_1
      refine x_goR5 (x_runF (pc := 29) (As := [.int (nI i)]) (rest := [.int y]) E hml hl.1 hw.2 hw.1 hpl_17 (C := RJ2) (T := TJ2) (N := 3) rfl (xtJ2_get l D A V (g 0 17) (g 1 1) (cnt st 30) cap_1 (g 3 i) i mc_17 f1_1 hpl_17 hpe_1 (show i < cnt st 30 from (by omega)) hle_1 (by have := hcap_1; omega) (hel_1 _ (by omega))) E.2.2.2.2.1.2.1.2.2.2.2.2.2.1 q753 q340 q342 q51 q344 hdF_get ⟨Nat.le_of_ble_eq_true rfl, Nat.le_of_ble_eq_true rfl⟩ rfl rfl rfl (Nat.le_of_ble_eq_true rfl) dX7_isOutOfOrder_29 ⟨Nat.le_of_ble_eq_true rfl, Nat.le_of_ble_eq_true rfl⟩) ?_
      obtain ⟨k_3a, k_3b, k_3c, k_3d, k_3h, k_3e⟩ := hR.ctl (j := i) (by omega)
      refine x_castS (pc := 34) E hw.1 k_3h (C := RX6) (T := TX6) (N := 7) rfl q754 dX7_isOutOfOrder_34 ?_
      refine x_rdN (pc := 37) (v := .int (st 32 i)) E hw.1 1 k_3h (C := RX6) (T := TX6) (N := 7) rfl in_X6 (Nat.le_of_ble_eq_true rfl) q595 (fun _ h => h) rfl dX7_isOutOfOrder_37 ?_
      refine li_ne (pc := 40) (tgt := 111) hx hb dX7_isOutOfOrder_40 (by decide) (fun c_4 => ?_) (fun c_4 => ?_)
      · refine lv_iconst (pc := 111) (v := 0) hx hb dX7_isOutOfOrder_111 (by decide) ?_
        refine lv_ior (pc := 112) hx hb dX7_isOutOfOrder_112 ?_
        refine lv_istore_n (pc := 113) (lv' := [(2, .int (y ||| 0)), (0, .ref (g 4 a)), (1, .int (nI c_)), (3, .int (nI i))]) hx hb dX7_isOutOfOrder_113 rfl hl (by decide) rfl (fun ls hl => ?_)
        refine lv_iinc (pc := 114) (v := (nI (i + 1))) (lv' := [(3, .int (nI (i + 1))), (2, .int (y ||| 0)), (0, .ref (g 4 a)), (1, .int (nI c_))]) hx hb dX7_isOutOfOrder_114 hl (k := 3) rfl (nI_1 _) (by decide) rfl (fun ls hl => ?_)
        refine lv_goto (pc := 117) (tgt := 4) hx hb dX7_isOutOfOrder_117 (by decide) ?_
        exact x_toR (by simp only [xoo, if_neg c_4]) (ih_loop (i + 1) (y ||| 0) (by omega) (by rw [show xoo st a c_ k (i + 1) (y ||| 0) = xoo st a c_ (k + 1) i y from (by simp only [xoo, if_neg c_4])]; exact hyy) _ (lv_sub hl [2, 3, 1, 0] rfl))
      · refine lv_aload_n (pc := 43) hx hb dX7_isOutOfOrder_43 rfl (lv_at hl 0 rfl) ?_
        refine x_rd (pc := 44) (v := .ref (g 0 0)) E hw.1 6 h1 (C := RX7) (T := TX7) (N := 7) rfl in_X7 (Nat.le_of_ble_eq_true rfl) q664 (fun _ h => h) rfl dX7_isOutOfOrder_44 ?_
        refine x_rdN (pc := 47) (v := .ref (g 0 17)) E hw.1 17 hpx (C := RX0) (T := TX0) (N := 20) rfl in_X0 (Nat.le_of_ble_eq_true rfl) q131 (fun _ h => h) rfl dX7_isOutOfOrder_47 ?_
        refine lv_iload_n (pc := 50) hx hb dX7_isOutOfOrder_50 rfl (lv_at hl 3 rfl) ?_
        refine x_goR5 (x_runF (pc := 51) (As := [.int (nI i)]) (rest := [.int y]) E hml hl.1 hw.2 hw.1 hpl_17 (C := RJ2) (T := TJ2) (N := 3) rfl (xtJ2_get l D A V (g 0 17) (g 1 1) (cnt st 30) cap_1 (g 3 i) i mc_17 f1_1 hpl_17 hpe_1 (show i < cnt st 30 from (by omega)) hle_1 (by have := hcap_1; omega) (hel_1 _ (by omega))) E.2.2.2.2.1.2.1.2.2.2.2.2.2.1 q753 q340 q342 q51 q344 hdF_get ⟨Nat.le_of_ble_eq_true rfl, Nat.le_of_ble_eq_true rfl⟩ rfl rfl rfl (Nat.le_of_ble_eq_true rfl) dX7_isOutOfOrder_51 ⟨Nat.le_of_ble_eq_true rfl, Nat.le_of_ble_eq_true rfl⟩) ?_
        refine x_castS (pc := 56) E hw.1 k_3h (C := RX6) (T := TX6) (N := 7) rfl q754 dX7_isOutOfOrder_56 ?_
        refine x_rdN (pc := 59) (v := .int (st 31 i)) E hw.1 0 k_3h (C := RX6) (T := TX6) (N := 7) rfl in_X6 (Nat.le_of_ble_eq_true rfl) q593 (fun _ h => h) rfl dX7_isOutOfOrder_59 ?_
        refine lv_aload_n (pc := 62) hx hb dX7_isOutOfOrder_62 rfl (lv_at hl 0 rfl) ?_
        refine x_rd (pc := 63) (v := .ref (g 0 0)) E hw.1 6 h1 (C := RX7) (T := TX7) (N := 7) rfl in_X7 (Nat.le_of_ble_eq_true rfl) q664 (fun _ h => h) rfl dX7_isOutOfOrder_63 ?_
        refine x_rdN (pc := 66) (v := .ref (g 0 17)) E hw.1 17 hpx (C := RX0) (T := TX0) (N := 20) rfl in_X0 (Nat.le_of_ble_eq_true rfl) q131 (fun _ h => h) rfl dX7_isOutOfOrder_66 ?_
        refine lv_iload_n (pc := 69) hx hb dX7_isOutOfOrder_69 rfl (lv_at hl 1 rfl) ?_
        refine x_goR5 (x_runF (pc := 70) (As := [.int (nI c_)]) (rest := [.int (st 31 i), .int y]) E hml hl.1 hw.2 hw.1 hpl_17 (C := RJ2) (T := TJ2) (N := 3) rfl (xtJ2_get l D A V (g 0 17) (g 1 1) (cnt st 30) cap_1 (g 3 c_) c_ mc_17 f1_1 hpl_17 hpe_1 (show c_ < cnt st 30 from (by omega)) hle_1 (by have := hcap_1; omega) (hel_1 _ (by omega))) E.2.2.2.2.1.2.1.2.2.2.2.2.2.1 q753 q340 q342 q51 q344 hdF_get ⟨Nat.le_of_ble_eq_true rfl, Nat.le_of_ble_eq_true rfl⟩ rfl rfl rfl (Nat.le_of_ble_eq_true rfl) dX7_isOutOfOrder_70 ⟨Nat.le_of_ble_eq_true rfl, Nat.le_of_ble_eq_true rfl⟩) ?_
        obtain ⟨k_5a, k_5b, k_5c, k_5d, k_5h, k_5e⟩ := hR.ctl (j := c_) (by omega)
        refine x_castS (pc := 75) E hw.1 k_5h (C := RX6) (T := TX6) (N := 7) rfl q754 dX7_isOutOfOrder_75 ?_
        refine x_rdN (pc := 78) (v := .int (st 31 c_)) E hw.1 0 k_5h (C := RX6) (T := TX6) (N := 7) rfl in_X6 (Nat.le_of_ble_eq_true rfl) q593 (fun _ h => h) rfl dX7_isOutOfOrder_78 ?_
        refine li_icmp_le (pc := 81) (tgt := 111) hx hb dX7_isOutOfOrder_81 (by decide) (fun c_6 => ?_) (fun c_6 => ?_)
        · refine lv_iconst (pc := 111) (v := 0) hx hb dX7_isOutOfOrder_111 (by decide) ?_
          refine lv_ior (pc := 112) hx hb dX7_isOutOfOrder_112 ?_
          refine lv_istore_n (pc := 113) (lv' := [(2, .int (y ||| 0)), (0, .ref (g 4 a)), (1, .int (nI c_)), (3, .int (nI i))]) hx hb dX7_isOutOfOrder_113 rfl hl (by decide) rfl (fun ls hl => ?_)
          refine lv_iinc (pc := 114) (v := (nI (i + 1))) (lv' := [(3, .int (nI (i + 1))), (2, .int (y ||| 0)), (0, .ref (g 4 a)), (1, .int (nI c_))]) hx hb dX7_isOutOfOrder_114 hl (k := 3) rfl (nI_1 _) (by decide) rfl (fun ls hl => ?_)
          refine lv_goto (pc := 117) (tgt := 4) hx hb dX7_isOutOfOrder_117 (by decide) ?_
          exact x_toR (by simp only [xoo, if_pos c_4, if_neg c_6]) (ih_loop (i + 1) (y ||| 0) (by omega) (by rw [show xoo st a c_ k (i + 1) (y ||| 0) = xoo st a c_ (k + 1) i y from (by simp only [xoo, if_pos c_4, if_neg c_6])]; exact hyy) _ (lv_sub hl [2, 3, 1, 0] rfl))
        · refine lv_aload_n (pc := 84) hx hb dX7_isOutOfOrder_84 rfl (lv_at hl 0 rfl) ?_
          refine lv_iload_n (pc := 85) hx hb dX7_isOutOfOrder_85 rfl (lv_at hl 3 rfl) ?_
          refine x_goR (x_runV (pc := 86) (As := [.int (nI i)]) (rest := [.int y]) E hml hl.1 hw.2 hw.1 h1 (C := RX7) (T := TX7) (N := 7) rfl (xtX7_isClocked_5 l D A V st g a i hI hR ha hk (by omega)) q782 q724 q725 q73 q729 hdX7_isClocked ⟨Nat.le_of_ble_eq_true rfl, Nat.le_of_ble_eq_true rfl⟩ rfl rfl rfl (Nat.le_of_ble_eq_true rfl) dX7_isOutOfOrder_86 ⟨Nat.le_of_ble_eq_true rfl, Nat.le_of_ble_eq_true rfl⟩) ?_
          refine lb_eq (pc := 89) (tgt := 111) hx hb dX7_isOutOfOrder_89 (by decide) (fun c_7 => ?_) (fun c_7 => ?_)
          · refine lv_iconst (pc := 111) (v := 0) hx hb dX7_isOutOfOrder_111 (by decide) ?_
            refine lv_ior (pc := 112) hx hb dX7_isOutOfOrder_112 ?_
            refine lv_istore_n (pc := 113) (lv' := [(2, .int (y ||| 0)), (0, .ref (g 4 a)), (1, .int (nI c_)), (3, .int (nI i))]) hx hb dX7_isOutOfOrder_113 rfl hl (by decide) rfl (fun ls hl => ?_)
            refine lv_iinc (pc := 114) (v := (nI (i + 1))) (lv' := [(3, .int (nI (i + 1))), (2, .int (y ||| 0)), (0, .ref (g 4 a)), (1, .int (nI c_))]) hx hb dX7_isOutOfOrder_114 hl (k := 3) rfl (nI_1 _) (by decide) rfl (fun ls hl => ?_)
            refine lv_goto (pc := 117) (tgt := 4) hx hb dX7_isOutOfOrder_117 (by decide) ?_
            exact x_toR (by simp only [xoo, if_pos c_4, if_pos c_6, if_pos (Classical.not_not.mp c_7)]) (ih_loop (i + 1) (y ||| 0) (by omega) (by rw [show xoo st a c_ k (i + 1) (y ||| 0) = xoo st a c_ (k + 1) i y from (by simp only [xoo, if_pos c_4, if_pos c_6, if_pos (Classical.not_not.mp c_7)])]; exact hyy) _ (lv_sub hl [2, 3, 1, 0] rfl))
          · refine lv_aload_n (pc := 92) hx hb dX7_isOutOfOrder_92 rfl (lv_at hl 0 rfl) ?_
            refine x_rd (pc := 93) (v := .ref (g 6 a)) E hw.1 3 h1 (C := RX7) (T := TX7) (N := 7) rfl in_X7 (Nat.le_of_ble_eq_true rfl) q660 (fun _ h => h) rfl dX7_isOutOfOrder_93 ?_
            refine lv_iload_n (pc := 96) hx hb dX7_isOutOfOrder_96 rfl (lv_at hl 3 rfl) ?_
            obtain ⟨v_8f, v_8p, v_8h⟩ := hR.ord (j := a) (by omega)
            refine x_ildN (pc := 97) (v := (nI (g (10 + a) i))) E hw.1 (i) v_8p (show i < 8 from (by omega)) (Nat.le_of_ble_eq_true rfl) (v_8h _ (by omega)) dX7_isOutOfOrder_97 ?_
            refine lv_aload_n (pc := 98) hx hb dX7_isOutOfOrder_98 rfl (lv_at hl 0 rfl) ?_
            refine x_rd (pc := 99) (v := .ref (g 6 a)) E hw.1 3 h1 (C := RX7) (T := TX7) (N := 7) rfl in_X7 (Nat.le_of_ble_eq_true rfl) q660 (fun _ h => h) rfl dX7_isOutOfOrder_99 ?_
            refine lv_iload_n (pc := 102) hx hb dX7_isOutOfOrder_102 rfl (lv_at hl 1 rfl) ?_
            refine x_ildN (pc := 103) (v := (nI (g (10 + a) c_))) E hw.1 (c_) v_8p (show c_ < 8 from (by omega)) (Nat.le_of_ble_eq_true rfl) (v_8h _ (by omega)) dX7_isOutOfOrder_103 ?_
            refine li_icmp_geN (pc := 104) (a := g (10 + a) i) (b := g (10 + a) c_) (tgt := 111) hx hb (by omega) (by omega) dX7_isOutOfOrder_104 (by decide) (fun c_9 => ?_) (fun c_9 => ?_)
            · refine lv_iconst (pc := 111) (v := 0) hx hb dX7_isOutOfOrder_111 (by decide) ?_
              refine lv_ior (pc := 112) hx hb dX7_isOutOfOrder_112 ?_
              refine lv_istore_n (pc := 113) (lv' := [(2, .int (y ||| 0)), (0, .ref (g 4 a)), (1, .int (nI c_)), (3, .int (nI i))]) hx hb dX7_isOutOfOrder_113 rfl hl (by decide) rfl (fun ls hl => ?_)
              refine lv_iinc (pc := 114) (v := (nI (i + 1))) (lv' := [(3, .int (nI (i + 1))), (2, .int (y ||| 0)), (0, .ref (g 4 a)), (1, .int (nI c_))]) hx hb dX7_isOutOfOrder_114 hl (k := 3) rfl (nI_1 _) (by decide) rfl (fun ls hl => ?_)
              refine lv_goto (pc := 117) (tgt := 4) hx hb dX7_isOutOfOrder_117 (by decide) ?_
              exact x_toR (by simp only [xoo, if_pos c_4, if_pos c_6, if_neg c_7, if_neg (fun q => c_9 ((hR.ol ha (by omega) (by omega)).mpr q))]) (ih_loop (i + 1) (y ||| 0) (by omega) (by rw [show xoo st a c_ k (i + 1) (y ||| 0) = xoo st a c_ (k + 1) i y from (by simp only [xoo, if_pos c_4, if_pos c_6, if_neg c_7, if_neg (fun q => c_9 ((hR.ol ha (by omega) (by omega)).mpr q))])]; exact hyy) _ (lv_sub hl [2, 3, 1, 0] rfl))
            · refine lv_iconst (pc := 107) (v := 1) hx hb dX7_isOutOfOrder_107 (by decide) ?_
              refine lv_goto (pc := 108) (tgt := 112) hx hb dX7_isOutOfOrder_108 (by decide) ?_
              refine lv_ior (pc := 112) hx hb dX7_isOutOfOrder_112 ?_
              refine lv_istore_n (pc := 113) (lv' := [(2, .int (y ||| 1)), (0, .ref (g 4 a)), (1, .int (nI c_)), (3, .int (nI i))]) hx hb dX7_isOutOfOrder_113 rfl hl (by decide) rfl (fun ls hl => ?_)
              refine lv_iinc (pc := 114) (v := (nI (i + 1))) (lv' := [(3, .int (nI (i + 1))), (2, .int (y ||| 1)), (0, .ref (g 4 a)), (1, .int (nI c_))]) hx hb dX7_isOutOfOrder_114 hl (k := 3) rfl (nI_1 _) (by decide) rfl (fun ls hl => ?_)
              refine lv_goto (pc := 117) (tgt := 4) hx hb dX7_isOutOfOrder_117 (by decide) ?_
              exact x_toR (by simp only [xoo, if_pos c_4, if_pos c_6, if_neg c_7, if_pos ((hR.ol ha (by omega) (by omega)).mp c_9)]) (ih_loop (i + 1) (y ||| 1) (by omega) (by rw [show xoo st a c_ k (i + 1) (y ||| 1) = xoo st a c_ (k + 1) i y from (by simp only [xoo, if_pos c_4, if_pos c_6, if_neg c_7, if_pos ((hR.ol ha (by omega) (by omega)).mp c_9)])]; exact hyy) _ (lv_sub hl [2, 3, 1, 0] rfl))
  exact x_toR (by rw [(xoo_all hI ha).1]) (loop (cnt st 30) 0 0 (by omega) (by rw [(xoo_all hI ha).1]; exact (xoo_all hI ha).2) _ (lv_sub hl [2, 3, 1, 0] rfl))
set_option maxHeartbeats 4000000 in
set_option maxRecDepth 100000 in
theorem xtX7_isOutOfOrder_6 (l : Launch) (D : xD) (A : Nat → Prop) (V : xV) (st : mS) (g : xG) (a : Nat) (c_ : Nat) (hI : mI st) (hR : xR D st g V) (ha : a < cnt st 35) (hk : st 37 a = 1) (hc : c_ < cnt st 30) : Met l yX7_isOutOfOrder (ws_ yX7_isOutOfOrder cX7_isOutOfOrder 4 (some .boolean)) (xRm 4 0 0) (xP D A V [.ref (g 4 a), .int (nI c_)]) (k2_QcV (.int (oor st a c_))) 0 0 (fun _ => False) := by
  refine x_headR (own := RX7) (As := [.ref (g 4 a), .int (nI c_)]) (bytes := cX7_isOutOfOrder) (maxL := 4) (ret := (some .boolean)) (by decide) rfl (Nat.le_of_ble_eq_true rfl) ?_
  intro p e s m below meth c E hml hr hlk hw0 ls hl
  have hw : xWd D A s V s.heap [] := ⟨hw0, va_S.rf⟩
  have hx := E.1
  have hb := E.2.1
  have hts := E.2.2.1
  have hown := E.2.2.2.1
  have hl : lv_has ls 4 [(0, .ref (g 4 a)), (1, .int (nI c_))] := hl
  have h16 := hI.r16
  have h10 := hI.l10
  have hv8 := hI.v8
  have hc8 := hI.c8
  have hk8 := hI.k8
  have hb8 := hI.b8
  have h1 := hR.car6 ha hk
  have h9 := hR.o9 hI ha
  refine lv_iconst (pc := 0) (v := 0) hx hb dX7_isOutOfOrder_0 (by decide) ?_
  refine lv_istore_n (pc := 1) (lv' := [(2, .int 0), (0, .ref (g 4 a)), (1, .int (nI c_))]) hx hb dX7_isOutOfOrder_1 rfl hl (by decide) rfl (fun ls hl => ?_)
  refine lv_iconst (pc := 2) (v := 0) hx hb dX7_isOutOfOrder_2 (by decide) ?_
  refine lv_istore_n (pc := 3) (lv' := [(3, .int 0), (2, .int 0), (0, .ref (g 4 a)), (1, .int (nI c_))]) hx hb dX7_isOutOfOrder_3 rfl hl (by decide) rfl (fun ls hl => ?_)
  have loop : ∀ (k : Nat) (i : Nat) (y : Int32), i + k = cnt st 30 → xoo st a c_ k i y = 0 ∨ xoo st a c_ k i y = 1 → ∀ ls : Array Slot, lv_has ls 4 [(0, .ref (g 4 a)), (1, .int (nI c_)), (2, .int y), (3, .int (nI i))] → W p l e (xRm 4 0 0) s m ([.ref (g 4 a), .int (nI c_)] : List Value).toArray below meth c s.heap [] 0 0 (MQ below (k2_QcV (.int (xoo st a c_ k i y))) ([.ref (g 4 a), .int (nI c_)] : List Value).toArray s 0 0 (fun _ => False)) (F0 m 4 ls []) := by
    intro k
    induction k with
    | zero =>
      intro i y hi hyy ls hl
      refine lv_iload_n (pc := 4) hx hb dX7_isOutOfOrder_4 rfl (lv_at hl 3 rfl) ?_
      refine lv_aload_n (pc := 5) hx hb dX7_isOutOfOrder_5 rfl (lv_at hl 0 rfl) ?_
      refine x_rd (pc := 6) (v := .ref (g 0 0)) E hw.1 6 h1 (C := RX8) (T := TX8) (N := 8) rfl in_X8 (Nat.le_of_ble_eq_true rfl) q664 (fun _ h => h) rfl dX7_isOutOfOrder_6 ?_
      obtain ⟨b7, b8, b9, hpx⟩ := hR.px hI
      replace hpx : V (g 0 0) = some (.inr (0, [.int (st 0 0), .int (st 0 42), .ref (g 0 2), .ref (g 0 3), .int (nI (cnt st 12)), .ref (g 0 5), .ref (g 0 6), .int b7, .long b8, .int b9, .int (st 0 14), .ref (g 0 11), .int (nI (cnt st 24)), .int (st 0 25), .ref (g 0 14), .ref (g 0 15), .int (nI (cnt st 27)), .ref (g 0 17), .ref (g 0 18), .ref (g 0 19)])) := hpx
      refine x_rdN (pc := 9) (v := .ref (g 0 17)) E hw.1 17 hpx (C := RX0) (T := TX0) (N := 20) rfl in_X0 (Nat.le_of_ble_eq_true rfl) q131 (fun _ h => h) rfl dX7_isOutOfOrder_9 ?_
      obtain ⟨mc_17, hpl_17⟩ := hR.p17
      refine x_goR5 (x_runF (pc := 12) (As := []) (rest := [.int (nI i)]) E hml hl.1 hw.2 hw.1 hpl_17 (C := RJ2) (T := TJ2) (N := 3) rfl (xtJ2_size l D A V (g 0 17) (g 1 1) (cnt st 30) mc_17 hpl_17) E.2.2.2.2.1.2.1.2.2.2.2.2.1 q762 q194 q196 q51 q198 hdF_size ⟨Nat.le_of_ble_eq_true rfl, Nat.le_of_ble_eq_true rfl⟩ rfl rfl rfl (Nat.le_of_ble_eq_true rfl) dX7_isOutOfOrder_12 ⟨Nat.le_of_ble_eq_true rfl, Nat.le_of_ble_eq_true rfl⟩) ?_
      refine li_icmp_geN (pc := 17) (a := i) (b := cnt st 30) (tgt := 120) hx hb (by omega) (by omega) dX7_isOutOfOrder_17 (by decide) (fun c_1 => ?_) (fun c_1 => absurd c_1 (by omega))
      refine lv_iload_n (pc := 120) hx hb dX7_isOutOfOrder_120 rfl (lv_at hl 2 rfl) ?_
      exact m_zretS hx hb hr hlk dX7_isOutOfOrder_121 (by rcases hyy with q | q; (rw [show y = 0 from q]; rfl); (rw [show y = 1 from q]; rfl)) rfl
    | succ k ih_loop =>
      intro i y hi hyy ls hl
      have hob1 := hR.ob hI ha (c := i) (by omega)
      have hob2 := hR.ob hI ha (c := c_) (by omega)
      refine lv_iload_n (pc := 4) hx hb dX7_isOutOfOrder_4 rfl (lv_at hl 3 rfl) ?_
      refine lv_aload_n (pc := 5) hx hb dX7_isOutOfOrder_5 rfl (lv_at hl 0 rfl) ?_
      refine x_rd (pc := 6) (v := .ref (g 0 0)) E hw.1 6 h1 (C := RX8) (T := TX8) (N := 8) rfl in_X8 (Nat.le_of_ble_eq_true rfl) q664 (fun _ h => h) rfl dX7_isOutOfOrder_6 ?_
      obtain ⟨b7, b8, b9, hpx⟩ := hR.px hI
      replace hpx : V (g 0 0) = some (.inr (0, [.int (st 0 0), .int (st 0 42), .ref (g 0 2), .ref (g 0 3), .int (nI (cnt st 12)), .ref (g 0 5), .ref (g 0 6), .int b7, .long b8, .int b9, .int (st 0 14), .ref (g 0 11), .int (nI (cnt st 24)), .int (st 0 25), .ref (g 0 14), .ref (g 0 15), .int (nI (cnt st 27)), .ref (g 0 17), .ref (g 0 18), .ref (g 0 19)])) := hpx
      refine x_rdN (pc := 9) (v := .ref (g 0 17)) E hw.1 17 hpx (C := RX0) (T := TX0) (N := 20) rfl in_X0 (Nat.le_of_ble_eq_true rfl) q131 (fun _ h => h) rfl dX7_isOutOfOrder_9 ?_
      obtain ⟨mc_17, hpl_17⟩ := hR.p17
      refine x_goR5 (x_runF (pc := 12) (As := []) (rest := [.int (nI i)]) E hml hl.1 hw.2 hw.1 hpl_17 (C := RJ2) (T := TJ2) (N := 3) rfl (xtJ2_size l D A V (g 0 17) (g 1 1) (cnt st 30) mc_17 hpl_17) E.2.2.2.2.1.2.1.2.2.2.2.2.1 q762 q194 q196 q51 q198 hdF_size ⟨Nat.le_of_ble_eq_true rfl, Nat.le_of_ble_eq_true rfl⟩ rfl rfl rfl (Nat.le_of_ble_eq_true rfl) dX7_isOutOfOrder_12 ⟨Nat.le_of_ble_eq_true rfl, Nat.le_of_ble_eq_true rfl⟩) ?_
      refine li_icmp_geN (pc := 17) (a := i) (b := cnt st 30) (tgt := 120) hx hb (by omega) (by omega) dX7_isOutOfOrder_17 (by decide) (fun c_2 => absurd c_2 (by omega)) (fun c_2 => ?_)
      refine lv_iload_n (pc := 20) hx hb dX7_isOutOfOrder_20 rfl (lv_at hl 2 rfl) ?_
      refine lv_aload_n (pc := 21) hx hb dX7_isOutOfOrder_21 rfl (lv_at hl 0 rfl) ?_
      refine x_rd (pc := 22) (v := .ref (g 0 0)) E hw.1 6 h1 (C := RX8) (T := TX8) (N := 8) rfl in_X8 (Nat.le_of_ble_eq_true rfl) q664 (fun _ h => h) rfl dX7_isOutOfOrder_22 ?_
      refine x_rdN (pc := 25) (v := .ref (g 0 17)) E hw.1 17 hpx (C := RX0) (T := TX0) (N := 20) rfl in_X0 (Nat.le_of_ble_eq_true rfl) q131 (fun _ h => h) rfl dX7_isOutOfOrder_25 ?_
      refine lv_iload_n (pc := 28) hx hb dX7_isOutOfOrder_28 rfl (lv_at hl 3 rfl) ?_
      obtain ⟨cap_1, f1_1, hpe_1, hcap_1, hle_1, hel_1⟩ := hR.pe (j := 1) (by decide)
      replace hle_1 : cnt st 30 ≤ cap_1 := hle_1
      replace hel_1 : ∀ q, q < cnt st 30 → f1_1 q = some (g 3 q) := hel_1
      refine x_goR5 (x_runF (pc := 29) (As := [.int (nI i)]) (rest := [.int y]) E hml hl.1 hw.2 hw.1 hpl_17 (C := RJ2) (T := TJ2) (N := 3) rfl (xtJ2_get l D A V (g 0 17) (g 1 1) (cnt st 30) cap_1 (g 3 i) i mc_17 f1_1 hpl_17 hpe_1 (show i < cnt st 30 from (by omega)) hle_1 (by have := hcap_1; omega) (hel_1 _ (by omega))) E.2.2.2.2.1.2.1.2.2.2.2.2.2.1 q753 q340 q342 q51 q344 hdF_get ⟨Nat.le_of_ble_eq_true rfl, Nat.le_of_ble_eq_true rfl⟩ rfl rfl rfl (Nat.le_of_ble_eq_true rfl) dX7_isOutOfOrder_29 ⟨Nat.le_of_ble_eq_true rfl, Nat.le_of_ble_eq_true rfl⟩) ?_
      obtain ⟨k_3a, k_3b, k_3c, k_3d, k_3h, k_3e⟩ := hR.ctl (j := i) (by omega)
      refine x_castS (pc := 34) E hw.1 k_3h (C := RX6) (T := TX6) (N := 7) rfl q754 dX7_isOutOfOrder_34 ?_
      refine x_rdN (pc := 37) (v := .int (st 32 i)) E hw.1 1 k_3h (C := RX6) (T := TX6) (N := 7) rfl in_X6 (Nat.le_of_ble_eq_true rfl) q595 (fun _ h => h) rfl dX7_isOutOfOrder_37 ?_
      refine li_ne (pc := 40) (tgt := 111) hx hb dX7_isOutOfOrder_40 (by decide) (fun c_4 => ?_) (fun c_4 => ?_)
      · refine lv_iconst (pc := 111) (v := 0) hx hb dX7_isOutOfOrder_111 (by decide) ?_
        refine lv_ior (pc := 112) hx hb dX7_isOutOfOrder_112 ?_
        refine lv_istore_n (pc := 113) (lv' := [(2, .int (y ||| 0)), (0, .ref (g 4 a)), (1, .int (nI c_)), (3, .int (nI i))]) hx hb dX7_isOutOfOrder_113 rfl hl (by decide) rfl (fun ls hl => ?_)
        refine lv_iinc (pc := 114) (v := (nI (i + 1))) (lv' := [(3, .int (nI (i + 1))), (2, .int (y ||| 0)), (0, .ref (g 4 a)), (1, .int (nI c_))]) hx hb dX7_isOutOfOrder_114 hl (k := 3) rfl (nI_1 _) (by decide) rfl (fun ls hl => ?_)
        refine lv_goto (pc := 117) (tgt := 4) hx hb dX7_isOutOfOrder_117 (by decide) ?_
        exact x_toR (by simp only [xoo, if_neg c_4]) (ih_loop (i + 1) (y ||| 0) (by omega) (by rw [show xoo st a c_ k (i + 1) (y ||| 0) = xoo st a c_ (k + 1) i y from (by simp only [xoo, if_neg c_4])]; exact hyy) _ (lv_sub hl [2, 3, 1, 0] rfl))
      · refine lv_aload_n (pc := 43) hx hb dX7_isOutOfOrder_43 rfl (lv_at hl 0 rfl) ?_
        refine x_rd (pc := 44) (v := .ref (g 0 0)) E hw.1 6 h1 (C := RX8) (T := TX8) (N := 8) rfl in_X8 (Nat.le_of_ble_eq_true rfl) q664 (fun _ h => h) rfl dX7_isOutOfOrder_44 ?_
        refine x_rdN (pc := 47) (v := .ref (g 0 17)) E hw.1 17 hpx (C := RX0) (T := TX0) (N := 20) rfl in_X0 (Nat.le_of_ble_eq_true rfl) q131 (fun _ h => h) rfl dX7_isOutOfOrder_47 ?_
        refine lv_iload_n (pc := 50) hx hb dX7_isOutOfOrder_50 rfl (lv_at hl 3 rfl) ?_
        refine x_goR5 (x_runF (pc := 51) (As := [.int (nI i)]) (rest := [.int y]) E hml hl.1 hw.2 hw.1 hpl_17 (C := RJ2) (T := TJ2) (N := 3) rfl (xtJ2_get l D A V (g 0 17) (g 1 1) (cnt st 30) cap_1 (g 3 i) i mc_17 f1_1 hpl_17 hpe_1 (show i < cnt st 30 from (by omega)) hle_1 (by have := hcap_1; omega) (hel_1 _ (by omega))) E.2.2.2.2.1.2.1.2.2.2.2.2.2.1 q753 q340 q342 q51 q344 hdF_get ⟨Nat.le_of_ble_eq_true rfl, Nat.le_of_ble_eq_true rfl⟩ rfl rfl rfl (Nat.le_of_ble_eq_true rfl) dX7_isOutOfOrder_51 ⟨Nat.le_of_ble_eq_true rfl, Nat.le_of_ble_eq_true rfl⟩) ?_
        refine x_castS (pc := 56) E hw.1 k_3h (C := RX6) (T := TX6) (N := 7) rfl q754 dX7_isOutOfOrder_56 ?_
        refine x_rdN (pc := 59) (v := .int (st 31 i)) E hw.1 0 k_3h (C := RX6) (T := TX6) (N := 7) rfl in_X6 (Nat.le_of_ble_eq_true rfl) q593 (fun _ h => h) rfl dX7_isOutOfOrder_59 ?_
        refine lv_aload_n (pc := 62) hx hb dX7_isOutOfOrder_62 rfl (lv_at hl 0 rfl) ?_
        refine x_rd (pc := 63) (v := .ref (g 0 0)) E hw.1 6 h1 (C := RX8) (T := TX8) (N := 8) rfl in_X8 (Nat.le_of_ble_eq_true rfl) q664 (fun _ h => h) rfl dX7_isOutOfOrder_63 ?_
        refine x_rdN (pc := 66) (v := .ref (g 0 17)) E hw.1 17 hpx (C := RX0) (T := TX0) (N := 20) rfl in_X0 (Nat.le_of_ble_eq_true rfl) q131 (fun _ h => h) rfl dX7_isOutOfOrder_66 ?_
        refine lv_iload_n (pc := 69) hx hb dX7_isOutOfOrder_69 rfl (lv_at hl 1 rfl) ?_
        refine x_goR5 (x_runF (pc := 70) (As := [.int (nI c_)]) (rest := [.int (st 31 i), .int y]) E hml hl.1 hw.2 hw.1 hpl_17 (C := RJ2) (T := TJ2) (N := 3) rfl (xtJ2_get l D A V (g 0 17) (g 1 1) (cnt st 30) cap_1 (g 3 c_) c_ mc_17 f1_1 hpl_17 hpe_1 (show c_ < cnt st 30 from (by omega)) hle_1 (by have := hcap_1; omega) (hel_1 _ (by omega))) E.2.2.2.2.1.2.1.2.2.2.2.2.2.1 q753 q340 q342 q51 q344 hdF_get ⟨Nat.le_of_ble_eq_true rfl, Nat.le_of_ble_eq_true rfl⟩ rfl rfl rfl (Nat.le_of_ble_eq_true rfl) dX7_isOutOfOrder_70 ⟨Nat.le_of_ble_eq_true rfl, Nat.le_of_ble_eq_true rfl⟩) ?_
        obtain ⟨k_5a, k_5b, k_5c, k_5d, k_5h, k_5e⟩ := hR.ctl (j := c_) (by omega)
        refine x_castS (pc := 75) E hw.1 k_5h (C := RX6) (T := TX6) (N := 7) rfl q754 dX7_isOutOfOrder_75 ?_
        refine x_rdN (pc := 78) (v := .int (st 31 c_)) E hw.1 0 k_5h (C := RX6) (T := TX6) (N := 7) rfl in_X6 (Nat.le_of_ble_eq_true rfl) q593 (fun _ h => h) rfl dX7_isOutOfOrder_78 ?_
        refine li_icmp_le (pc := 81) (tgt := 111) hx hb dX7_isOutOfOrder_81 (by decide) (fun c_6 => ?_) (fun c_6 => ?_)
        · refine lv_iconst (pc := 111) (v := 0) hx hb dX7_isOutOfOrder_111 (by decide) ?_
          refine lv_ior (pc := 112) hx hb dX7_isOutOfOrder_112 ?_
          refine lv_istore_n (pc := 113) (lv' := [(2, .int (y ||| 0)), (0, .ref (g 4 a)), (1, .int (nI c_)), (3, .int (nI i))]) hx hb dX7_isOutOfOrder_113 rfl hl (by decide) rfl (fun ls hl => ?_)
          refine lv_iinc (pc := 114) (v := (nI (i + 1))) (lv' := [(3, .int (nI (i + 1))), (2, .int (y ||| 0)), (0, .ref (g 4 a)), (1, .int (nI c_))]) hx hb dX7_isOutOfOrder_114 hl (k := 3) rfl (nI_1 _) (by decide) rfl (fun ls hl => ?_)
          refine lv_goto (pc := 117) (tgt := 4) hx hb dX7_isOutOfOrder_117 (by decide) ?_
          exact x_toR (by simp only [xoo, if_pos c_4, if_neg c_6]) (ih_loop (i + 1) (y ||| 0) (by omega) (by rw [show xoo st a c_ k (i + 1) (y ||| 0) = xoo st a c_ (k + 1) i y from (by simp only [xoo, if_pos c_4, if_neg c_6])]; exact hyy) _ (lv_sub hl [2, 3, 1, 0] rfl))
        · refine lv_aload_n (pc := 84) hx hb dX7_isOutOfOrder_84 rfl (lv_at hl 0 rfl) ?_
          refine lv_iload_n (pc := 85) hx hb dX7_isOutOfOrder_85 rfl (lv_at hl 3 rfl) ?_
          refine x_goR (x_runU (pc := 86) (As := [.int (nI i)]) (rest := [.int y]) E hml hl.1 hw.2 hw.1 h1 (C := RX8) (T := TX8) (N := 8) rfl (xtX7_isClocked_6 l D A V st g a i hI hR ha hk (by omega)) q782 q726 q728 q724 q73 q729 rfl hdX7_isClocked.2 ⟨Nat.le_of_ble_eq_true rfl, Nat.le_of_ble_eq_true rfl⟩ rfl rfl rfl (Nat.le_of_ble_eq_true rfl) dX7_isOutOfOrder_86 ⟨Nat.le_of_ble_eq_true rfl, Nat.le_of_ble_eq_true rfl⟩) ?_
          refine lb_eq (pc := 89) (tgt := 111) hx hb dX7_isOutOfOrder_89 (by decide) (fun c_7 => ?_) (fun c_7 => ?_)
          · refine lv_iconst (pc := 111) (v := 0) hx hb dX7_isOutOfOrder_111 (by decide) ?_
            refine lv_ior (pc := 112) hx hb dX7_isOutOfOrder_112 ?_
            refine lv_istore_n (pc := 113) (lv' := [(2, .int (y ||| 0)), (0, .ref (g 4 a)), (1, .int (nI c_)), (3, .int (nI i))]) hx hb dX7_isOutOfOrder_113 rfl hl (by decide) rfl (fun ls hl => ?_)
            refine lv_iinc (pc := 114) (v := (nI (i + 1))) (lv' := [(3, .int (nI (i + 1))), (2, .int (y ||| 0)), (0, .ref (g 4 a)), (1, .int (nI c_))]) hx hb dX7_isOutOfOrder_114 hl (k := 3) rfl (nI_1 _) (by decide) rfl (fun ls hl => ?_)
            refine lv_goto (pc := 117) (tgt := 4) hx hb dX7_isOutOfOrder_117 (by decide) ?_
            exact x_toR (by simp only [xoo, if_pos c_4, if_pos c_6, if_pos (Classical.not_not.mp c_7)]) (ih_loop (i + 1) (y ||| 0) (by omega) (by rw [show xoo st a c_ k (i + 1) (y ||| 0) = xoo st a c_ (k + 1) i y from (by simp only [xoo, if_pos c_4, if_pos c_6, if_pos (Classical.not_not.mp c_7)])]; exact hyy) _ (lv_sub hl [2, 3, 1, 0] rfl))
          · refine lv_aload_n (pc := 92) hx hb dX7_isOutOfOrder_92 rfl (lv_at hl 0 rfl) ?_
            refine x_rd (pc := 93) (v := .ref (g 6 a)) E hw.1 3 h1 (C := RX8) (T := TX8) (N := 8) rfl in_X8 (Nat.le_of_ble_eq_true rfl) q660 (fun _ h => h) rfl dX7_isOutOfOrder_93 ?_
            refine lv_iload_n (pc := 96) hx hb dX7_isOutOfOrder_96 rfl (lv_at hl 3 rfl) ?_
            obtain ⟨v_8f, v_8p, v_8h⟩ := hR.ord (j := a) (by omega)
            refine x_ildN (pc := 97) (v := (nI (g (10 + a) i))) E hw.1 (i) v_8p (show i < 8 from (by omega)) (Nat.le_of_ble_eq_true rfl) (v_8h _ (by omega)) dX7_isOutOfOrder_97 ?_
            refine lv_aload_n (pc := 98) hx hb dX7_isOutOfOrder_98 rfl (lv_at hl 0 rfl) ?_
            refine x_rd (pc := 99) (v := .ref (g 6 a)) E hw.1 3 h1 (C := RX8) (T := TX8) (N := 8) rfl in_X8 (Nat.le_of_ble_eq_true rfl) q660 (fun _ h => h) rfl dX7_isOutOfOrder_99 ?_
            refine lv_iload_n (pc := 102) hx hb dX7_isOutOfOrder_102 rfl (lv_at hl 1 rfl) ?_
            refine x_ildN (pc := 103) (v := (nI (g (10 + a) c_))) E hw.1 (c_) v_8p (show c_ < 8 from (by omega)) (Nat.le_of_ble_eq_true rfl) (v_8h _ (by omega)) dX7_isOutOfOrder_103 ?_
            refine li_icmp_geN (pc := 104) (a := g (10 + a) i) (b := g (10 + a) c_) (tgt := 111) hx hb (by omega) (by omega) dX7_isOutOfOrder_104 (by decide) (fun c_9 => ?_) (fun c_9 => ?_)
            · refine lv_iconst (pc := 111) (v := 0) hx hb dX7_isOutOfOrder_111 (by decide) ?_
              refine lv_ior (pc := 112) hx hb dX7_isOutOfOrder_112 ?_
              refine lv_istore_n (pc := 113) (lv' := [(2, .int (y ||| 0)), (0, .ref (g 4 a)), (1, .int (nI c_)), (3, .int (nI i))]) hx hb dX7_isOutOfOrder_113 rfl hl (by decide) rfl (fun ls hl => ?_)
              refine lv_iinc (pc := 114) (v := (nI (i + 1))) (lv' := [(3, .int (nI (i + 1))), (2, .int (y ||| 0)), (0, .ref (g 4 a)), (1, .int (nI c_))]) hx hb dX7_isOutOfOrder_114 hl (k := 3) rfl (nI_1 _) (by decide) rfl (fun ls hl => ?_)
              refine lv_goto (pc := 117) (tgt := 4) hx hb dX7_isOutOfOrder_117 (by decide) ?_
              exact x_toR (by simp only [xoo, if_pos c_4, if_pos c_6, if_neg c_7, if_neg (fun q => c_9 ((hR.ol ha (by omega) (by omega)).mpr q))]) (ih_loop (i + 1) (y ||| 0) (by omega) (by rw [show xoo st a c_ k (i + 1) (y ||| 0) = xoo st a c_ (k + 1) i y from (by simp only [xoo, if_pos c_4, if_pos c_6, if_neg c_7, if_neg (fun q => c_9 ((hR.ol ha (by omega) (by omega)).mpr q))])]; exact hyy) _ (lv_sub hl [2, 3, 1, 0] rfl))
            · refine lv_iconst (pc := 107) (v := 1) hx hb dX7_isOutOfOrder_107 (by decide) ?_
              refine lv_goto (pc := 108) (tgt := 112) hx hb dX7_isOutOfOrder_108 (by decide) ?_
              refine lv_ior (pc := 112) hx hb dX7_isOutOfOrder_112 ?_
              refine lv_istore_n (pc := 113) (lv' := [(2, .int (y ||| 1)), (0, .ref (g 4 a)), (1, .int (nI c_)), (3, .int (nI i))]) hx hb dX7_isOutOfOrder_113 rfl hl (by decide) rfl (fun ls hl => ?_)
              refine lv_iinc (pc := 114) (v := (nI (i + 1))) (lv' := [(3, .int (nI (i + 1))), (2, .int (y ||| 1)), (0, .ref (g 4 a)), (1, .int (nI c_))]) hx hb dX7_isOutOfOrder_114 hl (k := 3) rfl (nI_1 _) (by decide) rfl (fun ls hl => ?_)
              refine lv_goto (pc := 117) (tgt := 4) hx hb dX7_isOutOfOrder_117 (by decide) ?_
              exact x_toR (by simp only [xoo, if_pos c_4, if_pos c_6, if_neg c_7, if_pos ((hR.ol ha (by omega) (by omega)).mp c_9)]) (ih_loop (i + 1) (y ||| 1) (by omega) (by rw [show xoo st a c_ k (i + 1) (y ||| 1) = xoo st a c_ (k + 1) i y from (by simp only [xoo, if_pos c_4, if_pos c_6, if_neg c_7, if_pos ((hR.ol ha (by omega) (by omega)).mp c_9)])]; exact hyy) _ (lv_sub hl [2, 3, 1, 0] rfl))
  exact x_toR (by rw [(xoo_all hI ha).1]) (loop (cnt st 30) 0 0 (by omega) (by rw [(xoo_all hI ha).1]; exact (xoo_all hI ha).2) _ (lv_sub hl [2, 3, 1, 0] rfl))
set_option maxHeartbeats 4000000 in
set_option maxRecDepth 100000 in
theorem xtX7_isOutOfOrder_7 (l : Launch) (D : xD) (A : Nat → Prop) (V : xV) (st : mS) (g : xG) (a : Nat) (c_ : Nat) (hI : mI st) (hR : xR D st g V) (ha : a < cnt st 35) (hk : st 37 a = 2) (hc : c_ < cnt st 30) : Met l yX7_isOutOfOrder (ws_ yX7_isOutOfOrder cX7_isOutOfOrder 4 (some .boolean)) (xRm 4 0 0) (xP D A V [.ref (g 4 a), .int (nI c_)]) (k2_QcV (.int (oor st a c_))) 0 0 (fun _ => False) := by
  refine x_headR (own := RX7) (As := [.ref (g 4 a), .int (nI c_)]) (bytes := cX7_isOutOfOrder) (maxL := 4) (ret := (some .boolean)) (by decide) rfl (Nat.le_of_ble_eq_true rfl) ?_
  intro p e s m below meth c E hml hr hlk hw0 ls hl
  have hw : xWd D A s V s.heap [] := ⟨hw0, va_S.rf⟩
  have hx := E.1
  have hb := E.2.1
  have hts := E.2.2.1
  have hown := E.2.2.2.1
  have hl : lv_has ls 4 [(0, .ref (g 4 a)), (1, .int (nI c_))] := hl
  have h16 := hI.r16
  have h10 := hI.l10
  have hv8 := hI.v8
  have hc8 := hI.c8
  have hk8 := hI.k8
  have hb8 := hI.b8
  have h1 := hR.car7 ha hk
  have h9 := hR.o9 hI ha
  refine lv_iconst (pc := 0) (v := 0) hx hb dX7_isOutOfOrder_0 (by decide) ?_
  refine lv_istore_n (pc := 1) (lv' := [(2, .int 0), (0, .ref (g 4 a)), (1, .int (nI c_))]) hx hb dX7_isOutOfOrder_1 rfl hl (by decide) rfl (fun ls hl => ?_)
  refine lv_iconst (pc := 2) (v := 0) hx hb dX7_isOutOfOrder_2 (by decide) ?_
  refine lv_istore_n (pc := 3) (lv' := [(3, .int 0), (2, .int 0), (0, .ref (g 4 a)), (1, .int (nI c_))]) hx hb dX7_isOutOfOrder_3 rfl hl (by decide) rfl (fun ls hl => ?_)
  have loop : ∀ (k : Nat) (i : Nat) (y : Int32), i + k = cnt st 30 → xoo st a c_ k i y = 0 ∨ xoo st a c_ k i y = 1 → ∀ ls : Array Slot, lv_has ls 4 [(0, .ref (g 4 a)), (1, .int (nI c_)), (2, .int y), (3, .int (nI i))] → W p l e (xRm 4 0 0) s m ([.ref (g 4 a), .int (nI c_)] : List Value).toArray below meth c s.heap [] 0 0 (MQ below (k2_QcV (.int (xoo st a c_ k i y))) ([.ref (g 4 a), .int (nI c_)] : List Value).toArray s 0 0 (fun _ => False)) (F0 m 4 ls []) := by
    intro k
    induction k with
    | zero =>
      intro i y hi hyy ls hl
      refine lv_iload_n (pc := 4) hx hb dX7_isOutOfOrder_4 rfl (lv_at hl 3 rfl) ?_
      refine lv_aload_n (pc := 5) hx hb dX7_isOutOfOrder_5 rfl (lv_at hl 0 rfl) ?_
      refine x_rd (pc := 6) (v := .ref (g 0 0)) E hw.1 6 h1 (C := RX9) (T := TX9) (N := 9) rfl in_X9 (Nat.le_of_ble_eq_true rfl) q664 (fun _ h => h) rfl dX7_isOutOfOrder_6 ?_
      obtain ⟨b7, b8, b9, hpx⟩ := hR.px hI
      replace hpx : V (g 0 0) = some (.inr (0, [.int (st 0 0), .int (st 0 42), .ref (g 0 2), .ref (g 0 3), .int (nI (cnt st 12)), .ref (g 0 5), .ref (g 0 6), .int b7, .long b8, .int b9, .int (st 0 14), .ref (g 0 11), .int (nI (cnt st 24)), .int (st 0 25), .ref (g 0 14), .ref (g 0 15), .int (nI (cnt st 27)), .ref (g 0 17), .ref (g 0 18), .ref (g 0 19)])) := hpx
      refine x_rdN (pc := 9) (v := .ref (g 0 17)) E hw.1 17 hpx (C := RX0) (T := TX0) (N := 20) rfl in_X0 (Nat.le_of_ble_eq_true rfl) q131 (fun _ h => h) rfl dX7_isOutOfOrder_9 ?_
      obtain ⟨mc_17, hpl_17⟩ := hR.p17
      refine x_goR5 (x_runF (pc := 12) (As := []) (rest := [.int (nI i)]) E hml hl.1 hw.2 hw.1 hpl_17 (C := RJ2) (T := TJ2) (N := 3) rfl (xtJ2_size l D A V (g 0 17) (g 1 1) (cnt st 30) mc_17 hpl_17) E.2.2.2.2.1.2.1.2.2.2.2.2.1 q762 q194 q196 q51 q198 hdF_size ⟨Nat.le_of_ble_eq_true rfl, Nat.le_of_ble_eq_true rfl⟩ rfl rfl rfl (Nat.le_of_ble_eq_true rfl) dX7_isOutOfOrder_12 ⟨Nat.le_of_ble_eq_true rfl, Nat.le_of_ble_eq_true rfl⟩) ?_
      refine li_icmp_geN (pc := 17) (a := i) (b := cnt st 30) (tgt := 120) hx hb (by omega) (by omega) dX7_isOutOfOrder_17 (by decide) (fun c_1 => ?_) (fun c_1 => absurd c_1 (by omega))
      refine lv_iload_n (pc := 120) hx hb dX7_isOutOfOrder_120 rfl (lv_at hl 2 rfl) ?_
      exact m_zretS hx hb hr hlk dX7_isOutOfOrder_121 (by rcases hyy with q | q; (rw [show y = 0 from q]; rfl); (rw [show y = 1 from q]; rfl)) rfl
    | succ k ih_loop =>
      intro i y hi hyy ls hl
      have hob1 := hR.ob hI ha (c := i) (by omega)
      have hob2 := hR.ob hI ha (c := c_) (by omega)
      refine lv_iload_n (pc := 4) hx hb dX7_isOutOfOrder_4 rfl (lv_at hl 3 rfl) ?_
      refine lv_aload_n (pc := 5) hx hb dX7_isOutOfOrder_5 rfl (lv_at hl 0 rfl) ?_
      refine x_rd (pc := 6) (v := .ref (g 0 0)) E hw.1 6 h1 (C := RX9) (T := TX9) (N := 9) rfl in_X9 (Nat.le_of_ble_eq_true rfl) q664 (fun _ h => h) rfl dX7_isOutOfOrder_6 ?_
      obtain ⟨b7, b8, b9, hpx⟩ := hR.px hI
      replace hpx : V (g 0 0) = some (.inr (0, [.int (st 0 0), .int (st 0 42), .ref (g 0 2), .ref (g 0 3), .int (nI (cnt st 12)), .ref (g 0 5), .ref (g 0 6), .int b7, .long b8, .int b9, .int (st 0 14), .ref (g 0 11), .int (nI (cnt st 24)), .int (st 0 25), .ref (g 0 14), .ref (g 0 15), .int (nI (cnt st 27)), .ref (g 0 17), .ref (g 0 18), .ref (g 0 19)])) := hpx
      refine x_rdN (pc := 9) (v := .ref (g 0 17)) E hw.1 17 hpx (C := RX0) (T := TX0) (N := 20) rfl in_X0 (Nat.le_of_ble_eq_true rfl) q131 (fun _ h => h) rfl dX7_isOutOfOrder_9 ?_
      obtain ⟨mc_17, hpl_17⟩ := hR.p17
      refine x_goR5 (x_runF (pc := 12) (As := []) (rest := [.int (nI i)]) E hml hl.1 hw.2 hw.1 hpl_17 (C := RJ2) (T := TJ2) (N := 3) rfl (xtJ2_size l D A V (g 0 17) (g 1 1) (cnt st 30) mc_17 hpl_17) E.2.2.2.2.1.2.1.2.2.2.2.2.1 q762 q194 q196 q51 q198 hdF_size ⟨Nat.le_of_ble_eq_true rfl, Nat.le_of_ble_eq_true rfl⟩ rfl rfl rfl (Nat.le_of_ble_eq_true rfl) dX7_isOutOfOrder_12 ⟨Nat.le_of_ble_eq_true rfl, Nat.le_of_ble_eq_true rfl⟩) ?_
      refine li_icmp_geN (pc := 17) (a := i) (b := cnt st 30) (tgt := 120) hx hb (by omega) (by omega) dX7_isOutOfOrder_17 (by decide) (fun c_2 => absurd c_2 (by omega)) (fun c_2 => ?_)
      refine lv_iload_n (pc := 20) hx hb dX7_isOutOfOrder_20 rfl (lv_at hl 2 rfl) ?_
      refine lv_aload_n (pc := 21) hx hb dX7_isOutOfOrder_21 rfl (lv_at hl 0 rfl) ?_
      refine x_rd (pc := 22) (v := .ref (g 0 0)) E hw.1 6 h1 (C := RX9) (T := TX9) (N := 9) rfl in_X9 (Nat.le_of_ble_eq_true rfl) q664 (fun _ h => h) rfl dX7_isOutOfOrder_22 ?_
      refine x_rdN (pc := 25) (v := .ref (g 0 17)) E hw.1 17 hpx (C := RX0) (T := TX0) (N := 20) rfl in_X0 (Nat.le_of_ble_eq_true rfl) q131 (fun _ h => h) rfl dX7_isOutOfOrder_25 ?_
      refine lv_iload_n (pc := 28) hx hb dX7_isOutOfOrder_28 rfl (lv_at hl 3 rfl) ?_
      obtain ⟨cap_1, f1_1, hpe_1, hcap_1, hle_1, hel_1⟩ := hR.pe (j := 1) (by decide)
      replace hle_1 : cnt st 30 ≤ cap_1 := hle_1
      replace hel_1 : ∀ q, q < cnt st 30 → f1_1 q = some (g 3 q) := hel_1
      refine x_goR5 (x_runF (pc := 29) (As := [.int (nI i)]) (rest := [.int y]) E hml hl.1 hw.2 hw.1 hpl_17 (C := RJ2) (T := TJ2) (N := 3) rfl (xtJ2_get l D A V (g 0 17) (g 1 1) (cnt st 30) cap_1 (g 3 i) i mc_17 f1_1 hpl_17 hpe_1 (show i < cnt st 30 from (by omega)) hle_1 (by have := hcap_1; omega) (hel_1 _ (by omega))) E.2.2.2.2.1.2.1.2.2.2.2.2.2.1 q753 q340 q342 q51 q344 hdF_get ⟨Nat.le_of_ble_eq_true rfl, Nat.le_of_ble_eq_true rfl⟩ rfl rfl rfl (Nat.le_of_ble_eq_true rfl) dX7_isOutOfOrder_29 ⟨Nat.le_of_ble_eq_true rfl, Nat.le_of_ble_eq_true rfl⟩) ?_
      obtain ⟨k_3a, k_3b, k_3c, k_3d, k_3h, k_3e⟩ := hR.ctl (j := i) (by omega)
      refine x_castS (pc := 34) E hw.1 k_3h (C := RX6) (T := TX6) (N := 7) rfl q754 dX7_isOutOfOrder_34 ?_
      refine x_rdN (pc := 37) (v := .int (st 32 i)) E hw.1 1 k_3h (C := RX6) (T := TX6) (N := 7) rfl in_X6 (Nat.le_of_ble_eq_true rfl) q595 (fun _ h => h) rfl dX7_isOutOfOrder_37 ?_
      refine li_ne (pc := 40) (tgt := 111) hx hb dX7_isOutOfOrder_40 (by decide) (fun c_4 => ?_) (fun c_4 => ?_)
      · refine lv_iconst (pc := 111) (v := 0) hx hb dX7_isOutOfOrder_111 (by decide) ?_
        refine lv_ior (pc := 112) hx hb dX7_isOutOfOrder_112 ?_
        refine lv_istore_n (pc := 113) (lv' := [(2, .int (y ||| 0)), (0, .ref (g 4 a)), (1, .int (nI c_)), (3, .int (nI i))]) hx hb dX7_isOutOfOrder_113 rfl hl (by decide) rfl (fun ls hl => ?_)
        refine lv_iinc (pc := 114) (v := (nI (i + 1))) (lv' := [(3, .int (nI (i + 1))), (2, .int (y ||| 0)), (0, .ref (g 4 a)), (1, .int (nI c_))]) hx hb dX7_isOutOfOrder_114 hl (k := 3) rfl (nI_1 _) (by decide) rfl (fun ls hl => ?_)
        refine lv_goto (pc := 117) (tgt := 4) hx hb dX7_isOutOfOrder_117 (by decide) ?_
        exact x_toR (by simp only [xoo, if_neg c_4]) (ih_loop (i + 1) (y ||| 0) (by omega) (by rw [show xoo st a c_ k (i + 1) (y ||| 0) = xoo st a c_ (k + 1) i y from (by simp only [xoo, if_neg c_4])]; exact hyy) _ (lv_sub hl [2, 3, 1, 0] rfl))
      · refine lv_aload_n (pc := 43) hx hb dX7_isOutOfOrder_43 rfl (lv_at hl 0 rfl) ?_
        refine x_rd (pc := 44) (v := .ref (g 0 0)) E hw.1 6 h1 (C := RX9) (T := TX9) (N := 9) rfl in_X9 (Nat.le_of_ble_eq_true rfl) q664 (fun _ h => h) rfl dX7_isOutOfOrder_44 ?_
        refine x_rdN (pc := 47) (v := .ref (g 0 17)) E hw.1 17 hpx (C := RX0) (T := TX0) (N := 20) rfl in_X0 (Nat.le_of_ble_eq_true rfl) q131 (fun _ h => h) rfl dX7_isOutOfOrder_47 ?_
        refine lv_iload_n (pc := 50) hx hb dX7_isOutOfOrder_50 rfl (lv_at hl 3 rfl) ?_
        refine x_goR5 (x_runF (pc := 51) (As := [.int (nI i)]) (rest := [.int y]) E hml hl.1 hw.2 hw.1 hpl_17 (C := RJ2) (T := TJ2) (N := 3) rfl (xtJ2_get l D A V (g 0 17) (g 1 1) (cnt st 30) cap_1 (g 3 i) i mc_17 f1_1 hpl_17 hpe_1 (show i < cnt st 30 from (by omega)) hle_1 (by have := hcap_1; omega) (hel_1 _ (by omega))) E.2.2.2.2.1.2.1.2.2.2.2.2.2.1 q753 q340 q342 q51 q344 hdF_get ⟨Nat.le_of_ble_eq_true rfl, Nat.le_of_ble_eq_true rfl⟩ rfl rfl rfl (Nat.le_of_ble_eq_true rfl) dX7_isOutOfOrder_51 ⟨Nat.le_of_ble_eq_true rfl, Nat.le_of_ble_eq_true rfl⟩) ?_
        refine x_castS (pc := 56) E hw.1 k_3h (C := RX6) (T := TX6) (N := 7) rfl q754 dX7_isOutOfOrder_56 ?_
        refine x_rdN (pc := 59) (v := .int (st 31 i)) E hw.1 0 k_3h (C := RX6) (T := TX6) (N := 7) rfl in_X6 (Nat.le_of_ble_eq_true rfl) q593 (fun _ h => h) rfl dX7_isOutOfOrder_59 ?_
        refine lv_aload_n (pc := 62) hx hb dX7_isOutOfOrder_62 rfl (lv_at hl 0 rfl) ?_
        refine x_rd (pc := 63) (v := .ref (g 0 0)) E hw.1 6 h1 (C := RX9) (T := TX9) (N := 9) rfl in_X9 (Nat.le_of_ble_eq_true rfl) q664 (fun _ h => h) rfl dX7_isOutOfOrder_63 ?_
        refine x_rdN (pc := 66) (v := .ref (g 0 17)) E hw.1 17 hpx (C := RX0) (T := TX0) (N := 20) rfl in_X0 (Nat.le_of_ble_eq_true rfl) q131 (fun _ h => h) rfl dX7_isOutOfOrder_66 ?_
        refine lv_iload_n (pc := 69) hx hb dX7_isOutOfOrder_69 rfl (lv_at hl 1 rfl) ?_
        refine x_goR5 (x_runF (pc := 70) (As := [.int (nI c_)]) (rest := [.int (st 31 i), .int y]) E hml hl.1 hw.2 hw.1 hpl_17 (C := RJ2) (T := TJ2) (N := 3) rfl (xtJ2_get l D A V (g 0 17) (g 1 1) (cnt st 30) cap_1 (g 3 c_) c_ mc_17 f1_1 hpl_17 hpe_1 (show c_ < cnt st 30 from (by omega)) hle_1 (by have := hcap_1; omega) (hel_1 _ (by omega))) E.2.2.2.2.1.2.1.2.2.2.2.2.2.1 q753 q340 q342 q51 q344 hdF_get ⟨Nat.le_of_ble_eq_true rfl, Nat.le_of_ble_eq_true rfl⟩ rfl rfl rfl (Nat.le_of_ble_eq_true rfl) dX7_isOutOfOrder_70 ⟨Nat.le_of_ble_eq_true rfl, Nat.le_of_ble_eq_true rfl⟩) ?_
        obtain ⟨k_5a, k_5b, k_5c, k_5d, k_5h, k_5e⟩ := hR.ctl (j := c_) (by omega)
        refine x_castS (pc := 75) E hw.1 k_5h (C := RX6) (T := TX6) (N := 7) rfl q754 dX7_isOutOfOrder_75 ?_
        refine x_rdN (pc := 78) (v := .int (st 31 c_)) E hw.1 0 k_5h (C := RX6) (T := TX6) (N := 7) rfl in_X6 (Nat.le_of_ble_eq_true rfl) q593 (fun _ h => h) rfl dX7_isOutOfOrder_78 ?_
        refine li_icmp_le (pc := 81) (tgt := 111) hx hb dX7_isOutOfOrder_81 (by decide) (fun c_6 => ?_) (fun c_6 => ?_)
        · refine lv_iconst (pc := 111) (v := 0) hx hb dX7_isOutOfOrder_111 (by decide) ?_
          refine lv_ior (pc := 112) hx hb dX7_isOutOfOrder_112 ?_
          refine lv_istore_n (pc := 113) (lv' := [(2, .int (y ||| 0)), (0, .ref (g 4 a)), (1, .int (nI c_)), (3, .int (nI i))]) hx hb dX7_isOutOfOrder_113 rfl hl (by decide) rfl (fun ls hl => ?_)
          refine lv_iinc (pc := 114) (v := (nI (i + 1))) (lv' := [(3, .int (nI (i + 1))), (2, .int (y ||| 0)), (0, .ref (g 4 a)), (1, .int (nI c_))]) hx hb dX7_isOutOfOrder_114 hl (k := 3) rfl (nI_1 _) (by decide) rfl (fun ls hl => ?_)
          refine lv_goto (pc := 117) (tgt := 4) hx hb dX7_isOutOfOrder_117 (by decide) ?_
          exact x_toR (by simp only [xoo, if_pos c_4, if_neg c_6]) (ih_loop (i + 1) (y ||| 0) (by omega) (by rw [show xoo st a c_ k (i + 1) (y ||| 0) = xoo st a c_ (k + 1) i y from (by simp only [xoo, if_pos c_4, if_neg c_6])]; exact hyy) _ (lv_sub hl [2, 3, 1, 0] rfl))
        · refine lv_aload_n (pc := 84) hx hb dX7_isOutOfOrder_84 rfl (lv_at hl 0 rfl) ?_
          refine lv_iload_n (pc := 85) hx hb dX7_isOutOfOrder_85 rfl (lv_at hl 3 rfl) ?_
          refine x_goR (x_runU (pc := 86) (As := [.int (nI i)]) (rest := [.int y]) E hml hl.1 hw.2 hw.1 h1 (C := RX9) (T := TX9) (N := 9) rfl (xtX7_isClocked_7 l D A V st g a i hI hR ha hk (by omega)) q782 q726 q727 q724 q73 q729 rfl hdX7_isClocked.2 ⟨Nat.le_of_ble_eq_true rfl, Nat.le_of_ble_eq_true rfl⟩ rfl rfl rfl (Nat.le_of_ble_eq_true rfl) dX7_isOutOfOrder_86 ⟨Nat.le_of_ble_eq_true rfl, Nat.le_of_ble_eq_true rfl⟩) ?_
          refine lb_eq (pc := 89) (tgt := 111) hx hb dX7_isOutOfOrder_89 (by decide) (fun c_7 => ?_) (fun c_7 => ?_)
          · refine lv_iconst (pc := 111) (v := 0) hx hb dX7_isOutOfOrder_111 (by decide) ?_
            refine lv_ior (pc := 112) hx hb dX7_isOutOfOrder_112 ?_
            refine lv_istore_n (pc := 113) (lv' := [(2, .int (y ||| 0)), (0, .ref (g 4 a)), (1, .int (nI c_)), (3, .int (nI i))]) hx hb dX7_isOutOfOrder_113 rfl hl (by decide) rfl (fun ls hl => ?_)
            refine lv_iinc (pc := 114) (v := (nI (i + 1))) (lv' := [(3, .int (nI (i + 1))), (2, .int (y ||| 0)), (0, .ref (g 4 a)), (1, .int (nI c_))]) hx hb dX7_isOutOfOrder_114 hl (k := 3) rfl (nI_1 _) (by decide) rfl (fun ls hl => ?_)
            refine lv_goto (pc := 117) (tgt := 4) hx hb dX7_isOutOfOrder_117 (by decide) ?_
            exact x_toR (by simp only [xoo, if_pos c_4, if_pos c_6, if_pos (Classical.not_not.mp c_7)]) (ih_loop (i + 1) (y ||| 0) (by omega) (by rw [show xoo st a c_ k (i + 1) (y ||| 0) = xoo st a c_ (k + 1) i y from (by simp only [xoo, if_pos c_4, if_pos c_6, if_pos (Classical.not_not.mp c_7)])]; exact hyy) _ (lv_sub hl [2, 3, 1, 0] rfl))
          · refine lv_aload_n (pc := 92) hx hb dX7_isOutOfOrder_92 rfl (lv_at hl 0 rfl) ?_
            refine x_rd (pc := 93) (v := .ref (g 6 a)) E hw.1 3 h1 (C := RX9) (T := TX9) (N := 9) rfl in_X9 (Nat.le_of_ble_eq_true rfl) q660 (fun _ h => h) rfl dX7_isOutOfOrder_93 ?_
            refine lv_iload_n (pc := 96) hx hb dX7_isOutOfOrder_96 rfl (lv_at hl 3 rfl) ?_
            obtain ⟨v_8f, v_8p, v_8h⟩ := hR.ord (j := a) (by omega)
            refine x_ildN (pc := 97) (v := (nI (g (10 + a) i))) E hw.1 (i) v_8p (show i < 8 from (by omega)) (Nat.le_of_ble_eq_true rfl) (v_8h _ (by omega)) dX7_isOutOfOrder_97 ?_
            refine lv_aload_n (pc := 98) hx hb dX7_isOutOfOrder_98 rfl (lv_at hl 0 rfl) ?_
            refine x_rd (pc := 99) (v := .ref (g 6 a)) E hw.1 3 h1 (C := RX9) (T := TX9) (N := 9) rfl in_X9 (Nat.le_of_ble_eq_true rfl) q660 (fun _ h => h) rfl dX7_isOutOfOrder_99 ?_
            refine lv_iload_n (pc := 102) hx hb dX7_isOutOfOrder_102 rfl (lv_at hl 1 rfl) ?_
            refine x_ildN (pc := 103) (v := (nI (g (10 + a) c_))) E hw.1 (c_) v_8p (show c_ < 8 from (by omega)) (Nat.le_of_ble_eq_true rfl) (v_8h _ (by omega)) dX7_isOutOfOrder_103 ?_
            refine li_icmp_geN (pc := 104) (a := g (10 + a) i) (b := g (10 + a) c_) (tgt := 111) hx hb (by omega) (by omega) dX7_isOutOfOrder_104 (by decide) (fun c_9 => ?_) (fun c_9 => ?_)
            · refine lv_iconst (pc := 111) (v := 0) hx hb dX7_isOutOfOrder_111 (by decide) ?_
              refine lv_ior (pc := 112) hx hb dX7_isOutOfOrder_112 ?_
              refine lv_istore_n (pc := 113) (lv' := [(2, .int (y ||| 0)), (0, .ref (g 4 a)), (1, .int (nI c_)), (3, .int (nI i))]) hx hb dX7_isOutOfOrder_113 rfl hl (by decide) rfl (fun ls hl => ?_)
              refine lv_iinc (pc := 114) (v := (nI (i + 1))) (lv' := [(3, .int (nI (i + 1))), (2, .int (y ||| 0)), (0, .ref (g 4 a)), (1, .int (nI c_))]) hx hb dX7_isOutOfOrder_114 hl (k := 3) rfl (nI_1 _) (by decide) rfl (fun ls hl => ?_)
              refine lv_goto (pc := 117) (tgt := 4) hx hb dX7_isOutOfOrder_117 (by decide) ?_
              exact x_toR (by simp only [xoo, if_pos c_4, if_pos c_6, if_neg c_7, if_neg (fun q => c_9 ((hR.ol ha (by omega) (by omega)).mpr q))]) (ih_loop (i + 1) (y ||| 0) (by omega) (by rw [show xoo st a c_ k (i + 1) (y ||| 0) = xoo st a c_ (k + 1) i y from (by simp only [xoo, if_pos c_4, if_pos c_6, if_neg c_7, if_neg (fun q => c_9 ((hR.ol ha (by omega) (by omega)).mpr q))])]; exact hyy) _ (lv_sub hl [2, 3, 1, 0] rfl))
            · refine lv_iconst (pc := 107) (v := 1) hx hb dX7_isOutOfOrder_107 (by decide) ?_
              refine lv_goto (pc := 108) (tgt := 112) hx hb dX7_isOutOfOrder_108 (by decide) ?_
              refine lv_ior (pc := 112) hx hb dX7_isOutOfOrder_112 ?_
              refine lv_istore_n (pc := 113) (lv' := [(2, .int (y ||| 1)), (0, .ref (g 4 a)), (1, .int (nI c_)), (3, .int (nI i))]) hx hb dX7_isOutOfOrder_113 rfl hl (by decide) rfl (fun ls hl => ?_)
              refine lv_iinc (pc := 114) (v := (nI (i + 1))) (lv' := [(3, .int (nI (i + 1))), (2, .int (y ||| 1)), (0, .ref (g 4 a)), (1, .int (nI c_))]) hx hb dX7_isOutOfOrder_114 hl (k := 3) rfl (nI_1 _) (by decide) rfl (fun ls hl => ?_)
              refine lv_goto (pc := 117) (tgt := 4) hx hb dX7_isOutOfOrder_117 (by decide) ?_
              exact x_toR (by simp only [xoo, if_pos c_4, if_pos c_6, if_neg c_7, if_pos ((hR.ol ha (by omega) (by omega)).mp c_9)]) (ih_loop (i + 1) (y ||| 1) (by omega) (by rw [show xoo st a c_ k (i + 1) (y ||| 1) = xoo st a c_ (k + 1) i y from (by simp only [xoo, if_pos c_4, if_pos c_6, if_neg c_7, if_pos ((hR.ol ha (by omega) (by omega)).mp c_9)])]; exact hyy) _ (lv_sub hl [2, 3, 1, 0] rfl))
  exact x_toR (by rw [(xoo_all hI ha).1]) (loop (cnt st 30) 0 0 (by omega) (by rw [(xoo_all hI ha).1]; exact (xoo_all hI ha).2) _ (lv_sub hl [2, 3, 1, 0] rfl))
theorem min300 (x : Int64) : (if x.toInt < (300 : Int64).toInt then x else (300 : Int64)) = if 300 < x.toInt then 300 else x := by
  have e : (300 : Int64).toInt = 300 := rfl
  rw [e]
  by_cases h : x.toInt < 300
  · rw [if_pos h, if_neg (by omega)]
  · rw [if_neg h]
    by_cases h2 : 300 < x.toInt
    · rw [if_pos h2]
    · rw [if_neg h2]
      exact (Int64.toInt_inj.mp (by rw [e]; omega)).symm
set_option maxHeartbeats 4000000 in
set_option maxRecDepth 100000 in
theorem xtX7_cost_5 (l : Launch) (D : xD) (A : Nat → Prop) (V : xV) (st : mS) (g : xG) (a : Nat) (z : Int64) (hI : mI st) (hR : xR D st g V) (ha : a < cnt st 35) (hk : st 37 a = 0)  : Met l yX7_cost (ws_ yX7_cost cX7_cost 3 (some .int)) (xRm 1 0 0) (xP D A V [.ref (g 4 a), .long z]) (k2_QcV (.int (cs1 z).toInt32)) 0 0 (fun _ => False) := by
  refine x_headR (own := RX7) (As := [.ref (g 4 a), .long z]) (bytes := cX7_cost) (maxL := 3) (ret := (some .int)) (by decide) rfl (Nat.le_of_ble_eq_true rfl) ?_
  intro p e s m below meth c E hml hr hlk hw0 ls hl
  have hw : xWd D A s V s.heap [] := ⟨hw0, va_S.rf⟩
  have hx := E.1
  have hb := E.2.1
  have hts := E.2.2.1
  have hown := E.2.2.2.1
  have hl : lv_has ls 3 [(0, .ref (g 4 a)), (1, .long z)] := hl
  have h16 := hI.r16
  have h10 := hI.l10
  have hv8 := hI.v8
  have hc8 := hI.c8
  have hk8 := hI.k8
  have hb8 := hI.b8
  have h1 := hR.car5 ha hk
  have h9 := hR.o9 hI ha
  refine lv_ldc2 (pc := 0) hx hb hown (hts _ q805) dX7_cost_0 ?_
  refine lv_lload_n (pc := 3) hx hb dX7_cost_3 rfl (lv_at hl 1 rfl) ?_
  refine lv_lconst (pc := 4) (v := 0) hx hb dX7_cost_4 (by decide) ?_
  refine ll_geL (pc := 5) (Y := 0) (tgt := 25) hx hb rfl dX7_cost_5 dX7_cost_6 (by decide) (fun c_1 => ?_) (fun c_1 => ?_)
  · refine lv_lload_n (pc := 25) hx hb dX7_cost_25 rfl (lv_at hl 1 rfl) ?_
    refine lv_ldc2 (pc := 26) hx hb hown (hts _ q807) dX7_cost_26 ?_
    refine lv_ladd (pc := 29) hx hb dX7_cost_29 ?_
    refine lv_ldc2 (pc := 30) hx hb hown (hts _ q808) dX7_cost_30 ?_
    refine lv_ldiv (pc := 33) hx hb dX7_cost_33 (by decide) ?_
    refine x_mmin_2 (pc := 34) (rest := []) hx hb hts hown hml hl.1 q765 (Nat.le_of_ble_eq_true rfl) (Nat.le_of_ble_eq_true rfl) (Nat.le_of_ble_eq_true rfl) (Nat.le_of_ble_eq_true rfl) dX7_cost_34 ?_
    refine lv_l2i (pc := 37) (v := (if ((z + 9) / 10 : Int64).toInt < (300 : Int64).toInt then (z + 9) / 10 else 300 : Int64).toInt32) hx hb dX7_cost_37 rfl ?_
    exact m_iretS hx hb hr hlk dX7_cost_38 (by simp only [cs1, cs0, if_neg c_1, min300])
  · refine lv_ldc2 (pc := 9) hx hb hown (hts _ q806) dX7_cost_9 ?_
    refine lv_ldc2 (pc := 12) hx hb hown (hts _ q807) dX7_cost_12 ?_
    refine lv_lload_n (pc := 15) hx hb dX7_cost_15 rfl (lv_at hl 1 rfl) ?_
    refine lv_lsub (pc := 16) hx hb dX7_cost_16 ?_
    refine lv_ldc2 (pc := 17) hx hb hown (hts _ q808) dX7_cost_17 ?_
    refine lv_ldiv (pc := 20) hx hb dX7_cost_20 (by decide) ?_
    refine lv_lmul (pc := 21) hx hb dX7_cost_21 ?_
    refine lv_goto (pc := 22) (tgt := 34) hx hb dX7_cost_22 (by decide) ?_
    refine x_mmin_2 (pc := 34) (rest := []) hx hb hts hown hml hl.1 q765 (Nat.le_of_ble_eq_true rfl) (Nat.le_of_ble_eq_true rfl) (Nat.le_of_ble_eq_true rfl) (Nat.le_of_ble_eq_true rfl) dX7_cost_34 ?_
    refine lv_l2i (pc := 37) (v := (if (2 * ((9 - z) / 10) : Int64).toInt < (300 : Int64).toInt then 2 * ((9 - z) / 10) else 300 : Int64).toInt32) hx hb dX7_cost_37 rfl ?_
    exact m_iretS hx hb hr hlk dX7_cost_38 (by simp only [cs1, cs0, if_pos c_1, min300])
set_option maxHeartbeats 4000000 in
set_option maxRecDepth 100000 in
theorem xtX7_cost_6 (l : Launch) (D : xD) (A : Nat → Prop) (V : xV) (st : mS) (g : xG) (a : Nat) (z : Int64) (hI : mI st) (hR : xR D st g V) (ha : a < cnt st 35) (hk : st 37 a = 1)  : Met l yX7_cost (ws_ yX7_cost cX7_cost 3 (some .int)) (xRm 1 0 0) (xP D A V [.ref (g 4 a), .long z]) (k2_QcV (.int (cs1 z).toInt32)) 0 0 (fun _ => False) := by
  refine x_headR (own := RX7) (As := [.ref (g 4 a), .long z]) (bytes := cX7_cost) (maxL := 3) (ret := (some .int)) (by decide) rfl (Nat.le_of_ble_eq_true rfl) ?_
  intro p e s m below meth c E hml hr hlk hw0 ls hl
  have hw : xWd D A s V s.heap [] := ⟨hw0, va_S.rf⟩
  have hx := E.1
  have hb := E.2.1
  have hts := E.2.2.1
  have hown := E.2.2.2.1
  have hl : lv_has ls 3 [(0, .ref (g 4 a)), (1, .long z)] := hl
  have h16 := hI.r16
  have h10 := hI.l10
  have hv8 := hI.v8
  have hc8 := hI.c8
  have hk8 := hI.k8
  have hb8 := hI.b8
  have h1 := hR.car6 ha hk
  have h9 := hR.o9 hI ha
  refine lv_ldc2 (pc := 0) hx hb hown (hts _ q805) dX7_cost_0 ?_
  refine lv_lload_n (pc := 3) hx hb dX7_cost_3 rfl (lv_at hl 1 rfl) ?_
  refine lv_lconst (pc := 4) (v := 0) hx hb dX7_cost_4 (by decide) ?_
  refine ll_geL (pc := 5) (Y := 0) (tgt := 25) hx hb rfl dX7_cost_5 dX7_cost_6 (by decide) (fun c_1 => ?_) (fun c_1 => ?_)
  · refine lv_lload_n (pc := 25) hx hb dX7_cost_25 rfl (lv_at hl 1 rfl) ?_
    refine lv_ldc2 (pc := 26) hx hb hown (hts _ q807) dX7_cost_26 ?_
    refine lv_ladd (pc := 29) hx hb dX7_cost_29 ?_
    refine lv_ldc2 (pc := 30) hx hb hown (hts _ q808) dX7_cost_30 ?_
    refine lv_ldiv (pc := 33) hx hb dX7_cost_33 (by decide) ?_
    refine x_mmin_2 (pc := 34) (rest := []) hx hb hts hown hml hl.1 q765 (Nat.le_of_ble_eq_true rfl) (Nat.le_of_ble_eq_true rfl) (Nat.le_of_ble_eq_true rfl) (Nat.le_of_ble_eq_true rfl) dX7_cost_34 ?_
    refine lv_l2i (pc := 37) (v := (if ((z + 9) / 10 : Int64).toInt < (300 : Int64).toInt then (z + 9) / 10 else 300 : Int64).toInt32) hx hb dX7_cost_37 rfl ?_
    exact m_iretS hx hb hr hlk dX7_cost_38 (by simp only [cs1, cs0, if_neg c_1, min300])
  · refine lv_ldc2 (pc := 9) hx hb hown (hts _ q806) dX7_cost_9 ?_
    refine lv_ldc2 (pc := 12) hx hb hown (hts _ q807) dX7_cost_12 ?_
    refine lv_lload_n (pc := 15) hx hb dX7_cost_15 rfl (lv_at hl 1 rfl) ?_
    refine lv_lsub (pc := 16) hx hb dX7_cost_16 ?_
    refine lv_ldc2 (pc := 17) hx hb hown (hts _ q808) dX7_cost_17 ?_
    refine lv_ldiv (pc := 20) hx hb dX7_cost_20 (by decide) ?_
    refine lv_lmul (pc := 21) hx hb dX7_cost_21 ?_
    refine lv_goto (pc := 22) (tgt := 34) hx hb dX7_cost_22 (by decide) ?_
    refine x_mmin_2 (pc := 34) (rest := []) hx hb hts hown hml hl.1 q765 (Nat.le_of_ble_eq_true rfl) (Nat.le_of_ble_eq_true rfl) (Nat.le_of_ble_eq_true rfl) (Nat.le_of_ble_eq_true rfl) dX7_cost_34 ?_
    refine lv_l2i (pc := 37) (v := (if (2 * ((9 - z) / 10) : Int64).toInt < (300 : Int64).toInt then 2 * ((9 - z) / 10) else 300 : Int64).toInt32) hx hb dX7_cost_37 rfl ?_
    exact m_iretS hx hb hr hlk dX7_cost_38 (by simp only [cs1, cs0, if_pos c_1, min300])
set_option maxHeartbeats 4000000 in
set_option maxRecDepth 100000 in
theorem xtX7_cost_7 (l : Launch) (D : xD) (A : Nat → Prop) (V : xV) (st : mS) (g : xG) (a : Nat) (z : Int64) (hI : mI st) (hR : xR D st g V) (ha : a < cnt st 35) (hk : st 37 a = 2)  : Met l yX7_cost (ws_ yX7_cost cX7_cost 3 (some .int)) (xRm 1 0 0) (xP D A V [.ref (g 4 a), .long z]) (k2_QcV (.int (cs1 z).toInt32)) 0 0 (fun _ => False) := by
  refine x_headR (own := RX7) (As := [.ref (g 4 a), .long z]) (bytes := cX7_cost) (maxL := 3) (ret := (some .int)) (by decide) rfl (Nat.le_of_ble_eq_true rfl) ?_
  intro p e s m below meth c E hml hr hlk hw0 ls hl
  have hw : xWd D A s V s.heap [] := ⟨hw0, va_S.rf⟩
  have hx := E.1
  have hb := E.2.1
  have hts := E.2.2.1
  have hown := E.2.2.2.1
  have hl : lv_has ls 3 [(0, .ref (g 4 a)), (1, .long z)] := hl
  have h16 := hI.r16
  have h10 := hI.l10
  have hv8 := hI.v8
  have hc8 := hI.c8
  have hk8 := hI.k8
  have hb8 := hI.b8
  have h1 := hR.car7 ha hk
  have h9 := hR.o9 hI ha
  refine lv_ldc2 (pc := 0) hx hb hown (hts _ q805) dX7_cost_0 ?_
  refine lv_lload_n (pc := 3) hx hb dX7_cost_3 rfl (lv_at hl 1 rfl) ?_
  refine lv_lconst (pc := 4) (v := 0) hx hb dX7_cost_4 (by decide) ?_
  refine ll_geL (pc := 5) (Y := 0) (tgt := 25) hx hb rfl dX7_cost_5 dX7_cost_6 (by decide) (fun c_1 => ?_) (fun c_1 => ?_)
  · refine lv_lload_n (pc := 25) hx hb dX7_cost_25 rfl (lv_at hl 1 rfl) ?_
    refine lv_ldc2 (pc := 26) hx hb hown (hts _ q807) dX7_cost_26 ?_
    refine lv_ladd (pc := 29) hx hb dX7_cost_29 ?_
    refine lv_ldc2 (pc := 30) hx hb hown (hts _ q808) dX7_cost_30 ?_
    refine lv_ldiv (pc := 33) hx hb dX7_cost_33 (by decide) ?_
    refine x_mmin_2 (pc := 34) (rest := []) hx hb hts hown hml hl.1 q765 (Nat.le_of_ble_eq_true rfl) (Nat.le_of_ble_eq_true rfl) (Nat.le_of_ble_eq_true rfl) (Nat.le_of_ble_eq_true rfl) dX7_cost_34 ?_
    refine lv_l2i (pc := 37) (v := (if ((z + 9) / 10 : Int64).toInt < (300 : Int64).toInt then (z + 9) / 10 else 300 : Int64).toInt32) hx hb dX7_cost_37 rfl ?_
    exact m_iretS hx hb hr hlk dX7_cost_38 (by simp only [cs1, cs0, if_neg c_1, min300])
  · refine lv_ldc2 (pc := 9) hx hb hown (hts _ q806) dX7_cost_9 ?_
    refine lv_ldc2 (pc := 12) hx hb hown (hts _ q807) dX7_cost_12 ?_
    refine lv_lload_n (pc := 15) hx hb dX7_cost_15 rfl (lv_at hl 1 rfl) ?_
    refine lv_lsub (pc := 16) hx hb dX7_cost_16 ?_
    refine lv_ldc2 (pc := 17) hx hb hown (hts _ q808) dX7_cost_17 ?_
    refine lv_ldiv (pc := 20) hx hb dX7_cost_20 (by decide) ?_
    refine lv_lmul (pc := 21) hx hb dX7_cost_21 ?_
    refine lv_goto (pc := 22) (tgt := 34) hx hb dX7_cost_22 (by decide) ?_
    refine x_mmin_2 (pc := 34) (rest := []) hx hb hts hown hml hl.1 q765 (Nat.le_of_ble_eq_true rfl) (Nat.le_of_ble_eq_true rfl) (Nat.le_of_ble_eq_true rfl) (Nat.le_of_ble_eq_true rfl) dX7_cost_34 ?_
    refine lv_l2i (pc := 37) (v := (if (2 * ((9 - z) / 10) : Int64).toInt < (300 : Int64).toInt then 2 * ((9 - z) / 10) else 300 : Int64).toInt32) hx hb dX7_cost_37 rfl ?_
    exact m_iretS hx hb hr hlk dX7_cost_38 (by simp only [cs1, cs0, if_pos c_1, min300])
