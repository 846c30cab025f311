/-! the library classes' methods that RegularRally reaches: Math (rows of the kit), Objects, Preconditions, ArraysSupport -/
section XM
variable {p : Program} {l : Launch} {e : Env} {R : Room} {s : State} {m : MethodId} {args : Array Value} {below : List Frame} {meth : Method} {c : Code} {H : Heap} {locs : List Loc} {cells slots : Nat} {Q : State → Prop}
variable {cc : ByteArray} {pc nL index : Nat} {ls : Array Slot} {rest : List Value} {own : String}
theorem x_mmax (hx : p.tables.exec = Jvm.exec) (hb : c.code = cc) (hts : ∀ w ∈ lw_all, w.before args s = true) (hown : s.vm.findClass own = some m.cls) (hml : c.maxLocals = nL) (hls : ls.size = nL) (h1 : Cond.methodLink own index yJ4_max ∈ lw_all) (hframes : 1 ≤ R.frames) (hlocals : (rest.map fun v => v.category).sum + 15 ≤ R.locals) (hc : cells ≤ R.cells) (hs : slots ≤ R.slots) {x y : Int32} (hdg : decode cc pc = .ok (.invokestatic index, 3))
    (kk : W p l e R s m args below meth c H locs cells slots Q (F0 m (pc + 3) ls (.int (if x.toInt < y.toInt then y else x) :: rest))) : W p l e R s m args below meth c H locs cells slots Q (F0 m pc ls (.int y :: .int x :: rest)) := by
  refine va_mmax hx hb (by rw [hml, hls]) hown (hts _ h1) (hts _ q286) (hts _ q57) (hts _ q287) hframes (by omega) hc hs hdg ?_
  have e0 : (x < y) = (x.toInt < y.toInt) := propext Int32.lt_iff_toInt_lt
  simp only [e0]
  exact kk
theorem x_mmin (hx : p.tables.exec = Jvm.exec) (hb : c.code = cc) (hts : ∀ w ∈ lw_all, w.before args s = true) (hown : s.vm.findClass own = some m.cls) (hml : c.maxLocals = nL) (hls : ls.size = nL) (h1 : Cond.methodLink own index yJ4_min ∈ lw_all) (hframes : 1 ≤ R.frames) (hlocals : (rest.map fun v => v.category).sum + 15 ≤ R.locals) (hc : cells ≤ R.cells) (hs : slots ≤ R.slots) {x y : Int32} (hdg : decode cc pc = .ok (.invokestatic index, 3))
    (kk : W p l e R s m args below meth c H locs cells slots Q (F0 m (pc + 3) ls (.int (if y.toInt < x.toInt then y else x) :: rest))) : W p l e R s m args below meth c H locs cells slots Q (F0 m pc ls (.int y :: .int x :: rest)) := by
  refine va_mmin hx hb (by rw [hml, hls]) hown (hts _ h1) (hts _ q321) (hts _ q57) (hts _ q322) hframes (by omega) hc hs hdg ?_
  have e0 : (y < x) = (y.toInt < x.toInt) := propext Int32.lt_iff_toInt_lt
  simp only [e0]
  exact kk
theorem x_mmax_2 (hx : p.tables.exec = Jvm.exec) (hb : c.code = cc) (hts : ∀ w ∈ lw_all, w.before args s = true) (hown : s.vm.findClass own = some m.cls) (hml : c.maxLocals = nL) (hls : ls.size = nL) (h1 : Cond.methodLink own index yJ4_max_2 ∈ lw_all) (hframes : 1 ≤ R.frames) (hlocals : (rest.map fun v => v.category).sum + 15 ≤ R.locals) (hc : cells ≤ R.cells) (hs : slots ≤ R.slots) {x y : Int64} (hdg : decode cc pc = .ok (.invokestatic index, 3))
    (kk : W p l e R s m args below meth c H locs cells slots Q (F0 m (pc + 3) ls (.long (if y.toInt < x.toInt then x else y) :: rest))) : W p l e R s m args below meth c H locs cells slots Q (F0 m pc ls (.long y :: .long x :: rest)) := by
  refine va_mmax_long hx hb (by rw [hml, hls]) hown (hts _ h1) (hts _ q769) (hts _ q57) (hts _ q770) hframes (by omega) hc hs hdg ?_
  have e0 : (y < x) = (y.toInt < x.toInt) := propext Int64.lt_iff_toInt_lt
  simp only [e0]
  exact kk
theorem x_mmin_2 (hx : p.tables.exec = Jvm.exec) (hb : c.code = cc) (hts : ∀ w ∈ lw_all, w.before args s = true) (hown : s.vm.findClass own = some m.cls) (hml : c.maxLocals = nL) (hls : ls.size = nL) (h1 : Cond.methodLink own index yJ4_min_2 ∈ lw_all) (hframes : 1 ≤ R.frames) (hlocals : (rest.map fun v => v.category).sum + 15 ≤ R.locals) (hc : cells ≤ R.cells) (hs : slots ≤ R.slots) {x y : Int64} (hdg : decode cc pc = .ok (.invokestatic index, 3))
    (kk : W p l e R s m args below meth c H locs cells slots Q (F0 m (pc + 3) ls (.long (if y.toInt < x.toInt then y else x) :: rest))) : W p l e R s m args below meth c H locs cells slots Q (F0 m pc ls (.long y :: .long x :: rest)) := by
  refine va_mmin_long hx hb (by rw [hml, hls]) hown (hts _ h1) (hts _ q766) (hts _ q57) (hts _ q767) hframes (by omega) hc hs hdg ?_
  have e0 : (y < x) = (y.toInt < x.toInt) := propext Int64.lt_iff_toInt_lt
  simp only [e0]
  exact kk
end XM
set_option maxHeartbeats 4000000 in
set_option maxRecDepth 100000 in
theorem xtJ3_newLength_10 (l : Launch)   : Met l yJ3_newLength (ws_ yJ3_newLength cJ3_newLength 4 (some .int)) (xRm 2 0 0) (fun v _ => v = ([.int 10, .int 1, .int 5] : List Value).toArray) (k2_QcV (.int 15)) 0 0 (fun _ => False) := by
  refine x_headS (own := RJ3) (As := [.int 10, .int 1, .int 5]) (bytes := cJ3_newLength) (maxL := 4) (ret := (some .int)) (by decide) rfl (Nat.le_of_ble_eq_true rfl) ?_
  intro p e s m below meth c hx hb hts hown hml hr hlk ls hl
  have hl : lv_has ls 4 [(0, .int 10), (1, .int 1), (2, .int 5)] := hl
  refine lv_iload_n (pc := 0) hx hb dJ3_newLength_0 rfl (lv_at hl 0 rfl) ?_
  refine lv_iload_n (pc := 1) hx hb dJ3_newLength_1 rfl (lv_at hl 1 rfl) ?_
  refine lv_iload_n (pc := 2) hx hb dJ3_newLength_2 rfl (lv_at hl 2 rfl) ?_
  refine x_mmax (pc := 3) (rest := [.int 10]) hx hb hts hown hml hl.1 q285 (Nat.le_of_ble_eq_true rfl) (Nat.le_of_ble_eq_true rfl) (Nat.le_of_ble_eq_true rfl) (Nat.le_of_ble_eq_true rfl) dJ3_newLength_3 ?_
  refine li_top (v' := .int 5) (by decide) ?_
  refine lv_iadd (pc := 6) hx hb dJ3_newLength_6 ?_
  refine li_top (v' := .int 15) (by decide) ?_
  refine lv_istore_n (pc := 7) (lv' := [(3, .int 15), (0, .int 10), (1, .int 1), (2, .int 5)]) hx hb dJ3_newLength_7 rfl hl (by decide) rfl (fun ls hl => ?_)
  refine lv_iconst (pc := 8) (v := 0) hx hb dJ3_newLength_8 (by decide) ?_
  refine lv_iload_n (pc := 9) hx hb dJ3_newLength_9 rfl (lv_at hl 0 rfl) ?_
  refine li_icmp_geL (pc := 10) (Y := 15) (tgt := 21) hx hb rfl dJ3_newLength_10 (by decide) (fun h_ => absurd h_ (by decide)) (fun _ => ?_)
  refine lv_iload_n (pc := 13) hx hb dJ3_newLength_13 rfl (lv_at hl 0 rfl) ?_
  refine lv_ldc (pc := 14) hx hb hown (hts _ q288) dJ3_newLength_14 ?_
  refine li_icmp_gtL (pc := 16) (Y := 2147483639) (tgt := 21) hx hb rfl dJ3_newLength_16 (by decide) (fun h_ => absurd h_ (by decide)) (fun _ => ?_)
  refine lv_iload_n (pc := 19) hx hb dJ3_newLength_19 rfl (lv_at hl 0 rfl) ?_
  exact m_iretS hx hb hr hlk dJ3_newLength_20 rfl
set_option maxHeartbeats 4000000 in
set_option maxRecDepth 100000 in
theorem xtJ3_newLength_15 (l : Launch)   : Met l yJ3_newLength (ws_ yJ3_newLength cJ3_newLength 4 (some .int)) (xRm 2 0 0) (fun v _ => v = ([.int 15, .int 1, .int 7] : List Value).toArray) (k2_QcV (.int 22)) 0 0 (fun _ => False) := by
  refine x_headS (own := RJ3) (As := [.int 15, .int 1, .int 7]) (bytes := cJ3_newLength) (maxL := 4) (ret := (some .int)) (by decide) rfl (Nat.le_of_ble_eq_true rfl) ?_
  intro p e s m below meth c hx hb hts hown hml hr hlk ls hl
  have hl : lv_has ls 4 [(0, .int 15), (1, .int 1), (2, .int 7)] := hl
  refine lv_iload_n (pc := 0) hx hb dJ3_newLength_0 rfl (lv_at hl 0 rfl) ?_
  refine lv_iload_n (pc := 1) hx hb dJ3_newLength_1 rfl (lv_at hl 1 rfl) ?_
  refine lv_iload_n (pc := 2) hx hb dJ3_newLength_2 rfl (lv_at hl 2 rfl) ?_
  refine x_mmax (pc := 3) (rest := [.int 15]) hx hb hts hown hml hl.1 q285 (Nat.le_of_ble_eq_true rfl) (Nat.le_of_ble_eq_true rfl) (Nat.le_of_ble_eq_true rfl) (Nat.le_of_ble_eq_true rfl) dJ3_newLength_3 ?_
  refine li_top (v' := .int 7) (by decide) ?_
  refine lv_iadd (pc := 6) hx hb dJ3_newLength_6 ?_
  refine li_top (v' := .int 22) (by decide) ?_
  refine lv_istore_n (pc := 7) (lv' := [(3, .int 22), (0, .int 15), (1, .int 1), (2, .int 7)]) hx hb dJ3_newLength_7 rfl hl (by decide) rfl (fun ls hl => ?_)
  refine lv_iconst (pc := 8) (v := 0) hx hb dJ3_newLength_8 (by decide) ?_
  refine lv_iload_n (pc := 9) hx hb dJ3_newLength_9 rfl (lv_at hl 0 rfl) ?_
  refine li_icmp_geL (pc := 10) (Y := 22) (tgt := 21) hx hb rfl dJ3_newLength_10 (by decide) (fun h_ => absurd h_ (by decide)) (fun _ => ?_)
  refine lv_iload_n (pc := 13) hx hb dJ3_newLength_13 rfl (lv_at hl 0 rfl) ?_
  refine lv_ldc (pc := 14) hx hb hown (hts _ q288) dJ3_newLength_14 ?_
  refine li_icmp_gtL (pc := 16) (Y := 2147483639) (tgt := 21) hx hb rfl dJ3_newLength_16 (by decide) (fun h_ => absurd h_ (by decide)) (fun _ => ?_)
  refine lv_iload_n (pc := 19) hx hb dJ3_newLength_19 rfl (lv_at hl 0 rfl) ?_
  exact m_iretS hx hb hr hlk dJ3_newLength_20 rfl
set_option maxHeartbeats 4000000 in
set_option maxRecDepth 100000 in
theorem xtJ7_checkIndex (l : Launch) (i : Nat) (n : Nat) (hi : i < n) (hn : n < 2 ^ 31) : Met l yJ7_checkIndex (ws_ yJ7_checkIndex cJ7_checkIndex 3 (some .int)) (xRm 1 0 0) (fun v _ => v = ([.int (nI i), .int (nI n), .null] : List Value).toArray) (k2_QcV (.int (nI i))) 0 0 (fun _ => False) := by
  refine x_headS (own := RJ7) (As := [.int (nI i), .int (nI n), .null]) (bytes := cJ7_checkIndex) (maxL := 3) (ret := (some .int)) (by decide) rfl (Nat.le_of_ble_eq_true rfl) ?_
  intro p e s m below meth c hx hb hts hown hml hr hlk ls hl
  have hl : lv_has ls 3 [(0, .int (nI i)), (1, .int (nI n)), (2, .null)] := hl
  refine lv_iload_n (pc := 0) hx hb dJ7_checkIndex_0 rfl (lv_at hl 0 rfl) ?_
  refine li_if_lt (pc := 1) (tgt := 9) hx hb dJ7_checkIndex_1 (by decide) (fun c_1 => absurd c_1 (by rw [nI_toInt (by omega)]; omega)) (fun c_1 => ?_)
  refine lv_iload_n (pc := 4) hx hb dJ7_checkIndex_4 rfl (lv_at hl 0 rfl) ?_
  refine lv_iload_n (pc := 5) hx hb dJ7_checkIndex_5 rfl (lv_at hl 1 rfl) ?_
  refine li_icmp_ltN (pc := 6) (a := i) (b := n) (tgt := 16) hx hb (by omega) (by omega) dJ7_checkIndex_6 (by decide) (fun c_2 => ?_) (fun c_2 => absurd c_2 (by omega))
  refine lv_iload_n (pc := 16) hx hb dJ7_checkIndex_16 rfl (lv_at hl 0 rfl) ?_
  exact m_iretS hx hb hr hlk dJ7_checkIndex_17 rfl
set_option maxHeartbeats 4000000 in
set_option maxRecDepth 100000 in
theorem xtJ6_checkIndex (l : Launch) (i : Nat) (n : Nat) (hi : i < n) (hn : n < 2 ^ 31) : Met l yJ6_checkIndex (ws_ yJ6_checkIndex cJ6_checkIndex 2 (some .int)) (xRm 2 0 0) (fun v _ => v = ([.int (nI i), .int (nI n)] : List Value).toArray) (k2_QcV (.int (nI i))) 0 0 (fun _ => False) := by
  refine x_headS (own := RJ6) (As := [.int (nI i), .int (nI n)]) (bytes := cJ6_checkIndex) (maxL := 2) (ret := (some .int)) (by decide) rfl (Nat.le_of_ble_eq_true rfl) ?_
  intro p e s m below meth c hx hb hts hown hml hr hlk ls hl
  have hl : lv_has ls 2 [(0, .int (nI i)), (1, .int (nI n))] := hl
  refine lv_iload_n (pc := 0) hx hb dJ6_checkIndex_0 rfl (lv_at hl 0 rfl) ?_
  refine lv_iload_n (pc := 1) hx hb dJ6_checkIndex_1 rfl (lv_at hl 1 rfl) ?_
  refine lv_null (pc := 2) hx hb dJ6_checkIndex_2 ?_
  refine x_goR (x_runSS (pc := 3) (As := [.int (nI i), .int (nI n), .null]) (rest := []) hx hb hts hown hml hl.1 (x_preE) (xtJ7_checkIndex l i n hi hn) q348 q349 q61 q350 hdJ7_checkIndex.2 ⟨Nat.le_of_ble_eq_true rfl, Nat.le_of_ble_eq_true rfl⟩ rfl rfl rfl (Nat.le_of_ble_eq_true rfl) dJ6_checkIndex_3 ⟨Nat.le_of_ble_eq_true rfl, Nat.le_of_ble_eq_true rfl⟩) ?_
  exact m_iretS hx hb hr hlk dJ6_checkIndex_6 rfl
