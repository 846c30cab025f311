/-! rows over a road, over a car, of whatever kind; calls of their methods -/
section XF
variable {p : Program} {l : Launch} {e : Env} {R : Room} {s : State} {m : MethodId} {args : Array Value} {below : List Frame} {meth : Method} {c : Code} {H : Heap} {locs : List Loc} {cells slots : Nat} {Q : State → Prop}
variable {cc : ByteArray} {pc nL index : Nat} {ls : Array Slot} {rest : List Value} {D : xD} {A : Nat → Prop} {V : xV} {own host : String} {q x : Nat} {kd a b d sh wt : Int32}
theorem x_rdRo (E : xE own p c cc s m args D A) (hw : xW D A V H) {v : Int32} (ha : V q = some (xRoE kd a b d sh wt x)) (k : Nat) (hk : k < 4) (hl : Cond.fieldLink own index "RegularRally$Road" (TX2 k).2.1 (TX2 k).2.2.1 ∈ lw_all) (hv : [a, b, d, sh][k]? = some v) (hd : decode cc pc = .ok (.getfield index, 3))
    (kk : W p l e R s m args below meth c H locs cells slots Q (F0 m (pc + 3) ls (.int v :: rest))) : W p l e R s m args below meth c H locs cells slots Q (F0 m pc ls (.ref q :: rest)) := by
  unfold xRoE at ha
  have hk' : k = 0 ∨ k = 1 ∨ k = 2 ∨ k = 3 := by omega
  split at ha
  · rcases hk' with rfl | rfl | rfl | rfl <;> (cases hv; exact x_rd E hw _ ha (C := RX2) (T := TX2) (N := 5) rfl in_X2 (by decide) hl (fun _ h => h) rfl hd kk)
  · split at ha
    · rcases hk' with rfl | rfl | rfl | rfl
      · cases hv; exact x_rd E hw 0 ha (C := RX3) (T := TX3) (N := 6) rfl in_X3 (by decide) hl (fun _ h => h) rfl hd kk
      · cases hv; exact x_rd E hw 1 ha (C := RX3) (T := TX3) (N := 6) rfl in_X3 (by decide) hl (fun _ h => h) rfl hd kk
      · cases hv; exact x_rd E hw 2 ha (C := RX3) (T := TX3) (N := 6) rfl in_X3 (by decide) hl (fun _ h => h) rfl hd kk
      · cases hv; exact x_rd E hw 3 ha (C := RX3) (T := TX3) (N := 6) rfl in_X3 (by decide) hl (fun _ h => h) rfl hd kk
    · rcases hk' with rfl | rfl | rfl | rfl
      · cases hv; exact x_rd E hw 0 ha (C := RX4) (T := TX4) (N := 7) rfl in_X4 (by decide) hl (fun _ h => h) rfl hd kk
      · cases hv; exact x_rd E hw 1 ha (C := RX4) (T := TX4) (N := 7) rfl in_X4 (by decide) hl (fun _ h => h) rfl hd kk
      · cases hv; exact x_rd E hw 2 ha (C := RX4) (T := TX4) (N := 7) rfl in_X4 (by decide) hl (fun _ h => h) rfl hd kk
      · cases hv; exact x_rd E hw 3 ha (C := RX4) (T := TX4) (N := 7) rfl in_X4 (by decide) hl (fun _ h => h) rfl hd kk
theorem x_rdRoN (E : xE own p c cc s m args D A) (hw : xW D A V H) {v : Int32} (ha : V q = some (xRoE kd a b d sh wt x)) (k : Nat) (hk : k < 4) (hl : Cond.fieldLinkNest own index "RegularRally$Road" (TX2 k).2.1 (TX2 k).2.2.1 host ∈ lw_tbl) (hv : [a, b, d, sh][k]? = some v) (hd : decode cc pc = .ok (.getfield index, 3))
    (kk : W p l e R s m args below meth c H locs cells slots Q (F0 m (pc + 3) ls (.int v :: rest))) : W p l e R s m args below meth c H locs cells slots Q (F0 m pc ls (.ref q :: rest)) := by
  unfold xRoE at ha
  have hk' : k = 0 ∨ k = 1 ∨ k = 2 ∨ k = 3 := by omega
  split at ha
  · rcases hk' with rfl | rfl | rfl | rfl <;> (cases hv; exact x_rdN E hw _ ha (C := RX2) (T := TX2) (N := 5) rfl in_X2 (by decide) hl (fun _ h => h) rfl hd kk)
  · split at ha
    · rcases hk' with rfl | rfl | rfl | rfl
      · cases hv; exact x_rdN E hw 0 ha (C := RX3) (T := TX3) (N := 6) rfl in_X3 (by decide) hl (fun _ h => h) rfl hd kk
      · cases hv; exact x_rdN E hw 1 ha (C := RX3) (T := TX3) (N := 6) rfl in_X3 (by decide) hl (fun _ h => h) rfl hd kk
      · cases hv; exact x_rdN E hw 2 ha (C := RX3) (T := TX3) (N := 6) rfl in_X3 (by decide) hl (fun _ h => h) rfl hd kk
      · cases hv; exact x_rdN E hw 3 ha (C := RX3) (T := TX3) (N := 6) rfl in_X3 (by decide) hl (fun _ h => h) rfl hd kk
    · rcases hk' with rfl | rfl | rfl | rfl
      · cases hv; exact x_rdN E hw 0 ha (C := RX4) (T := TX4) (N := 7) rfl in_X4 (by decide) hl (fun _ h => h) rfl hd kk
      · cases hv; exact x_rdN E hw 1 ha (C := RX4) (T := TX4) (N := 7) rfl in_X4 (by decide) hl (fun _ h => h) rfl hd kk
      · cases hv; exact x_rdN E hw 2 ha (C := RX4) (T := TX4) (N := 7) rfl in_X4 (by decide) hl (fun _ h => h) rfl hd kk
      · cases hv; exact x_rdN E hw 3 ha (C := RX4) (T := TX4) (N := 7) rfl in_X4 (by decide) hl (fun _ h => h) rfl hd kk
theorem x_castRo (E : xE own p c cc s m args D A) (hw : xW D A V H) (ha : V q = some (xRoE kd a b d sh wt x)) (hl : Cond.classLink own index "RegularRally$Road" ∈ lw_all) (hd : decode cc pc = .ok (.checkcast index, 3))
    (kk : W p l e R s m args below meth c H locs cells slots Q (F0 m (pc + 3) ls (.ref q :: rest))) : W p l e R s m args below meth c H locs cells slots Q (F0 m pc ls (.ref q :: rest)) := by
  unfold xRoE at ha
  split at ha
  · exact x_castS E hw ha (C := RX2) (T := TX2) (N := 5) rfl hl hd kk
  · split at ha
    · exact x_castY E hw ha (C := RX3) (T := TX3) (N := 6) rfl hl q1500 hd kk
    · exact x_castY E hw ha (C := RX4) (T := TX4) (N := 7) rfl hl q1499 hd kk
/-- a road is shut or opened -/
theorem x_putRo (E : xE "RegularRally" p c cc s m args D A) (hw : xWd D A s V H locs) {v : Int32} (ha : V q = some (xRoE kd a b d sh wt x)) (hv : v = 0 ∨ v = 1) (hd : decode cc pc = .ok (.putfield 98, 3))
    (kk : ∀ (V1 : xV) (H : Heap) (locs : List Loc), V1 = xu V q (xRoE kd a b d v wt x) → xWd D A s V1 H locs → W p l e R s m args below meth c H locs cells slots Q (F0 m (pc + 3) ls rest)) : W p l e R s m args below meth c H locs cells slots Q (F0 m pc ls (.int v :: .ref q :: rest)) := by
  have hn : narrow .boolean (.int v) = .int v := by rcases hv with rfl | rfl <;> rfl
  have hft : fits .boolean (.int v) = true := by rcases hv with rfl | rfl <;> rfl
  unfold xRoE at ha kk
  split at ha
  · refine x_putN1 (v := .int v) E hw 3 ha (C := RX2) (T := TX2) (N := 5) rfl in_X2 tyX2 tyX2_ok (by decide) q214 (fun _ h => h) rfl (tyX2_ok 3 (by decide)) hn hft (Nat.le_of_ble_eq_true rfl) (fun j hj hne => Or.inl (nmX2 j hj 3 (by decide) hne)) hd (fun V1 H locs h hw => kk V1 H locs ?_ hw)
    rw [if_pos ‹_›]; exact h
  · split at ha
    · refine x_putN1 (v := .int v) E hw 3 ha (C := RX3) (T := TX3) (N := 6) rfl in_X3 tyX3 tyX3_ok (by decide) q214 (fun _ h => h) rfl (tyX3_ok 3 (by decide)) hn hft (Nat.le_of_ble_eq_true rfl) (fun j hj hne => Or.inl ((by decide : ∀ j, j < 6 → j ≠ 3 → (TX3 j).2.1 ≠ (TX3 3).2.1) j hj hne)) hd (fun V1 H locs h hw => kk V1 H locs ?_ hw)
      rw [if_neg ‹_›, if_pos ‹_›]; exact h
    · refine x_putN1 (v := .int v) E hw 3 ha (C := RX4) (T := TX4) (N := 7) rfl in_X4 tyX4 tyX4_ok (by decide) q214 (fun _ h => h) rfl (tyX4_ok 3 (by decide)) hn hft (Nat.le_of_ble_eq_true rfl) (fun j hj hne => Or.inl ((by decide : ∀ j, j < 7 → j ≠ 3 → (TX4 j).2.1 ≠ (TX4 3).2.1) j hj hne)) hd (fun V1 H locs h hw => kk V1 H locs ?_ hw)
      rw [if_neg ‹_›, if_neg ‹_›]; exact h
theorem x_rdCa (E : xE own p c cc s m args D A) (hw : xW D A V H) {nu s0 : Int32} {t o ca ck : Nat} {v : Value} (ha : V q = some (xCaE kd nu s0 t o ca ck x)) (k : Nat) (hk : k < 6) (hl : Cond.fieldLink own index "RegularRally$Car" (TX7 k).2.1 (TX7 k).2.2.1 ∈ lw_all) (hv : [.int nu, .int s0, .ref t, .ref o, .ref ca, .int (nI ck)][k]? = some v) (hd : decode cc pc = .ok (.getfield index, 3))
    (kk : W p l e R s m args below meth c H locs cells slots Q (F0 m (pc + 3) ls (v :: rest))) : W p l e R s m args below meth c H locs cells slots Q (F0 m pc ls (.ref q :: rest)) := by
  unfold xCaE at ha
  have hk' : k = 0 ∨ k = 1 ∨ k = 2 ∨ k = 3 ∨ k = 4 ∨ k = 5 := by omega
  split at ha
  · rcases hk' with rfl | rfl | rfl | rfl | rfl | rfl <;> (cases hv; exact x_rd E hw _ ha (C := RX7) (T := TX7) (N := 7) rfl in_X7 (by decide) hl (fun _ h => h) rfl hd kk)
  · split at ha
    · rcases hk' with rfl | rfl | rfl | rfl | rfl | rfl
      · cases hv; exact x_rd E hw 0 ha (C := RX8) (T := TX8) (N := 8) rfl in_X8 (by decide) hl (fun _ h => h) rfl hd kk
      · cases hv; exact x_rd E hw 1 ha (C := RX8) (T := TX8) (N := 8) rfl in_X8 (by decide) hl (fun _ h => h) rfl hd kk
      · cases hv; exact x_rd E hw 2 ha (C := RX8) (T := TX8) (N := 8) rfl in_X8 (by decide) hl (fun _ h => h) rfl hd kk
      · cases hv; exact x_rd E hw 3 ha (C := RX8) (T := TX8) (N := 8) rfl in_X8 (by decide) hl (fun _ h => h) rfl hd kk
      · cases hv; exact x_rd E hw 4 ha (C := RX8) (T := TX8) (N := 8) rfl in_X8 (by decide) hl (fun _ h => h) rfl hd kk
      · cases hv; exact x_rd E hw 5 ha (C := RX8) (T := TX8) (N := 8) rfl in_X8 (by decide) hl (fun _ h => h) rfl hd kk
    · rcases hk' with rfl | rfl | rfl | rfl | rfl | rfl
      · cases hv; exact x_rd E hw 0 ha (C := RX9) (T := TX9) (N := 9) rfl in_X9 (by decide) hl (fun _ h => h) rfl hd kk
      · cases hv; exact x_rd E hw 1 ha (C := RX9) (T := TX9) (N := 9) rfl in_X9 (by decide) hl (fun _ h => h) rfl hd kk
      · cases hv; exact x_rd E hw 2 ha (C := RX9) (T := TX9) (N := 9) rfl in_X9 (by decide) hl (fun _ h => h) rfl hd kk
      · cases hv; exact x_rd E hw 3 ha (C := RX9) (T := TX9) (N := 9) rfl in_X9 (by decide) hl (fun _ h => h) rfl hd kk
      · cases hv; exact x_rd E hw 4 ha (C := RX9) (T := TX9) (N := 9) rfl in_X9 (by decide) hl (fun _ h => h) rfl hd kk
      · cases hv; exact x_rd E hw 5 ha (C := RX9) (T := TX9) (N := 9) rfl in_X9 (by decide) hl (fun _ h => h) rfl hd kk
theorem x_rdCaN (E : xE own p c cc s m args D A) (hw : xW D A V H) {nu s0 : Int32} {t o ca ck : Nat} {v : Value} (ha : V q = some (xCaE kd nu s0 t o ca ck x)) (k : Nat) (hk : k < 6) (hl : Cond.fieldLinkNest own index "RegularRally$Car" (TX7 k).2.1 (TX7 k).2.2.1 host ∈ lw_tbl) (hv : [.int nu, .int s0, .ref t, .ref o, .ref ca, .int (nI ck)][k]? = some v) (hd : decode cc pc = .ok (.getfield index, 3))
    (kk : W p l e R s m args below meth c H locs cells slots Q (F0 m (pc + 3) ls (v :: rest))) : W p l e R s m args below meth c H locs cells slots Q (F0 m pc ls (.ref q :: rest)) := by
  unfold xCaE at ha
  have hk' : k = 0 ∨ k = 1 ∨ k = 2 ∨ k = 3 ∨ k = 4 ∨ k = 5 := by omega
  split at ha
  · rcases hk' with rfl | rfl | rfl | rfl | rfl | rfl <;> (cases hv; exact x_rdN E hw _ ha (C := RX7) (T := TX7) (N := 7) rfl in_X7 (by decide) hl (fun _ h => h) rfl hd kk)
  · split at ha
    · rcases hk' with rfl | rfl | rfl | rfl | rfl | rfl
      · cases hv; exact x_rdN E hw 0 ha (C := RX8) (T := TX8) (N := 8) rfl in_X8 (by decide) hl (fun _ h => h) rfl hd kk
      · cases hv; exact x_rdN E hw 1 ha (C := RX8) (T := TX8) (N := 8) rfl in_X8 (by decide) hl (fun _ h => h) rfl hd kk
      · cases hv; exact x_rdN E hw 2 ha (C := RX8) (T := TX8) (N := 8) rfl in_X8 (by decide) hl (fun _ h => h) rfl hd kk
      · cases hv; exact x_rdN E hw 3 ha (C := RX8) (T := TX8) (N := 8) rfl in_X8 (by decide) hl (fun _ h => h) rfl hd kk
      · cases hv; exact x_rdN E hw 4 ha (C := RX8) (T := TX8) (N := 8) rfl in_X8 (by decide) hl (fun _ h => h) rfl hd kk
      · cases hv; exact x_rdN E hw 5 ha (C := RX8) (T := TX8) (N := 8) rfl in_X8 (by decide) hl (fun _ h => h) rfl hd kk
    · rcases hk' with rfl | rfl | rfl | rfl | rfl | rfl
      · cases hv; exact x_rdN E hw 0 ha (C := RX9) (T := TX9) (N := 9) rfl in_X9 (by decide) hl (fun _ h => h) rfl hd kk
      · cases hv; exact x_rdN E hw 1 ha (C := RX9) (T := TX9) (N := 9) rfl in_X9 (by decide) hl (fun _ h => h) rfl hd kk
      · cases hv; exact x_rdN E hw 2 ha (C := RX9) (T := TX9) (N := 9) rfl in_X9 (by decide) hl (fun _ h => h) rfl hd kk
      · cases hv; exact x_rdN E hw 3 ha (C := RX9) (T := TX9) (N := 9) rfl in_X9 (by decide) hl (fun _ h => h) rfl hd kk
      · cases hv; exact x_rdN E hw 4 ha (C := RX9) (T := TX9) (N := 9) rfl in_X9 (by decide) hl (fun _ h => h) rfl hd kk
      · cases hv; exact x_rdN E hw 5 ha (C := RX9) (T := TX9) (N := 9) rfl in_X9 (by decide) hl (fun _ h => h) rfl hd kk
theorem x_castCa (E : xE own p c cc s m args D A) (hw : xW D A V H) {nu s0 : Int32} {t o ca ck : Nat} (ha : V q = some (xCaE kd nu s0 t o ca ck x)) (hl : Cond.classLink own index "RegularRally$Car" ∈ lw_all) (hd : decode cc pc = .ok (.checkcast index, 3))
    (kk : W p l e R s m args below meth c H locs cells slots Q (F0 m (pc + 3) ls (.ref q :: rest))) : W p l e R s m args below meth c H locs cells slots Q (F0 m pc ls (.ref q :: rest)) := by
  unfold xCaE at ha
  split at ha
  · exact x_castS E hw ha (C := RX7) (T := TX7) (N := 7) rfl hl hd kk
  · split at ha
    · exact x_castY E hw ha (C := RX8) (T := TX8) (N := 8) rfl hl q1502 hd kk
    · exact x_castY E hw ha (C := RX9) (T := TX9) (N := 9) rfl hl q1501 hd kk
end XF
/-- where one comes to by a road of kind kd -/
def xfr (kd a b sh wt x : Int32) : Int32 := if kd = 0 then (if sh = 0 then if x = a then b else if x = b then a else (-9) else (-9)) else if kd = 1 then (if x = b then (-9) else if sh = 0 then if x = a then b else if x = b then a else (-9) else (-9)) else (if wt = 0 ∧ sh = 0 then if x = a then b else if x = b then a else (-9) else (-9))
def xop (kd sh wt : Int32) : Prop := if kd = 0 then sh = 0 else if kd = 1 then sh = 0 else wt = 0 ∧ sh = 0
def xtl (kd d wt : Int32) : Int32 := if kd = 0 then d else if kd = 1 then 1 + d else if wt = 0 then d else -d
def xts (kd : Int32) (st : mS) : mS := if kd = 0 then tr1 st 1 else if kd = 1 then tr1 (tr1 st 2) 1 else tr1 (tr1 st 3) 1
theorem x_cRo_kind {p : Program} {l : Launch} {e : Env} {R : Room} {s : State} {m : MethodId} {args : Array Value} {below : List Frame} {meth : Method} {c : Code} {H : Heap} {locs : List Loc} {cells slots : Nat} {Q : State → Prop} {cc : ByteArray} {pc nL : Nat} {ls : Array Slot} {rest : List Value} {D : xD} {A : Nat → Prop} {V : xV} {q : Nat} {lv : List (Nat × Value)} (g : xG) {kd a b d sh wt : Int32} (E : xE "RegularRally" p c cc s m args D A) (hw : xWd D A s V H locs) (hkd : kd = 0 ∨ kd = 1 ∨ kd = 2) (ha : V q = some (xRoE kd a b d sh wt (g 0 0))) (hd : decode cc pc = .ok (.invokevirtual 120, 3)) (hRf : 2 ≤ R.frames ∧ 120 ≤ R.locals)
    (hf : cells ≤ R.cells ∧ slots ≤ R.slots) (hW : (rest.map fun v => v.category).sum ≤ 8) (hml : c.maxLocals = nL) (hl : lv_has ls nL lv)
    (kk : W p l e R s m args below meth c H locs cells slots Q (F0 m (pc + 3) ls (.int kd :: rest))) : W p l e R s m args below meth c H locs cells slots Q (F0 m pc ls (.ref q :: rest)) := by
  unfold xRoE at ha
  split at ha
  · refine x_goR (x_runV (As := []) (rest := rest) E hml hl.1 hw.2 hw.1 ha (C := RX2) (T := TX2) (N := 5) rfl (xtX2_kind l D A V g q a b d sh ha) q454 q455 q456 q53 q464 hdX2_kind ⟨Nat.le_trans (Nat.le_of_ble_eq_true rfl) hRf.1, Nat.le_trans (Nat.le_of_ble_eq_true rfl) hRf.2⟩ rfl rfl rfl hW hd ⟨hf.1, hf.2⟩) ?_
    rename_i h; rw [h] at kk; exact kk
  · split at ha
    · refine x_goR (x_runO (As := []) (rest := rest) (x := yX2_kind) E hml hl.1 hw.2 hw.1 ha (C := RX3) (T := TX3) (N := 6) rfl (xtX3_kind l D A V g q a b d sh ha) q454 q457 q461 q462 q54 q463 q455 q464 hdX2_kind.2 ⟨Nat.le_trans (Nat.le_of_ble_eq_true rfl) hRf.1, Nat.le_trans (Nat.le_of_ble_eq_true rfl) hRf.2⟩ rfl rfl rfl hW hd ⟨hf.1, hf.2⟩) ?_
      rename_i h; rw [h] at kk; exact kk
    · refine x_goR (x_runO (As := []) (rest := rest) (x := yX2_kind) E hml hl.1 hw.2 hw.1 ha (C := RX4) (T := TX4) (N := 7) rfl (xtX4_kind l D A V g q a b d sh wt ha) q454 q457 q458 q459 q55 q460 q455 q464 hdX2_kind.2 ⟨Nat.le_trans (Nat.le_of_ble_eq_true rfl) hRf.1, Nat.le_trans (Nat.le_of_ble_eq_true rfl) hRf.2⟩ rfl rfl rfl hW hd ⟨hf.1, hf.2⟩) ?_
      rename_i h0 h1; rw [(hkd.resolve_left h0).resolve_left h1] at kk; exact kk
theorem x_cRo_isOpen {p : Program} {l : Launch} {e : Env} {R : Room} {s : State} {m : MethodId} {args : Array Value} {below : List Frame} {meth : Method} {c : Code} {H : Heap} {locs : List Loc} {cells slots : Nat} {Q : State → Prop} {cc : ByteArray} {pc nL : Nat} {ls : Array Slot} {rest : List Value} {D : xD} {A : Nat → Prop} {V : xV} {q : Nat} {lv : List (Nat × Value)} (g : xG) {kd a b d sh wt : Int32} (E : xE "RegularRally" p c cc s m args D A) (hw : xWd D A s V H locs) (ha : V q = some (xRoE kd a b d sh wt (g 0 0))) (hd : decode cc pc = .ok (.invokevirtual 123, 3)) (hRf : 4 ≤ R.frames ∧ 240 ≤ R.locals)
    (hf : cells ≤ R.cells ∧ slots ≤ R.slots) (hW : (rest.map fun v => v.category).sum ≤ 8) (hml : c.maxLocals = nL) (hl : lv_has ls nL lv)
    (kk : W p l e R s m args below meth c H locs cells slots Q (F0 m (pc + 3) ls (.int (bI (xop kd sh wt)) :: rest))) : W p l e R s m args below meth c H locs cells slots Q (F0 m pc ls (.ref q :: rest)) := by
  unfold xRoE at ha
  split at ha
  · refine x_goR (x_runV (As := []) (rest := rest) E hml hl.1 hw.2 hw.1 ha (C := RX2) (T := TX2) (N := 5) rfl (xtX2_isOpen_1 l D A V g q a b d sh ha) q465 q466 q467 q53 q474 hdX2_isOpen ⟨Nat.le_trans (Nat.le_of_ble_eq_true rfl) hRf.1, Nat.le_trans (Nat.le_of_ble_eq_true rfl) hRf.2⟩ rfl rfl rfl hW hd ⟨hf.1, hf.2⟩) ?_
    unfold xop at kk
    simp only [if_pos ‹kd = 0›] at kk
    exact kk
  · split at ha
    · refine x_goR (x_runU (As := []) (rest := rest) E hml hl.1 hw.2 hw.1 ha (C := RX3) (T := TX3) (N := 6) rfl (xtX2_isOpen_2 l D A V g q a b d sh ha) q465 q468 q473 q466 q53 q474 rfl hdX2_isOpen.2 ⟨Nat.le_trans (Nat.le_of_ble_eq_true rfl) hRf.1, Nat.le_trans (Nat.le_of_ble_eq_true rfl) hRf.2⟩ rfl rfl rfl hW hd ⟨hf.1, hf.2⟩) ?_
      unfold xop at kk
      simp only [if_neg ‹¬ kd = 0›, if_pos ‹kd = 1›] at kk
      exact kk
    · refine x_goR (x_runO (As := []) (rest := rest) (x := yX2_isOpen) E hml hl.1 hw.2 hw.1 ha (C := RX4) (T := TX4) (N := 7) rfl (xtX4_isOpen l D A V g q a b d sh wt ha) q465 q468 q469 q470 q55 q471 q466 q474 hdX2_isOpen.2 ⟨Nat.le_trans (Nat.le_of_ble_eq_true rfl) hRf.1, Nat.le_trans (Nat.le_of_ble_eq_true rfl) hRf.2⟩ rfl rfl rfl hW hd ⟨hf.1, hf.2⟩) ?_
      unfold xop at kk
      simp only [if_neg ‹¬ kd = 0›, if_neg ‹¬ kd = 1›] at kk
      exact kk
theorem x_cRo_from {p : Program} {l : Launch} {e : Env} {R : Room} {s : State} {m : MethodId} {args : Array Value} {below : List Frame} {meth : Method} {c : Code} {H : Heap} {locs : List Loc} {cells slots : Nat} {Q : State → Prop} {cc : ByteArray} {pc nL : Nat} {ls : Array Slot} {rest : List Value} {D : xD} {A : Nat → Prop} {V : xV} {q : Nat} {lv : List (Nat × Value)} (g : xG) {kd a b d sh wt : Int32} (E : xE "RegularRally" p c cc s m args D A) (hw : xWd D A s V H locs) (ha : V q = some (xRoE kd a b d sh wt (g 0 0))) {x : Int32} (hd : decode cc pc = .ok (.invokevirtual 149, 3)) (hRf : 6 ≤ R.frames ∧ 360 ≤ R.locals)
    (hf : cells ≤ R.cells ∧ slots ≤ R.slots) (hW : (rest.map fun v => v.category).sum ≤ 8) (hml : c.maxLocals = nL) (hl : lv_has ls nL lv)
    (kk : W p l e R s m args below meth c H locs cells slots Q (F0 m (pc + 3) ls (.int (xfr kd a b sh wt x) :: rest))) : W p l e R s m args below meth c H locs cells slots Q (F0 m pc ls (.int x :: .ref q :: rest)) := by
  unfold xRoE at ha
  split at ha
  · refine x_goR (x_runV (As := [.int x]) (rest := rest) E hml hl.1 hw.2 hw.1 ha (C := RX2) (T := TX2) (N := 5) rfl (xtX2_from_1 l D A V g q a b d sh x ha) q489 q490 q491 q53 q498 hdX2_from ⟨Nat.le_trans (Nat.le_of_ble_eq_true rfl) hRf.1, Nat.le_trans (Nat.le_of_ble_eq_true rfl) hRf.2⟩ rfl rfl rfl hW hd ⟨hf.1, hf.2⟩) ?_
    unfold xfr at kk
    simp only [if_pos ‹kd = 0›] at kk
    exact kk
  · split at ha
    · refine x_goR (x_runO (As := [.int x]) (rest := rest) (x := yX2_from) E hml hl.1 hw.2 hw.1 ha (C := RX3) (T := TX3) (N := 6) rfl (xtX3_from l D A V g q a b d sh x ha) q489 q492 q494 q495 q54 q496 q490 q498 hdX2_from.2 ⟨Nat.le_trans (Nat.le_of_ble_eq_true rfl) hRf.1, Nat.le_trans (Nat.le_of_ble_eq_true rfl) hRf.2⟩ rfl rfl rfl hW hd ⟨hf.1, hf.2⟩) ?_
      unfold xfr at kk
      simp only [if_neg ‹¬ kd = 0›, if_pos ‹kd = 1›] at kk
      exact kk
    · refine x_goR (x_runU (As := [.int x]) (rest := rest) E hml hl.1 hw.2 hw.1 ha (C := RX4) (T := TX4) (N := 7) rfl (xtX2_from_3 l D A V g q a b d sh wt x ha) q489 q492 q493 q490 q53 q498 rfl hdX2_from.2 ⟨Nat.le_trans (Nat.le_of_ble_eq_true rfl) hRf.1, Nat.le_trans (Nat.le_of_ble_eq_true rfl) hRf.2⟩ rfl rfl rfl hW hd ⟨hf.1, hf.2⟩) ?_
      unfold xfr at kk
      simp only [if_neg ‹¬ kd = 0›, if_neg ‹¬ kd = 1›] at kk
      exact kk
theorem x_cRo_tell {p : Program} {l : Launch} {e : Env} {R : Room} {s : State} {m : MethodId} {args : Array Value} {below : List Frame} {meth : Method} {c : Code} {H : Heap} {locs : List Loc} {cells slots : Nat} {Q : State → Prop} {cc : ByteArray} {pc nL : Nat} {ls : Array Slot} {rest : List Value} {D : xD} {A : Nat → Prop} {V : xV} {q : Nat} {lv : List (Nat × Value)} (g : xG) {kd a b d sh wt : Int32} (E : xE "RegularRally" p c cc s m args D A) (hw : xWd D A s V H locs) (ha : V q = some (xRoE kd a b d sh wt (g 0 0))) (st : mS) {b7 : Int32} {b8 : Int64} {b9 : Int32} (hpx : V (g 0 0) = some (xXF st g b7 b8 b9)) (hd : decode cc pc = .ok (.invokevirtual 344, 3)) (hRf : 4 ≤ R.frames ∧ 240 ≤ R.locals)
    (hf : cells ≤ R.cells ∧ slots ≤ R.slots) (hW : (rest.map fun v => v.category).sum ≤ 8) (hml : c.maxLocals = nL) (hl : lv_has ls nL lv)
    (kk : ∀ (V1 : xV) (H : Heap) (locs : List Loc), V1 = xu V (g 0 0) (xXF (xts kd st) g b7 b8 b9) → xWd D A s V1 H locs → W p l e R s m args below meth c H locs cells slots Q (F0 m (pc + 3) ls (.int (xtl kd d wt) :: rest))) : W p l e R s m args below meth c H locs cells slots Q (F0 m pc ls (.ref q :: rest)) := by
  unfold xRoE at ha
  split at ha
  · refine x_goWv hw (x_runV (As := []) (rest := rest) E hml hl.1 hw.2 hw.1 ha (C := RX2) (T := TX2) (N := 5) rfl (xtX2_tell_1 l D A V g q a b d sh st b7 b8 b9 ha hpx) q980 q981 q982 q53 q997 hdX2_tell ⟨Nat.le_trans (Nat.le_of_ble_eq_true rfl) hRf.1, Nat.le_trans (Nat.le_of_ble_eq_true rfl) hRf.2⟩ rfl rfl rfl hW hd ⟨hf.1, hf.2⟩) (fun V1 H locs h hw => ?_)
    unfold xts xtl at kk
    simp only [if_pos ‹kd = 0›] at kk
    exact kk V1 H locs h hw
  · split at ha
    · refine x_goWv hw (x_runO (As := []) (rest := rest) (x := yX2_tell) E hml hl.1 hw.2 hw.1 ha (C := RX3) (T := TX3) (N := 6) rfl (xtX3_tell l D A V g q a b d sh st b7 b8 b9 ha hpx) q980 q983 q992 q993 q54 q994 q981 q997 hdX2_tell.2 ⟨Nat.le_trans (Nat.le_of_ble_eq_true rfl) hRf.1, Nat.le_trans (Nat.le_of_ble_eq_true rfl) hRf.2⟩ rfl rfl rfl hW hd ⟨hf.1, hf.2⟩) (fun V1 H locs h hw => ?_)
      unfold xts xtl at kk
      simp only [if_neg ‹¬ kd = 0›, if_pos ‹kd = 1›] at kk
      exact kk V1 H locs h hw
    · refine x_goWv hw (x_runO (As := []) (rest := rest) (x := yX2_tell) E hml hl.1 hw.2 hw.1 ha (C := RX4) (T := TX4) (N := 7) rfl (xtX4_tell l D A V g q a b d sh wt st b7 b8 b9 ha hpx) q980 q983 q984 q985 q55 q986 q981 q997 hdX2_tell.2 ⟨Nat.le_trans (Nat.le_of_ble_eq_true rfl) hRf.1, Nat.le_trans (Nat.le_of_ble_eq_true rfl) hRf.2⟩ rfl rfl rfl hW hd ⟨hf.1, hf.2⟩) (fun V1 H locs h hw => ?_)
      unfold xts xtl at kk
      simp only [if_neg ‹¬ kd = 0›, if_neg ‹¬ kd = 1›] at kk
      exact kk V1 H locs h hw
