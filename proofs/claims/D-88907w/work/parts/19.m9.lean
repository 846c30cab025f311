/-! the reference's methods, ninth part: its constructor -/
def mpos : Nat → Nat
  | 2 => 0 | 3 => 1 | 4 => 2 | 5 => 3 | 6 => 4 | 7 => 5 | 8 => 6 | 9 => 7 | 10 => 8 | 11 => 9 | 13 => 10 | 17 => 11 | 20 => 12 | 21 => 13 | 22 => 14 | 23 => 15 | 26 => 16 | 28 => 17 | 29 => 18 | 31 => 19 | 32 => 20 | 33 => 21 | 34 => 22 | 36 => 23 | 37 => 24 | 39 => 25 | 40 => 26 | 41 => 27 | _ => 0
def pV (sz n k : Nat) : Value := if mlen k = 0 then .int 0 else if mpos k < n then .ref (sz + mpos k) else .null
def mB (G : mG) (sz n : Nat) (s : State) (H : Heap) (locs : List Loc) : Prop := t_OB G.1 G.2.2.1 43 G.2.2.2.1 H (pV sz n) ∧ H.size = sz + n ∧ (∀ k, mlen k ≠ 0 → mpos k < n → H[sz + mpos k]? = some (arrV (if mbo k then G.2.2.2.2.2 else G.2.2.2.2.1) (mlen k) (fun _ => .int 0))) ∧ (∀ q : Nat, q < sz → q ≠ G.1 → H[q]? = s.heap[q]?) ∧ ∀ l ∈ locs, l.base = G.1
theorem mlen_k {k : Nat} (h : mlen k ≠ 0) : k < 43 := by
  rcases Nat.lt_or_ge k 43 with q | q
  · exact q
  · exfalso
    apply h
    match k, q with
    | k + 43, _ => rfl
theorem mpos_inj : ∀ a, a < 43 → ∀ b, b < 43 → mlen a ≠ 0 → mlen b ≠ 0 → mpos a = mpos b → a = b := by decide +kernel
theorem mpos_lt : ∀ a, a < 43 → mlen a ≠ 0 → mpos a < 28 := by decide +kernel
section MI
variable {p : Program} {l : Launch} {e : Env} {R : Room} {s : State} {m : MethodId} {args : Array Value} {below : List Frame} {meth : Method} {c : Code} {H : Heap} {locs : List Loc} {cells slots : Nat} {Q : State → Prop}
variable {cc : ByteArray} {pc : Nat} {ls : Array Slot} {rest : List Value} {G : mG} {sz : Nat}
/-- an array is made and laid into its field -/
theorem m_mk (hx : p.tables.exec = Jvm.exec) (hb : c.code = cc) (hts : ∀ w ∈ lw_all, w.before args s = true) (hown : s.vm.findClass RX1 = some m.cls) (hK : mK G s) (hin2 : meth.name = "<init>") (hh : G.1 < sz) (k n : Nat) (hB : mB G sz n s H locs) {atype : ArrayType} {index : Nat} {N : Nat} {x : Int32} {ty : FieldType}
    (hk : k < 43) (hpos : mpos k = n) (hlen : mlen k = N) (hN0 : ¬ N = 0) (hfin : (TX1 k).2.2.2 = true) (hty : newarray.typeOf atype = ty) (hpd : parseFieldDescriptor (TX1 k).2.2.1 = some (.array ty)) (hcls : s.vm.findClass ("[" ++ ty.toString) = some (if mbo k then G.2.2.2.2.2 else G.2.2.2.2.1)) (hdef : defaultValue ty = .int 0) (harr : Cond.arrayClass ty ∈ lw_all)
    (hn : ¬ x < 0) (hN : x.toNatClampNeg = N) (hby : N * componentBytes ty ≤ 536870912) (hc : cells + 1 ≤ R.cells) (hs : slots + N ≤ R.slots) (hl : Cond.fieldLink RX1 index RX1 (TX1 k).2.1 (TX1 k).2.2.1 ∈ lw_all) (hd1 : decode cc pc = .ok (.newarray atype, 2)) (hd2 : decode cc (pc + 2) = .ok (.putfield index, 3))
    (kk : ∀ (H : Heap) (locs : List Loc), mB G sz (n + 1) s H locs → W p l e R s m args below meth c H locs (cells + 1) (slots + N) Q (F0 m (pc + 5) ls rest)) : W p l e R s m args below meth c H locs cells slots Q (F0 m pc ls (.int x :: .ref G.1 :: rest)) := by
  subst hty
  obtain ⟨⟨cell, q1, q2, q3, q4⟩, hsz, har, hfr, hlo⟩ := hB
  refine va_newaK (g := F0 m pc ls (.int x :: .ref G.1 :: rest)) hx hb (hts _ harr) rfl hd1 rfl hn hN hby hc hs hsz fun H1 cA e1 z1 o1 hAr hNm => ?_
  have hcA : cA = (if mbo k then G.2.2.2.2.2 else G.2.2.2.2.1) := Option.some.inj (hNm.symm.trans hcls)
  subst hcA
  obtain ⟨hS, hfc, kC, hkC, hkind⟩ := hK.1
  have hap : ∀ x y, x < 43 → y < 43 → x ≠ y → G.2.2.2.1 x ≠ G.2.2.2.1 y := by
    intro x y hx hy hxy
    obtain ⟨_, _, _, fa, hia, ea⟩ := hS x hx
    obtain ⟨_, _, _, fb, hib, eb⟩ := hS y hy
    rw [← ea, ← eb]
    refine u_apart (u_lays hts in_X1 hx) (u_lays hts in_X1 hy) hia hib ?_
    rw [(State.fieldFound?_type hia (tyX1_ok x hx)).1, (State.fieldFound?_type hib (tyX1_ok y hy)).1]
    exact nmX1 x hx y hy hxy
  obtain ⟨cf, kf, fi, f, hi, hsl⟩ := hS k hk
  have hlay := hts _ (in_X1 _ (u_in_lay hk))
  unfold u_lay at hlay
  rw [if_pos hfin] at hlay
  have hst := (u_facts hfc hkC (u_lays hts in_X1 hk) hi).1
  have hcf : m.cls = cf := by
    obtain ⟨_, _, c', _, _, _, -, -, hf', -, -, -, hown2, -⟩ := Cond.laysFinal_spec hlay
    have e1 : c' = cf := by have := hi.symm.trans hf'; simp at this; exact this.1.symm
    rw [TX1_own k hk] at hown2
    rw [← e1]; exact Option.some.inj (hown.symm.trans hown2)
  have h6 := u_fits (v := .ref (sz + n)) hfc hkC hkind (Or.inr hlay) hi hpd rfl rfl
  refine W.putFinK (g := F0 m (pc + 2) ls (.ref (sz + n) :: .ref G.1 :: rest)) hx hb hown (hts _ hl) (by rw [← TX1_own k hk]; exact hi) hst hcf hin2 (by rw [q2]; exact h6) ((o1 G.1 (by omega)).trans q1) q3 (by rw [hsl]; exact k2_hasslot (q4 k hk)) rfl rfl hd2 fun H' e2 z2 o2 => ?_
  rw [hsl] at e2 ⊢
  refine kk H' _ ⟨t_OB.to (V := updV (pV sz n) k (.ref (sz + n))) ⟨_, e2, q2, q3, t_set q4 hap hk _⟩ (fun j hj => ?_), by omega, fun j hj hp => ?_, fun q hq hne => ?_, fun q hq => ?_⟩
  · unfold updV
    split
    · rename_i hjk
      subst hjk
      unfold pV
      rw [if_neg (by rw [hlen]; exact hN0), if_pos (by omega), hpos]
    · rename_i hjk
      unfold pV
      by_cases hz : mlen j = 0
      · rw [if_pos hz, if_pos hz]
      · rw [if_neg hz, if_neg hz]
        have hne : mpos j ≠ n := fun q => hjk (mpos_inj j hj k hk hz (by rw [hlen]; exact hN0) (by rw [q, hpos]))
        by_cases hp : mpos j < n
        · rw [if_pos hp, if_pos (by omega)]
        · rw [if_neg hp, if_neg (by omega)]
  · rw [o2 (sz + mpos j) (Nat.ne_of_gt (Nat.lt_of_lt_of_le hh (Nat.le_add_right _ _)))]
    by_cases hjk : j = k
    · subst hjk
      rw [hpos, e1, hlen, hdef]
    · have hne : mpos j ≠ n := fun q => hjk (mpos_inj j (mlen_k hj) k hk hj (by rw [hlen]; exact hN0) (by rw [q, hpos]))
      rw [o1 (sz + mpos j) (by omega)]
      exact har j hj (by omega)
  · rw [o2 q hne, o1 q (by omega)]
    exact hfr q hq hne
  · rcases List.mem_append.mp hq with h | h
    · exact hlo q h
    · rw [List.mem_singleton.mp h]
end MI
def m0 : mS := mu (mu (mu (mu (mu (fun _ _ => 0) 8 0 (-1)) 8 1 (-1)) 8 2 (-1)) 8 3 (-1)) 0 24 0
def mGf (G : mG) (sz : Nat) : Prop := G.1 < sz ∧ ∀ k, G.2.1 k = sz + mpos k
def mPi (G : mG) (sz : Nat) : Array Value → State → Prop := fun v U => v = [Value.ref G.1].toArray ∧ mK G U ∧ U.vm.findClass ("[" ++ FieldType.int.toString) = some G.2.2.2.2.1 ∧ U.vm.findClass ("[" ++ FieldType.boolean.toString) = some G.2.2.2.2.2 ∧ U.heap.size = sz ∧ t_OB G.1 G.2.2.1 43 G.2.2.2.1 U.heap (fun k => defaultValue (tyX1 k))
def mQi (G : mG) (sz : Nat) : Array Value → State → Outcome → State → Prop := fun _ s o t => o = .returned none ∧ mW G m0 t.heap ∧ t.heap.size = sz + 28 ∧ ∀ q : Nat, q < sz → q ≠ G.1 → t.heap[q]? = s.heap[q]?
theorem pV0 : ∀ sz k, k < 43 → defaultValue (tyX1 k) = pV sz 0 k := by
  intro sz k hk
  have h : ∀ k, k < 43 → (mlen k = 0 → defaultValue (tyX1 k) = .int 0) ∧ (mlen k ≠ 0 → defaultValue (tyX1 k) = .null) := by decide +kernel
  unfold pV
  by_cases hz : mlen k = 0
  · rw [if_pos hz, (h k hk).1 hz]
  · rw [if_neg hz, if_neg (by omega), (h k hk).2 hz]
set_option maxHeartbeats 1000000 in
set_option maxRecDepth 100000 in
theorem mt_init (l : Launch) (G : mG) (sz : Nat) (hG : mGf G sz) : Met l yX1_init (ws_ yX1_init cX1_init 2 none) ({ frames := 1, cells := 28, slots := 616, locals := 60 } : Room) (mPi G sz) (mQi G sz) 28 616 (fun q => q = G.1 ∨ sz ≤ q) := by
  refine Met.ofW (cc := cX1_init) (maxL := 2) (ret := none) (by decide) rfl ?_
  intro p e s m args below meth c s₁ B hml hv
  obtain ⟨rfl, hK, hcI, hcB, hsz, hO⟩ := hv
  have hx := B.exec
  have hb := B.bytes
  have hr := B.returns
  have hlk := B.notSynchronized
  have hts := atoms_spec (ws := ws_ yX1_init cX1_init 2 none) B.pre
  have hts : ∀ w ∈ lw_all, w.before _ s = true := fun w h => hts w (List.mem_cons_of_mem _ h)
  have hown : s.vm.findClass RX1 = some m.cls := findClass_of_methodNamed B.named
  have hin2 : meth.name = "<init>" := (name_of_methodNamed B.named B.method).1
  have hl := lv_entry [Value.ref G.1] (n := 2) (Nat.le_of_ble_eq_true rfl)
  rw [lg_entry_eq]
  generalize (lg_sl [Value.ref G.1] ++ List.replicate (2 - (lg_sl [Value.ref G.1]).length) Slot.unset).toArray = ls at hl ⊢
  have hl : lv_has ls 2 [(0, .ref G.1)] := hl
  have hB : mB G sz 0 s s.heap [] := ⟨hO.to (pV0 sz), hsz, fun _ _ h => absurd h (Nat.not_lt_zero _), fun _ _ _ => rfl, fun _ h => by cases h⟩
  refine lv_aload_n (pc := 0) hx hb dX1_init_0 rfl (lv_at hl 0 rfl) ?_
  refine W.objInit (g := F0 m 1 ls [.ref G.1]) hx hb hown (hts _ q1091) (hts _ q83) (hts _ q84) rfl (by rw [hml]; exact hl.1) rfl dX1_init_1 (Nat.le_of_ble_eq_true rfl) (Nat.le_of_ble_eq_true rfl) ?_
  refine lv_aload_n (pc := 4) hx hb dX1_init_4 rfl (lv_at hl 0 rfl) ?_
  refine lv_bipush (pc := 5) (v := 16) hx hb dX1_init_5 (by decide) ?_
  refine m_mk (pc := 7) (N := 16) (atype := .int) (ty := .int) hx hb hts hown hK hin2 hG.1 2 0 hB (by decide) rfl rfl (by decide) rfl rfl (by decide +kernel) hcI rfl q175 (by decide) (by decide) (by decide) (Nat.le_of_ble_eq_true rfl) (Nat.le_of_ble_eq_true rfl) q1094 dX1_init_7 dX1_init_9 (fun H locs hB => ?_)
  refine W.cs (cells' := 1) (slots' := 16) rfl rfl ?_
  refine lv_aload_n (pc := 12) hx hb dX1_init_12 rfl (lv_at hl 0 rfl) ?_
  refine lv_bipush (pc := 13) (v := 16) hx hb dX1_init_13 (by decide) ?_
  refine m_mk (pc := 15) (N := 16) (atype := .int) (ty := .int) hx hb hts hown hK hin2 hG.1 3 1 hB (by decide) rfl rfl (by decide) rfl rfl (by decide +kernel) hcI rfl q175 (by decide) (by decide) (by decide) (Nat.le_of_ble_eq_true rfl) (Nat.le_of_ble_eq_true rfl) q1095 dX1_init_15 dX1_init_17 (fun H locs hB => ?_)
  refine W.cs (cells' := 2) (slots' := 32) rfl rfl ?_
  refine lv_aload_n (pc := 20) hx hb dX1_init_20 rfl (lv_at hl 0 rfl) ?_
  refine lv_bipush (pc := 21) (v := 16) hx hb dX1_init_21 (by decide) ?_
  refine m_mk (pc := 23) (N := 16) (atype := .int) (ty := .int) hx hb hts hown hK hin2 hG.1 4 2 hB (by decide) rfl rfl (by decide) rfl rfl (by decide +kernel) hcI rfl q175 (by decide) (by decide) (by decide) (Nat.le_of_ble_eq_true rfl) (Nat.le_of_ble_eq_true rfl) q1096 dX1_init_23 dX1_init_25 (fun H locs hB => ?_)
  refine W.cs (cells' := 3) (slots' := 48) rfl rfl ?_
  refine lv_aload_n (pc := 28) hx hb dX1_init_28 rfl (lv_at hl 0 rfl) ?_
  refine lv_bipush (pc := 29) (v := 16) hx hb dX1_init_29 (by decide) ?_
  refine m_mk (pc := 31) (N := 16) (atype := .int) (ty := .int) hx hb hts hown hK hin2 hG.1 5 3 hB (by decide) rfl rfl (by decide) rfl rfl (by decide +kernel) hcI rfl q175 (by decide) (by decide) (by decide) (Nat.le_of_ble_eq_true rfl) (Nat.le_of_ble_eq_true rfl) q1097 dX1_init_31 dX1_init_33 (fun H locs hB => ?_)
  refine W.cs (cells' := 4) (slots' := 64) rfl rfl ?_
  refine lv_aload_n (pc := 36) hx hb dX1_init_36 rfl (lv_at hl 0 rfl) ?_
  refine lv_bipush (pc := 37) (v := 16) hx hb dX1_init_37 (by decide) ?_
  refine m_mk (pc := 39) (N := 16) (atype := .boolean) (ty := .boolean) hx hb hts hown hK hin2 hG.1 6 4 hB (by decide) rfl rfl (by decide) rfl rfl (by decide +kernel) hcB rfl q1222 (by decide) (by decide) (by decide) (Nat.le_of_ble_eq_true rfl) (Nat.le_of_ble_eq_true rfl) q1098 dX1_init_39 dX1_init_41 (fun H locs hB => ?_)
  refine W.cs (cells' := 5) (slots' := 80) rfl rfl ?_
  refine lv_aload_n (pc := 44) hx hb dX1_init_44 rfl (lv_at hl 0 rfl) ?_
  refine lv_bipush (pc := 45) (v := 16) hx hb dX1_init_45 (by decide) ?_
  refine m_mk (pc := 47) (N := 16) (atype := .boolean) (ty := .boolean) hx hb hts hown hK hin2 hG.1 7 5 hB (by decide) rfl rfl (by decide) rfl rfl (by decide +kernel) hcB rfl q1222 (by decide) (by decide) (by decide) (Nat.le_of_ble_eq_true rfl) (Nat.le_of_ble_eq_true rfl) q1099 dX1_init_47 dX1_init_49 (fun H locs hB => ?_)
  refine W.cs (cells' := 6) (slots' := 96) rfl rfl ?_
  refine lv_aload_n (pc := 52) hx hb dX1_init_52 rfl (lv_at hl 0 rfl) ?_
  refine lv_iconst (pc := 53) (v := 4) hx hb dX1_init_53 (by decide) ?_
  refine m_mk (pc := 54) (N := 4) (atype := .int) (ty := .int) hx hb hts hown hK hin2 hG.1 8 6 hB (by decide) rfl rfl (by decide) rfl rfl (by decide +kernel) hcI rfl q175 (by decide) (by decide) (by decide) (Nat.le_of_ble_eq_true rfl) (Nat.le_of_ble_eq_true rfl) q1100 dX1_init_54 dX1_init_56 (fun H locs hB => ?_)
  refine W.cs (cells' := 7) (slots' := 100) rfl rfl ?_
  refine lv_aload_n (pc := 59) hx hb dX1_init_59 rfl (lv_at hl 0 rfl) ?_
  refine lv_iconst (pc := 60) (v := 4) hx hb dX1_init_60 (by decide) ?_
  refine m_mk (pc := 61) (N := 4) (atype := .int) (ty := .int) hx hb hts hown hK hin2 hG.1 9 7 hB (by decide) rfl rfl (by decide) rfl rfl (by decide +kernel) hcI rfl q175 (by decide) (by decide) (by decide) (Nat.le_of_ble_eq_true rfl) (Nat.le_of_ble_eq_true rfl) q1101 dX1_init_61 dX1_init_63 (fun H locs hB => ?_)
  refine W.cs (cells' := 8) (slots' := 104) rfl rfl ?_
  refine lv_aload_n (pc := 66) hx hb dX1_init_66 rfl (lv_at hl 0 rfl) ?_
  refine lv_sipush (pc := 67) (v := 128) hx hb dX1_init_67 (by decide) ?_
  refine m_mk (pc := 70) (N := 128) (atype := .int) (ty := .int) hx hb hts hown hK hin2 hG.1 10 8 hB (by decide) rfl rfl (by decide) rfl rfl (by decide +kernel) hcI rfl q175 (by decide) (by decide) (by decide) (Nat.le_of_ble_eq_true rfl) (Nat.le_of_ble_eq_true rfl) q1102 dX1_init_70 dX1_init_72 (fun H locs hB => ?_)
  refine W.cs (cells' := 9) (slots' := 232) rfl rfl ?_
  refine lv_aload_n (pc := 75) hx hb dX1_init_75 rfl (lv_at hl 0 rfl) ?_
  refine lv_bipush (pc := 76) (v := 32) hx hb dX1_init_76 (by decide) ?_
  refine m_mk (pc := 78) (N := 32) (atype := .int) (ty := .int) hx hb hts hown hK hin2 hG.1 11 9 hB (by decide) rfl rfl (by decide) rfl rfl (by decide +kernel) hcI rfl q175 (by decide) (by decide) (by decide) (Nat.le_of_ble_eq_true rfl) (Nat.le_of_ble_eq_true rfl) q1103 dX1_init_78 dX1_init_80 (fun H locs hB => ?_)
  refine W.cs (cells' := 10) (slots' := 264) rfl rfl ?_
  refine lv_aload_n (pc := 83) hx hb dX1_init_83 rfl (lv_at hl 0 rfl) ?_
  refine lv_bipush (pc := 84) (v := 8) hx hb dX1_init_84 (by decide) ?_
  refine m_mk (pc := 86) (N := 8) (atype := .int) (ty := .int) hx hb hts hown hK hin2 hG.1 13 10 hB (by decide) rfl rfl (by decide) rfl rfl (by decide +kernel) hcI rfl q175 (by decide) (by decide) (by decide) (Nat.le_of_ble_eq_true rfl) (Nat.le_of_ble_eq_true rfl) q1105 dX1_init_86 dX1_init_88 (fun H locs hB => ?_)
  refine W.cs (cells' := 11) (slots' := 272) rfl rfl ?_
  refine lv_aload_n (pc := 91) hx hb dX1_init_91 rfl (lv_at hl 0 rfl) ?_
  refine lv_bipush (pc := 92) (v := 10) hx hb dX1_init_92 (by decide) ?_
  refine m_mk (pc := 94) (N := 10) (atype := .int) (ty := .int) hx hb hts hown hK hin2 hG.1 17 11 hB (by decide) rfl rfl (by decide) rfl rfl (by decide +kernel) hcI rfl q175 (by decide) (by decide) (by decide) (Nat.le_of_ble_eq_true rfl) (Nat.le_of_ble_eq_true rfl) q1109 dX1_init_94 dX1_init_96 (fun H locs hB => ?_)
  refine W.cs (cells' := 12) (slots' := 282) rfl rfl ?_
  refine lv_aload_n (pc := 99) hx hb dX1_init_99 rfl (lv_at hl 0 rfl) ?_
  refine lv_bipush (pc := 100) (v := 11) hx hb dX1_init_100 (by decide) ?_
  refine m_mk (pc := 102) (N := 11) (atype := .int) (ty := .int) hx hb hts hown hK hin2 hG.1 20 12 hB (by decide) rfl rfl (by decide) rfl rfl (by decide +kernel) hcI rfl q175 (by decide) (by decide) (by decide) (Nat.le_of_ble_eq_true rfl) (Nat.le_of_ble_eq_true rfl) q1112 dX1_init_102 dX1_init_104 (fun H locs hB => ?_)
  refine W.cs (cells' := 13) (slots' := 293) rfl rfl ?_
  refine lv_aload_n (pc := 107) hx hb dX1_init_107 rfl (lv_at hl 0 rfl) ?_
  refine lv_bipush (pc := 108) (v := 11) hx hb dX1_init_108 (by decide) ?_
  refine m_mk (pc := 110) (N := 11) (atype := .int) (ty := .int) hx hb hts hown hK hin2 hG.1 21 13 hB (by decide) rfl rfl (by decide) rfl rfl (by decide +kernel) hcI rfl q175 (by decide) (by decide) (by decide) (Nat.le_of_ble_eq_true rfl) (Nat.le_of_ble_eq_true rfl) q1113 dX1_init_110 dX1_init_112 (fun H locs hB => ?_)
  refine W.cs (cells' := 14) (slots' := 304) rfl rfl ?_
  refine lv_aload_n (pc := 115) hx hb dX1_init_115 rfl (lv_at hl 0 rfl) ?_
  refine lv_bipush (pc := 116) (v := 11) hx hb dX1_init_116 (by decide) ?_
  refine m_mk (pc := 118) (N := 11) (atype := .int) (ty := .int) hx hb hts hown hK hin2 hG.1 22 14 hB (by decide) rfl rfl (by decide) rfl rfl (by decide +kernel) hcI rfl q175 (by decide) (by decide) (by decide) (Nat.le_of_ble_eq_true rfl) (Nat.le_of_ble_eq_true rfl) q1114 dX1_init_118 dX1_init_120 (fun H locs hB => ?_)
  refine W.cs (cells' := 15) (slots' := 315) rfl rfl ?_
  refine lv_aload_n (pc := 123) hx hb dX1_init_123 rfl (lv_at hl 0 rfl) ?_
  refine lv_bipush (pc := 124) (v := 11) hx hb dX1_init_124 (by decide) ?_
  refine m_mk (pc := 126) (N := 11) (atype := .int) (ty := .int) hx hb hts hown hK hin2 hG.1 23 15 hB (by decide) rfl rfl (by decide) rfl rfl (by decide +kernel) hcI rfl q175 (by decide) (by decide) (by decide) (Nat.le_of_ble_eq_true rfl) (Nat.le_of_ble_eq_true rfl) q1115 dX1_init_126 dX1_init_128 (fun H locs hB => ?_)
  refine W.cs (cells' := 16) (slots' := 326) rfl rfl ?_
  refine lv_aload_n (pc := 131) hx hb dX1_init_131 rfl (lv_at hl 0 rfl) ?_
  refine lv_bipush (pc := 132) (v := 10) hx hb dX1_init_132 (by decide) ?_
  refine m_mk (pc := 134) (N := 10) (atype := .int) (ty := .int) hx hb hts hown hK hin2 hG.1 26 16 hB (by decide) rfl rfl (by decide) rfl rfl (by decide +kernel) hcI rfl q175 (by decide) (by decide) (by decide) (Nat.le_of_ble_eq_true rfl) (Nat.le_of_ble_eq_true rfl) q1118 dX1_init_134 dX1_init_136 (fun H locs hB => ?_)
  refine W.cs (cells' := 17) (slots' := 336) rfl rfl ?_
  refine lv_aload_n (pc := 139) hx hb dX1_init_139 rfl (lv_at hl 0 rfl) ?_
  refine lv_bipush (pc := 140) (v := 8) hx hb dX1_init_140 (by decide) ?_
  refine m_mk (pc := 142) (N := 8) (atype := .int) (ty := .int) hx hb hts hown hK hin2 hG.1 28 17 hB (by decide) rfl rfl (by decide) rfl rfl (by decide +kernel) hcI rfl q175 (by decide) (by decide) (by decide) (Nat.le_of_ble_eq_true rfl) (Nat.le_of_ble_eq_true rfl) q1120 dX1_init_142 dX1_init_144 (fun H locs hB => ?_)
  refine W.cs (cells' := 18) (slots' := 344) rfl rfl ?_
  refine lv_aload_n (pc := 147) hx hb dX1_init_147 rfl (lv_at hl 0 rfl) ?_
  refine lv_bipush (pc := 148) (v := 8) hx hb dX1_init_148 (by decide) ?_
  refine m_mk (pc := 150) (N := 8) (atype := .int) (ty := .int) hx hb hts hown hK hin2 hG.1 29 18 hB (by decide) rfl rfl (by decide) rfl rfl (by decide +kernel) hcI rfl q175 (by decide) (by decide) (by decide) (Nat.le_of_ble_eq_true rfl) (Nat.le_of_ble_eq_true rfl) q1121 dX1_init_150 dX1_init_152 (fun H locs hB => ?_)
  refine W.cs (cells' := 19) (slots' := 352) rfl rfl ?_
  refine lv_aload_n (pc := 155) hx hb dX1_init_155 rfl (lv_at hl 0 rfl) ?_
  refine lv_bipush (pc := 156) (v := 8) hx hb dX1_init_156 (by decide) ?_
  refine m_mk (pc := 158) (N := 8) (atype := .int) (ty := .int) hx hb hts hown hK hin2 hG.1 31 19 hB (by decide) rfl rfl (by decide) rfl rfl (by decide +kernel) hcI rfl q175 (by decide) (by decide) (by decide) (Nat.le_of_ble_eq_true rfl) (Nat.le_of_ble_eq_true rfl) q1123 dX1_init_158 dX1_init_160 (fun H locs hB => ?_)
  refine W.cs (cells' := 20) (slots' := 360) rfl rfl ?_
  refine lv_aload_n (pc := 163) hx hb dX1_init_163 rfl (lv_at hl 0 rfl) ?_
  refine lv_bipush (pc := 164) (v := 8) hx hb dX1_init_164 (by decide) ?_
  refine m_mk (pc := 166) (N := 8) (atype := .boolean) (ty := .boolean) hx hb hts hown hK hin2 hG.1 32 20 hB (by decide) rfl rfl (by decide) rfl rfl (by decide +kernel) hcB rfl q1222 (by decide) (by decide) (by decide) (Nat.le_of_ble_eq_true rfl) (Nat.le_of_ble_eq_true rfl) q1124 dX1_init_166 dX1_init_168 (fun H locs hB => ?_)
  refine W.cs (cells' := 21) (slots' := 368) rfl rfl ?_
  refine lv_aload_n (pc := 171) hx hb dX1_init_171 rfl (lv_at hl 0 rfl) ?_
  refine lv_bipush (pc := 172) (v := 8) hx hb dX1_init_172 (by decide) ?_
  refine m_mk (pc := 174) (N := 8) (atype := .boolean) (ty := .boolean) hx hb hts hown hK hin2 hG.1 33 21 hB (by decide) rfl rfl (by decide) rfl rfl (by decide +kernel) hcB rfl q1222 (by decide) (by decide) (by decide) (Nat.le_of_ble_eq_true rfl) (Nat.le_of_ble_eq_true rfl) q1125 dX1_init_174 dX1_init_176 (fun H locs hB => ?_)
  refine W.cs (cells' := 22) (slots' := 376) rfl rfl ?_
  refine lv_aload_n (pc := 179) hx hb dX1_init_179 rfl (lv_at hl 0 rfl) ?_
  refine lv_bipush (pc := 180) (v := 32) hx hb dX1_init_180 (by decide) ?_
  refine m_mk (pc := 182) (N := 32) (atype := .int) (ty := .int) hx hb hts hown hK hin2 hG.1 34 22 hB (by decide) rfl rfl (by decide) rfl rfl (by decide +kernel) hcI rfl q175 (by decide) (by decide) (by decide) (Nat.le_of_ble_eq_true rfl) (Nat.le_of_ble_eq_true rfl) q1126 dX1_init_182 dX1_init_184 (fun H locs hB => ?_)
  refine W.cs (cells' := 23) (slots' := 408) rfl rfl ?_
  refine lv_aload_n (pc := 187) hx hb dX1_init_187 rfl (lv_at hl 0 rfl) ?_
  refine lv_bipush (pc := 188) (v := 8) hx hb dX1_init_188 (by decide) ?_
  refine m_mk (pc := 190) (N := 8) (atype := .int) (ty := .int) hx hb hts hown hK hin2 hG.1 36 23 hB (by decide) rfl rfl (by decide) rfl rfl (by decide +kernel) hcI rfl q175 (by decide) (by decide) (by decide) (Nat.le_of_ble_eq_true rfl) (Nat.le_of_ble_eq_true rfl) q1128 dX1_init_190 dX1_init_192 (fun H locs hB => ?_)
  refine W.cs (cells' := 24) (slots' := 416) rfl rfl ?_
  refine lv_aload_n (pc := 195) hx hb dX1_init_195 rfl (lv_at hl 0 rfl) ?_
  refine lv_bipush (pc := 196) (v := 8) hx hb dX1_init_196 (by decide) ?_
  refine m_mk (pc := 198) (N := 8) (atype := .int) (ty := .int) hx hb hts hown hK hin2 hG.1 37 24 hB (by decide) rfl rfl (by decide) rfl rfl (by decide +kernel) hcI rfl q175 (by decide) (by decide) (by decide) (Nat.le_of_ble_eq_true rfl) (Nat.le_of_ble_eq_true rfl) q1129 dX1_init_198 dX1_init_200 (fun H locs hB => ?_)
  refine W.cs (cells' := 25) (slots' := 424) rfl rfl ?_
  refine lv_aload_n (pc := 203) hx hb dX1_init_203 rfl (lv_at hl 0 rfl) ?_
  refine lv_bipush (pc := 204) (v := 64) hx hb dX1_init_204 (by decide) ?_
  refine m_mk (pc := 206) (N := 64) (atype := .int) (ty := .int) hx hb hts hown hK hin2 hG.1 39 25 hB (by decide) rfl rfl (by decide) rfl rfl (by decide +kernel) hcI rfl q175 (by decide) (by decide) (by decide) (Nat.le_of_ble_eq_true rfl) (Nat.le_of_ble_eq_true rfl) q1131 dX1_init_206 dX1_init_208 (fun H locs hB => ?_)
  refine W.cs (cells' := 26) (slots' := 488) rfl rfl ?_
  refine lv_aload_n (pc := 211) hx hb dX1_init_211 rfl (lv_at hl 0 rfl) ?_
  refine lv_bipush (pc := 212) (v := 64) hx hb dX1_init_212 (by decide) ?_
  refine m_mk (pc := 214) (N := 64) (atype := .int) (ty := .int) hx hb hts hown hK hin2 hG.1 40 26 hB (by decide) rfl rfl (by decide) rfl rfl (by decide +kernel) hcI rfl q175 (by decide) (by decide) (by decide) (Nat.le_of_ble_eq_true rfl) (Nat.le_of_ble_eq_true rfl) q1132 dX1_init_214 dX1_init_216 (fun H locs hB => ?_)
  refine W.cs (cells' := 27) (slots' := 552) rfl rfl ?_
  refine lv_aload_n (pc := 219) hx hb dX1_init_219 rfl (lv_at hl 0 rfl) ?_
  refine lv_bipush (pc := 220) (v := 64) hx hb dX1_init_220 (by decide) ?_
  refine m_mk (pc := 222) (N := 64) (atype := .int) (ty := .int) hx hb hts hown hK hin2 hG.1 41 27 hB (by decide) rfl rfl (by decide) rfl rfl (by decide +kernel) hcI rfl q175 (by decide) (by decide) (by decide) (Nat.le_of_ble_eq_true rfl) (Nat.le_of_ble_eq_true rfl) q1133 dX1_init_222 dX1_init_224 (fun H locs hB => ?_)
  refine W.cs (cells' := 28) (slots' := 616) rfl rfl ?_
  have E : mE p c cX1_init s m ([Value.ref G.1] : List Value).toArray G := ⟨hx, hb, hts, hown, hK⟩
  have hloc : ∀ l ∈ locs, mA G l.base := fun l hl => Or.inl (hB.2.2.2.2 l hl)
  have hw : mWd G H (fun _ _ => 0) H locs := by
    refine ⟨⟨hB.1.to (fun k hk => ?_), fun k hk => ?_⟩, rfl, fun _ _ => rfl, hloc⟩
    · unfold pV mfv
      by_cases hz : mlen k = 0
      · rw [if_pos hz, if_pos hz]
      · rw [if_neg hz, if_neg hz, if_pos (mpos_lt k hk hz), hG.2 k]
    · rw [hG.2 k]
      exact hB.2.2.1 k hk (mpos_lt k (mlen_k hk) hk)
  obtain ⟨H1, eH1⟩ : ∃ H1, H1 = H := ⟨_, rfl⟩
  have hw : mWd G H1 (fun _ _ => 0) H locs := by rw [eH1]; exact hw
  have hB : mB G sz 28 s H1 locs := by rw [eH1]; exact hB
  clear eH1
  refine lv_iconst (pc := 227) (v := 0) hx hb dX1_init_227 (by decide) ?_
  refine lv_istore_n (pc := 228) (lv' := [(1, .int 0), (0, .ref G.1)]) hx hb dX1_init_228 rfl hl (by decide) rfl (fun ls hl => ?_)
  refine lv_iload_n (pc := 229) hx hb dX1_init_229 rfl (lv_at hl 0 rfl) ?_
  refine lv_iconst (pc := 230) (v := 4) hx hb dX1_init_230 (by decide) ?_
  refine li_icmp_geL (pc := 231) (Y := 4) (tgt := 247) hx hb rfl dX1_init_231 (by decide) (fun h_ => absurd h_ (by decide)) (fun _ => ?_)
  refine lv_aload_n (pc := 234) hx hb dX1_init_234 rfl (lv_at hl 1 rfl) ?_
  refine m_geta (pc := 235) E hw 8 (by decide) (by decide) q1100 dX1_init_235 ?_
  refine lv_iload_n (pc := 238) hx hb dX1_init_238 rfl (lv_at hl 0 rfl) ?_
  refine lv_iconst (pc := 239) (v := (-1)) hx hb dX1_init_239 (by decide) ?_
  refine m_astN (pc := 240) (v := (-1)) E hw 8 (0) (by decide) rfl (show 0 < 4 from (by omega)) (by decide) dX1_init_240 (fun H locs hw => ?_)
  refine lv_iinc (pc := 241) (v := 1) (lv' := [(1, .int 1), (0, .ref G.1)]) hx hb dX1_init_241 hl (k := 0) rfl (by decide) (by decide) rfl (fun ls hl => ?_)
  refine lv_goto (pc := 244) (tgt := 229) hx hb dX1_init_244 (by decide) ?_
  refine lv_iload_n (pc := 229) hx hb dX1_init_229 rfl (lv_at hl 0 rfl) ?_
  refine lv_iconst (pc := 230) (v := 4) hx hb dX1_init_230 (by decide) ?_
  refine li_icmp_geL (pc := 231) (Y := 4) (tgt := 247) hx hb rfl dX1_init_231 (by decide) (fun h_ => absurd h_ (by decide)) (fun _ => ?_)
  refine lv_aload_n (pc := 234) hx hb dX1_init_234 rfl (lv_at hl 1 rfl) ?_
  refine m_geta (pc := 235) E hw 8 (by decide) (by decide) q1100 dX1_init_235 ?_
  refine lv_iload_n (pc := 238) hx hb dX1_init_238 rfl (lv_at hl 0 rfl) ?_
  refine lv_iconst (pc := 239) (v := (-1)) hx hb dX1_init_239 (by decide) ?_
  refine m_astN (pc := 240) (v := (-1)) E hw 8 (1) (by decide) rfl (show 1 < 4 from (by omega)) (by decide) dX1_init_240 (fun H locs hw => ?_)
  refine lv_iinc (pc := 241) (v := 2) (lv' := [(1, .int 2), (0, .ref G.1)]) hx hb dX1_init_241 hl (k := 0) rfl (by decide) (by decide) rfl (fun ls hl => ?_)
  refine lv_goto (pc := 244) (tgt := 229) hx hb dX1_init_244 (by decide) ?_
  refine lv_iload_n (pc := 229) hx hb dX1_init_229 rfl (lv_at hl 0 rfl) ?_
  refine lv_iconst (pc := 230) (v := 4) hx hb dX1_init_230 (by decide) ?_
  refine li_icmp_geL (pc := 231) (Y := 4) (tgt := 247) hx hb rfl dX1_init_231 (by decide) (fun h_ => absurd h_ (by decide)) (fun _ => ?_)
  refine lv_aload_n (pc := 234) hx hb dX1_init_234 rfl (lv_at hl 1 rfl) ?_
  refine m_geta (pc := 235) E hw 8 (by decide) (by decide) q1100 dX1_init_235 ?_
  refine lv_iload_n (pc := 238) hx hb dX1_init_238 rfl (lv_at hl 0 rfl) ?_
  refine lv_iconst (pc := 239) (v := (-1)) hx hb dX1_init_239 (by decide) ?_
  refine m_astN (pc := 240) (v := (-1)) E hw 8 (2) (by decide) rfl (show 2 < 4 from (by omega)) (by decide) dX1_init_240 (fun H locs hw => ?_)
  refine lv_iinc (pc := 241) (v := 3) (lv' := [(1, .int 3), (0, .ref G.1)]) hx hb dX1_init_241 hl (k := 0) rfl (by decide) (by decide) rfl (fun ls hl => ?_)
  refine lv_goto (pc := 244) (tgt := 229) hx hb dX1_init_244 (by decide) ?_
  refine lv_iload_n (pc := 229) hx hb dX1_init_229 rfl (lv_at hl 0 rfl) ?_
  refine lv_iconst (pc := 230) (v := 4) hx hb dX1_init_230 (by decide) ?_
  refine li_icmp_geL (pc := 231) (Y := 4) (tgt := 247) hx hb rfl dX1_init_231 (by decide) (fun h_ => absurd h_ (by decide)) (fun _ => ?_)
  refine lv_aload_n (pc := 234) hx hb dX1_init_234 rfl (lv_at hl 1 rfl) ?_
  refine m_geta (pc := 235) E hw 8 (by decide) (by decide) q1100 dX1_init_235 ?_
  refine lv_iload_n (pc := 238) hx hb dX1_init_238 rfl (lv_at hl 0 rfl) ?_
  refine lv_iconst (pc := 239) (v := (-1)) hx hb dX1_init_239 (by decide) ?_
  refine m_astN (pc := 240) (v := (-1)) E hw 8 (3) (by decide) rfl (show 3 < 4 from (by omega)) (by decide) dX1_init_240 (fun H locs hw => ?_)
  refine lv_iinc (pc := 241) (v := 4) (lv' := [(1, .int 4), (0, .ref G.1)]) hx hb dX1_init_241 hl (k := 0) rfl (by decide) (by decide) rfl (fun ls hl => ?_)
  refine lv_goto (pc := 244) (tgt := 229) hx hb dX1_init_244 (by decide) ?_
  refine lv_iload_n (pc := 229) hx hb dX1_init_229 rfl (lv_at hl 0 rfl) ?_
  refine lv_iconst (pc := 230) (v := 4) hx hb dX1_init_230 (by decide) ?_
  refine li_icmp_geL (pc := 231) (Y := 4) (tgt := 247) hx hb rfl dX1_init_231 (by decide) (fun _ => ?_) (fun h_ => absurd h_ (by decide))
  refine lv_aload_n (pc := 247) hx hb dX1_init_247 rfl (lv_at hl 1 rfl) ?_
  refine lv_iconst (pc := 248) (v := 0) hx hb dX1_init_248 (by decide) ?_
  refine m_put (pc := 249) (v := 0) E hw 24 (by decide) rfl rfl rfl q1116 dX1_init_249 (fun H locs hw => ?_)
  exact W.vret hx hb hr (fun t ht hW => ⟨rfl, by rw [ht]; exact hw.1, by rw [ht, hw.2.1]; exact hB.2.1, fun q hq hne => by
    rw [ht, hw.2.2.1 q (fun z => by
      rcases z with z | ⟨k, _, z⟩
      · exact hne z
      · rw [hG.2 k] at z; omega)]
    exact hB.2.2.2.1 q hq hne⟩) (fun q hq => by
      rcases hw.2.2.2 q hq with z | ⟨k, _, z⟩
      · exact Or.inl z
      · exact Or.inr (by rw [z, hG.2 k]; omega)) dX1_init_252 hlk
