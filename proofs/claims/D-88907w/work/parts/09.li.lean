/-! rows with conditions over Int (toInt) or Nat (nI), for every class -/
/-- a truth value as the machine has it -/
noncomputable def bI (P : Prop) : Int32 := @ite _ P (Classical.propDecidable P) 1 0
theorem bI_t {P : Prop} (h : P) : bI P = 1 := if_pos h
theorem bI_f {P : Prop} (h : ¬ P) : bI P = 0 := if_neg h
theorem bI_e {P : Prop} (h : bI P = 0) : ¬ P := fun q => by rw [bI_t q] at h; exact absurd h (by decide)
theorem bI_n {P : Prop} (h : ¬ bI P = 0) : P := Classical.byContradiction fun q => h (bI_f q)
theorem bI_c {P P' : Prop} (h : P ↔ P') : bI P = bI P' := by rw [propext h]
theorem bI_nar (P : Prop) : narrow .boolean (.int (bI P)) = .int (bI P) := by
  by_cases h : P
  · rw [bI_t h]; rfl
  · rw [bI_f h]; rfl
theorem bI_01 (P : Prop) : bI P = 0 ∨ bI P = 1 := by
  by_cases h : P
  · exact Or.inr (bI_t h)
  · exact Or.inl (bI_f h)
theorem i32_add {a b : Int32} (h1 : -2147483648 ≤ a.toInt + b.toInt) (h2 : a.toInt + b.toInt < 2147483648) : (a + b).toInt = a.toInt + b.toInt := by
  rw [Int32.toInt_add, Int.bmod_eq_of_le (by omega) (by omega)]
theorem i32_sub {a b : Int32} (h1 : -2147483648 ≤ a.toInt - b.toInt) (h2 : a.toInt - b.toInt < 2147483648) : (a - b).toInt = a.toInt - b.toInt := by
  rw [Int32.toInt_sub, Int.bmod_eq_of_le (by omega) (by omega)]
theorem i32_mul {a b : Int32} (h1 : -2147483648 ≤ a.toInt * b.toInt) (h2 : a.toInt * b.toInt < 2147483648) : (a * b).toInt = a.toInt * b.toInt := by
  rw [Int32.toInt_mul, Int.bmod_eq_of_le (by omega) (by omega)]
theorem i64_add {a b : Int64} (h1 : -9223372036854775808 ≤ a.toInt + b.toInt) (h2 : a.toInt + b.toInt < 9223372036854775808) : (a + b).toInt = a.toInt + b.toInt := by
  rw [Int64.toInt_add, Int.bmod_eq_of_le (by omega) (by omega)]
theorem i64_sub {a b : Int64} (h1 : -9223372036854775808 ≤ a.toInt - b.toInt) (h2 : a.toInt - b.toInt < 9223372036854775808) : (a - b).toInt = a.toInt - b.toInt := by
  rw [Int64.toInt_sub, Int.bmod_eq_of_le (by omega) (by omega)]
theorem i64_mul {a b : Int64} (h1 : -9223372036854775808 ≤ a.toInt * b.toInt) (h2 : a.toInt * b.toInt < 9223372036854775808) : (a * b).toInt = a.toInt * b.toInt := by
  rw [Int64.toInt_mul, Int.bmod_eq_of_le (by omega) (by omega)]
theorem i32_lo (a : Int32) : -2147483648 ≤ a.toInt := Int32.le_toInt a
theorem i32_hi (a : Int32) : a.toInt < 2147483648 := Int32.toInt_lt a
theorem i32_nI {x : Int32} (h : 0 ≤ x.toInt) : x = nI x.toInt.toNat := by
  have h2 := i32_hi x
  refine Int32.toInt_inj.mp ?_
  rw [nI_toInt (by omega)]
  omega
theorem i32_of {x : Int32} {n : Int} (h : 0 ≤ x.toInt) (h2 : x.toInt < n) : ∃ j : Nat, (j : Int) < n ∧ x = nI j := ⟨x.toInt.toNat, by omega, i32_nI h⟩
theorem i32_clamp {x : Int32} (h : 0 ≤ x.toInt) : x.toNatClampNeg = x.toInt.toNat := rfl
section LI
variable {p : Program} {l : Launch} {e : Env} {R : Room} {s : State} {m : MethodId} {args : Array Value} {below : List Frame} {meth : Method} {c : Code} {H : Heap} {locs : List Loc} {cells slots : Nat} {Q : State → Prop}
variable {cc : ByteArray} {pc : Nat} {ls : Array Slot} {rest : List Value}
theorem li_if_lt (hx : p.tables.exec = Jvm.exec) (hb : c.code = cc) {x : Int32} {off : Int} {tgt : Nat} (hdg : decode cc pc = .ok (.ifCond .lt off, 3)) (ht : (pc : Int) + off = (tgt : Int))
    (kt : x.toInt < 0 → W p l e R s m args below meth c H locs cells slots Q (F0 m tgt ls rest)) (kf : ¬ x.toInt < 0 → W p l e R s m args below meth c H locs cells slots Q (F0 m (pc + 3) ls rest)) : W p l e R s m args below meth c H locs cells slots Q (F0 m pc ls (.int x :: rest)) :=
  lv_if_lt hx hb hdg ht (fun h => kt (by simpa [Int32.lt_iff_toInt_lt] using h)) (fun h => kf (by simpa [Int32.lt_iff_toInt_lt] using h))
theorem li_if_ge (hx : p.tables.exec = Jvm.exec) (hb : c.code = cc) {x : Int32} {off : Int} {tgt : Nat} (hdg : decode cc pc = .ok (.ifCond .ge off, 3)) (ht : (pc : Int) + off = (tgt : Int))
    (kt : ¬ x.toInt < 0 → W p l e R s m args below meth c H locs cells slots Q (F0 m tgt ls rest)) (kf : x.toInt < 0 → W p l e R s m args below meth c H locs cells slots Q (F0 m (pc + 3) ls rest)) : W p l e R s m args below meth c H locs cells slots Q (F0 m pc ls (.int x :: rest)) :=
  lv_if_ge hx hb hdg ht (fun h => kt (by simpa [Int32.lt_iff_toInt_lt, Int32.le_iff_toInt_le] using h)) (fun h => kf (by simpa [Int32.lt_iff_toInt_lt, Int32.le_iff_toInt_le] using h))
theorem li_if_gt (hx : p.tables.exec = Jvm.exec) (hb : c.code = cc) {x : Int32} {off : Int} {tgt : Nat} (hdg : decode cc pc = .ok (.ifCond .gt off, 3)) (ht : (pc : Int) + off = (tgt : Int))
    (kt : 0 < x.toInt → W p l e R s m args below meth c H locs cells slots Q (F0 m tgt ls rest)) (kf : ¬ 0 < x.toInt → W p l e R s m args below meth c H locs cells slots Q (F0 m (pc + 3) ls rest)) : W p l e R s m args below meth c H locs cells slots Q (F0 m pc ls (.int x :: rest)) :=
  lv_if_gt hx hb hdg ht (fun h => kt (by simpa [Int32.lt_iff_toInt_lt, Int32.le_iff_toInt_le] using h)) (fun h => kf (by simpa [Int32.lt_iff_toInt_lt, Int32.le_iff_toInt_le] using h))
theorem li_if_le (hx : p.tables.exec = Jvm.exec) (hb : c.code = cc) {x : Int32} {off : Int} {tgt : Nat} (hdg : decode cc pc = .ok (.ifCond .le off, 3)) (ht : (pc : Int) + off = (tgt : Int))
    (kt : ¬ 0 < x.toInt → W p l e R s m args below meth c H locs cells slots Q (F0 m tgt ls rest)) (kf : 0 < x.toInt → W p l e R s m args below meth c H locs cells slots Q (F0 m (pc + 3) ls rest)) : W p l e R s m args below meth c H locs cells slots Q (F0 m pc ls (.int x :: rest)) :=
  lv_if_le hx hb hdg ht (fun h => kt (by simpa [Int32.lt_iff_toInt_lt, Int32.le_iff_toInt_le] using h)) (fun h => kf (by simpa [Int32.lt_iff_toInt_lt, Int32.le_iff_toInt_le] using h))
theorem li_icmp_lt (hx : p.tables.exec = Jvm.exec) (hb : c.code = cc) {x y : Int32} {off : Int} {tgt : Nat} (hdg : decode cc pc = .ok (.if_icmp .lt off, 3)) (ht : (pc : Int) + off = (tgt : Int))
    (kt : x.toInt < y.toInt → W p l e R s m args below meth c H locs cells slots Q (F0 m tgt ls rest)) (kf : ¬ x.toInt < y.toInt → W p l e R s m args below meth c H locs cells slots Q (F0 m (pc + 3) ls rest)) : W p l e R s m args below meth c H locs cells slots Q (F0 m pc ls (.int y :: .int x :: rest)) :=
  lv_icmp_lt hx hb hdg ht (fun h => kt (by simpa [Int32.lt_iff_toInt_lt, Int32.le_iff_toInt_le] using h)) (fun h => kf (by simpa [Int32.lt_iff_toInt_lt, Int32.le_iff_toInt_le] using h))
theorem li_icmp_ge (hx : p.tables.exec = Jvm.exec) (hb : c.code = cc) {x y : Int32} {off : Int} {tgt : Nat} (hdg : decode cc pc = .ok (.if_icmp .ge off, 3)) (ht : (pc : Int) + off = (tgt : Int))
    (kt : ¬ x.toInt < y.toInt → W p l e R s m args below meth c H locs cells slots Q (F0 m tgt ls rest)) (kf : x.toInt < y.toInt → W p l e R s m args below meth c H locs cells slots Q (F0 m (pc + 3) ls rest)) : W p l e R s m args below meth c H locs cells slots Q (F0 m pc ls (.int y :: .int x :: rest)) :=
  lv_icmp_ge hx hb hdg ht (fun h => kt (by simpa [Int32.lt_iff_toInt_lt, Int32.le_iff_toInt_le] using h)) (fun h => kf (by simpa [Int32.lt_iff_toInt_lt, Int32.le_iff_toInt_le] using h))
theorem li_icmp_gt (hx : p.tables.exec = Jvm.exec) (hb : c.code = cc) {x y : Int32} {off : Int} {tgt : Nat} (hdg : decode cc pc = .ok (.if_icmp .gt off, 3)) (ht : (pc : Int) + off = (tgt : Int))
    (kt : y.toInt < x.toInt → W p l e R s m args below meth c H locs cells slots Q (F0 m tgt ls rest)) (kf : ¬ y.toInt < x.toInt → W p l e R s m args below meth c H locs cells slots Q (F0 m (pc + 3) ls rest)) : W p l e R s m args below meth c H locs cells slots Q (F0 m pc ls (.int y :: .int x :: rest)) :=
  lv_icmp_gt hx hb hdg ht (fun h => kt (by simpa [Int32.lt_iff_toInt_lt, Int32.le_iff_toInt_le] using h)) (fun h => kf (by simpa [Int32.lt_iff_toInt_lt, Int32.le_iff_toInt_le] using h))
theorem li_icmp_le (hx : p.tables.exec = Jvm.exec) (hb : c.code = cc) {x y : Int32} {off : Int} {tgt : Nat} (hdg : decode cc pc = .ok (.if_icmp .le off, 3)) (ht : (pc : Int) + off = (tgt : Int))
    (kt : ¬ y.toInt < x.toInt → W p l e R s m args below meth c H locs cells slots Q (F0 m tgt ls rest)) (kf : y.toInt < x.toInt → W p l e R s m args below meth c H locs cells slots Q (F0 m (pc + 3) ls rest)) : W p l e R s m args below meth c H locs cells slots Q (F0 m pc ls (.int y :: .int x :: rest)) :=
  lv_icmp_le hx hb hdg ht (fun h => kt (by simpa [Int32.lt_iff_toInt_lt, Int32.le_iff_toInt_le] using h)) (fun h => kf (by simpa [Int32.lt_iff_toInt_lt, Int32.le_iff_toInt_le] using h))
theorem li_icmp_ltL (hx : p.tables.exec = Jvm.exec) (hb : c.code = cc) {x y : Int32} {Y : Int} (hy : y.toInt = Y) {off : Int} {tgt : Nat} (hdg : decode cc pc = .ok (.if_icmp .lt off, 3)) (ht : (pc : Int) + off = (tgt : Int))
    (kt : x.toInt < Y → W p l e R s m args below meth c H locs cells slots Q (F0 m tgt ls rest)) (kf : ¬ x.toInt < Y → W p l e R s m args below meth c H locs cells slots Q (F0 m (pc + 3) ls rest)) : W p l e R s m args below meth c H locs cells slots Q (F0 m pc ls (.int y :: .int x :: rest)) :=
  li_icmp_lt hx hb hdg ht (fun h => kt (by rw [hy] at h; exact h)) (fun h => kf (by rw [hy] at h; exact h))
theorem li_icmp_geL (hx : p.tables.exec = Jvm.exec) (hb : c.code = cc) {x y : Int32} {Y : Int} (hy : y.toInt = Y) {off : Int} {tgt : Nat} (hdg : decode cc pc = .ok (.if_icmp .ge off, 3)) (ht : (pc : Int) + off = (tgt : Int))
    (kt : ¬ x.toInt < Y → W p l e R s m args below meth c H locs cells slots Q (F0 m tgt ls rest)) (kf : x.toInt < Y → W p l e R s m args below meth c H locs cells slots Q (F0 m (pc + 3) ls rest)) : W p l e R s m args below meth c H locs cells slots Q (F0 m pc ls (.int y :: .int x :: rest)) :=
  li_icmp_ge hx hb hdg ht (fun h => kt (by rw [hy] at h; exact h)) (fun h => kf (by rw [hy] at h; exact h))
theorem li_icmp_gtL (hx : p.tables.exec = Jvm.exec) (hb : c.code = cc) {x y : Int32} {Y : Int} (hy : y.toInt = Y) {off : Int} {tgt : Nat} (hdg : decode cc pc = .ok (.if_icmp .gt off, 3)) (ht : (pc : Int) + off = (tgt : Int))
    (kt : Y < x.toInt → W p l e R s m args below meth c H locs cells slots Q (F0 m tgt ls rest)) (kf : ¬ Y < x.toInt → W p l e R s m args below meth c H locs cells slots Q (F0 m (pc + 3) ls rest)) : W p l e R s m args below meth c H locs cells slots Q (F0 m pc ls (.int y :: .int x :: rest)) :=
  li_icmp_gt hx hb hdg ht (fun h => kt (by rw [hy] at h; exact h)) (fun h => kf (by rw [hy] at h; exact h))
theorem li_icmp_leL (hx : p.tables.exec = Jvm.exec) (hb : c.code = cc) {x y : Int32} {Y : Int} (hy : y.toInt = Y) {off : Int} {tgt : Nat} (hdg : decode cc pc = .ok (.if_icmp .le off, 3)) (ht : (pc : Int) + off = (tgt : Int))
    (kt : ¬ Y < x.toInt → W p l e R s m args below meth c H locs cells slots Q (F0 m tgt ls rest)) (kf : Y < x.toInt → W p l e R s m args below meth c H locs cells slots Q (F0 m (pc + 3) ls rest)) : W p l e R s m args below meth c H locs cells slots Q (F0 m pc ls (.int y :: .int x :: rest)) :=
  li_icmp_le hx hb hdg ht (fun h => kt (by rw [hy] at h; exact h)) (fun h => kf (by rw [hy] at h; exact h))
/-- numbers that are known by their Nat -/
theorem li_icmp_geN (hx : p.tables.exec = Jvm.exec) (hb : c.code = cc) {a b : Nat} {off : Int} {tgt : Nat} (ha : a < 2 ^ 31) (hb2 : b < 2 ^ 31) (hdg : decode cc pc = .ok (.if_icmp .ge off, 3)) (ht : (pc : Int) + off = (tgt : Int))
    (kt : ¬ a < b → W p l e R s m args below meth c H locs cells slots Q (F0 m tgt ls rest)) (kf : a < b → W p l e R s m args below meth c H locs cells slots Q (F0 m (pc + 3) ls rest)) : W p l e R s m args below meth c H locs cells slots Q (F0 m pc ls (.int (nI b) :: .int (nI a) :: rest)) :=
  li_icmp_ge hx hb hdg ht (fun h => kt (by rw [nI_toInt ha, nI_toInt hb2] at h; omega)) (fun h => kf (by rw [nI_toInt ha, nI_toInt hb2] at h; omega))
theorem li_icmp_ltN (hx : p.tables.exec = Jvm.exec) (hb : c.code = cc) {a b : Nat} {off : Int} {tgt : Nat} (ha : a < 2 ^ 31) (hb2 : b < 2 ^ 31) (hdg : decode cc pc = .ok (.if_icmp .lt off, 3)) (ht : (pc : Int) + off = (tgt : Int))
    (kt : a < b → W p l e R s m args below meth c H locs cells slots Q (F0 m tgt ls rest)) (kf : ¬ a < b → W p l e R s m args below meth c H locs cells slots Q (F0 m (pc + 3) ls rest)) : W p l e R s m args below meth c H locs cells slots Q (F0 m pc ls (.int (nI b) :: .int (nI a) :: rest)) :=
  li_icmp_lt hx hb hdg ht (fun h => kt (by rw [nI_toInt ha, nI_toInt hb2] at h; omega)) (fun h => kf (by rw [nI_toInt ha, nI_toInt hb2] at h; omega))
theorem li_icmp_gtN (hx : p.tables.exec = Jvm.exec) (hb : c.code = cc) {a b : Nat} {off : Int} {tgt : Nat} (ha : a < 2 ^ 31) (hb2 : b < 2 ^ 31) (hdg : decode cc pc = .ok (.if_icmp .gt off, 3)) (ht : (pc : Int) + off = (tgt : Int))
    (kt : b < a → W p l e R s m args below meth c H locs cells slots Q (F0 m tgt ls rest)) (kf : ¬ b < a → W p l e R s m args below meth c H locs cells slots Q (F0 m (pc + 3) ls rest)) : W p l e R s m args below meth c H locs cells slots Q (F0 m pc ls (.int (nI b) :: .int (nI a) :: rest)) :=
  li_icmp_gt hx hb hdg ht (fun h => kt (by rw [nI_toInt ha, nI_toInt hb2] at h; omega)) (fun h => kf (by rw [nI_toInt ha, nI_toInt hb2] at h; omega))
theorem li_icmp_leN (hx : p.tables.exec = Jvm.exec) (hb : c.code = cc) {a b : Nat} {off : Int} {tgt : Nat} (ha : a < 2 ^ 31) (hb2 : b < 2 ^ 31) (hdg : decode cc pc = .ok (.if_icmp .le off, 3)) (ht : (pc : Int) + off = (tgt : Int))
    (kt : ¬ b < a → W p l e R s m args below meth c H locs cells slots Q (F0 m tgt ls rest)) (kf : b < a → W p l e R s m args below meth c H locs cells slots Q (F0 m (pc + 3) ls rest)) : W p l e R s m args below meth c H locs cells slots Q (F0 m pc ls (.int (nI b) :: .int (nI a) :: rest)) :=
  li_icmp_le hx hb hdg ht (fun h => kt (by rw [nI_toInt ha, nI_toInt hb2] at h; omega)) (fun h => kf (by rw [nI_toInt ha, nI_toInt hb2] at h; omega))
theorem li_icmp_eqN (hx : p.tables.exec = Jvm.exec) (hb : c.code = cc) {a b : Nat} {off : Int} {tgt : Nat} (ha : a < 2 ^ 31) (hb2 : b < 2 ^ 31) (hdg : decode cc pc = .ok (.if_icmp .eq off, 3)) (ht : (pc : Int) + off = (tgt : Int))
    (kt : a = b → W p l e R s m args below meth c H locs cells slots Q (F0 m tgt ls rest)) (kf : ¬ a = b → W p l e R s m args below meth c H locs cells slots Q (F0 m (pc + 3) ls rest)) : W p l e R s m args below meth c H locs cells slots Q (F0 m pc ls (.int (nI b) :: .int (nI a) :: rest)) :=
  lv_icmp_eq hx hb hdg ht (fun h => kt ((nI_eq ha hb2).mp h)) (fun h => kf (fun q => h ((nI_eq ha hb2).mpr q)))
theorem li_icmp_neN (hx : p.tables.exec = Jvm.exec) (hb : c.code = cc) {a b : Nat} {off : Int} {tgt : Nat} (ha : a < 2 ^ 31) (hb2 : b < 2 ^ 31) (hdg : decode cc pc = .ok (.if_icmp .ne off, 3)) (ht : (pc : Int) + off = (tgt : Int))
    (kt : ¬ a = b → W p l e R s m args below meth c H locs cells slots Q (F0 m tgt ls rest)) (kf : a = b → W p l e R s m args below meth c H locs cells slots Q (F0 m (pc + 3) ls rest)) : W p l e R s m args below meth c H locs cells slots Q (F0 m pc ls (.int (nI b) :: .int (nI a) :: rest)) :=
  lv_icmp_ne hx hb hdg ht (fun h => kt (fun q => h ((nI_eq ha hb2).mpr q))) (fun h => kf ((nI_eq ha hb2).mp h))
theorem li_if_eqN (hx : p.tables.exec = Jvm.exec) (hb : c.code = cc) {a : Nat} {off : Int} {tgt : Nat} (ha : a < 2 ^ 31) (hdg : decode cc pc = .ok (.ifCond .eq off, 3)) (ht : (pc : Int) + off = (tgt : Int))
    (kt : a = 0 → W p l e R s m args below meth c H locs cells slots Q (F0 m tgt ls rest)) (kf : ¬ a = 0 → W p l e R s m args below meth c H locs cells slots Q (F0 m (pc + 3) ls rest)) : W p l e R s m args below meth c H locs cells slots Q (F0 m pc ls (.int (nI a) :: rest)) :=
  lv_if_eq hx hb hdg ht (fun h => kt ((nI_eq ha (by decide)).mp (h.trans nI_0.symm))) (fun h => kf (fun q => h (by rw [q]; exact nI_0)))
theorem li_if_neN (hx : p.tables.exec = Jvm.exec) (hb : c.code = cc) {a : Nat} {off : Int} {tgt : Nat} (ha : a < 2 ^ 31) (hdg : decode cc pc = .ok (.ifCond .ne off, 3)) (ht : (pc : Int) + off = (tgt : Int))
    (kt : ¬ a = 0 → W p l e R s m args below meth c H locs cells slots Q (F0 m tgt ls rest)) (kf : a = 0 → W p l e R s m args below meth c H locs cells slots Q (F0 m (pc + 3) ls rest)) : W p l e R s m args below meth c H locs cells slots Q (F0 m pc ls (.int (nI a) :: rest)) :=
  lv_if_ne hx hb hdg ht (fun h => kt (fun q => h (by rw [q]; exact nI_0))) (fun h => kf ((nI_eq ha (by decide)).mp (h.trans nI_0.symm)))
theorem li_if_gtN (hx : p.tables.exec = Jvm.exec) (hb : c.code = cc) {a : Nat} {off : Int} {tgt : Nat} (ha : a < 2 ^ 31) (hdg : decode cc pc = .ok (.ifCond .gt off, 3)) (ht : (pc : Int) + off = (tgt : Int))
    (kt : 0 < a → W p l e R s m args below meth c H locs cells slots Q (F0 m tgt ls rest)) (kf : ¬ 0 < a → W p l e R s m args below meth c H locs cells slots Q (F0 m (pc + 3) ls rest)) : W p l e R s m args below meth c H locs cells slots Q (F0 m pc ls (.int (nI a) :: rest)) :=
  li_if_gt hx hb hdg ht (fun h => kt (by rw [nI_toInt ha] at h; omega)) (fun h => kf (by rw [nI_toInt ha] at h; omega))
theorem li_if_leN (hx : p.tables.exec = Jvm.exec) (hb : c.code = cc) {a : Nat} {off : Int} {tgt : Nat} (ha : a < 2 ^ 31) (hdg : decode cc pc = .ok (.ifCond .le off, 3)) (ht : (pc : Int) + off = (tgt : Int))
    (kt : ¬ 0 < a → W p l e R s m args below meth c H locs cells slots Q (F0 m tgt ls rest)) (kf : 0 < a → W p l e R s m args below meth c H locs cells slots Q (F0 m (pc + 3) ls rest)) : W p l e R s m args below meth c H locs cells slots Q (F0 m pc ls (.int (nI a) :: rest)) :=
  li_if_le hx hb hdg ht (fun h => kt (by rw [nI_toInt ha] at h; omega)) (fun h => kf (by rw [nI_toInt ha] at h; omega))
theorem li_ne (hx : p.tables.exec = Jvm.exec) (hb : c.code = cc) {x : Int32} {off : Int} {tgt : Nat} (hdg : decode cc pc = .ok (.ifCond .ne off, 3)) (ht : (pc : Int) + off = (tgt : Int))
    (kt : ¬ x = 0 → W p l e R s m args below meth c H locs cells slots Q (F0 m tgt ls rest)) (kf : x = 0 → W p l e R s m args below meth c H locs cells slots Q (F0 m (pc + 3) ls rest)) : W p l e R s m args below meth c H locs cells slots Q (F0 m pc ls (.int x :: rest)) :=
  lv_if_ne hx hb hdg ht (fun h => kt h) (fun h => kf h)
theorem li_icne (hx : p.tables.exec = Jvm.exec) (hb : c.code = cc) {x y : Int32} {off : Int} {tgt : Nat} (hdg : decode cc pc = .ok (.if_icmp .ne off, 3)) (ht : (pc : Int) + off = (tgt : Int))
    (kt : ¬ x = y → W p l e R s m args below meth c H locs cells slots Q (F0 m tgt ls rest)) (kf : x = y → W p l e R s m args below meth c H locs cells slots Q (F0 m (pc + 3) ls rest)) : W p l e R s m args below meth c H locs cells slots Q (F0 m pc ls (.int y :: .int x :: rest)) :=
  lv_icmp_ne hx hb hdg ht (fun h => kt h) (fun h => kf h)
/-- truth values -/
theorem lb_eq (hx : p.tables.exec = Jvm.exec) (hb : c.code = cc) {P : Prop} {off : Int} {tgt : Nat} (hdg : decode cc pc = .ok (.ifCond .eq off, 3)) (ht : (pc : Int) + off = (tgt : Int))
    (kt : ¬ P → W p l e R s m args below meth c H locs cells slots Q (F0 m tgt ls rest)) (kf : P → W p l e R s m args below meth c H locs cells slots Q (F0 m (pc + 3) ls rest)) : W p l e R s m args below meth c H locs cells slots Q (F0 m pc ls (.int (bI P) :: rest)) :=
  lv_if_eq hx hb hdg ht (fun h => kt (bI_e h)) (fun h => kf (bI_n h))
theorem lb_ne (hx : p.tables.exec = Jvm.exec) (hb : c.code = cc) {P : Prop} {off : Int} {tgt : Nat} (hdg : decode cc pc = .ok (.ifCond .ne off, 3)) (ht : (pc : Int) + off = (tgt : Int))
    (kt : P → W p l e R s m args below meth c H locs cells slots Q (F0 m tgt ls rest)) (kf : ¬ P → W p l e R s m args below meth c H locs cells slots Q (F0 m (pc + 3) ls rest)) : W p l e R s m args below meth c H locs cells slots Q (F0 m pc ls (.int (bI P) :: rest)) :=
  li_ne hx hb hdg ht (fun h => kt (bI_n h)) (fun h => kf (bI_e h))
theorem nb_eq (hx : p.tables.exec = Jvm.exec) (hb : c.code = cc) {P : Prop} {off : Int} {tgt : Nat} (hdg : decode cc pc = .ok (.ifCond .eq off, 3)) (ht : (pc : Int) + off = (tgt : Int))
    (kt : P → W p l e R s m args below meth c H locs cells slots Q (F0 m tgt ls rest)) (kf : ¬ P → W p l e R s m args below meth c H locs cells slots Q (F0 m (pc + 3) ls rest)) : W p l e R s m args below meth c H locs cells slots Q (F0 m pc ls (.int (bI (¬ P)) :: rest)) :=
  lb_eq hx hb hdg ht (fun h => kt (Classical.byContradiction h)) kf
theorem nb_ne (hx : p.tables.exec = Jvm.exec) (hb : c.code = cc) {P : Prop} {off : Int} {tgt : Nat} (hdg : decode cc pc = .ok (.ifCond .ne off, 3)) (ht : (pc : Int) + off = (tgt : Int))
    (kt : ¬ P → W p l e R s m args below meth c H locs cells slots Q (F0 m tgt ls rest)) (kf : P → W p l e R s m args below meth c H locs cells slots Q (F0 m (pc + 3) ls rest)) : W p l e R s m args below meth c H locs cells slots Q (F0 m pc ls (.int (bI (¬ P)) :: rest)) :=
  lb_ne hx hb hdg ht kt (fun h => kf (Classical.byContradiction h))
/-- two longs compared, then a branch: fused -/
theorem ly_cmp_lt (x y : Int64) : (lg_cmp x y).toInt < 0 ↔ x.toInt < y.toInt := by
  unfold lg_cmp
  by_cases h1 : y < x
  · rw [if_pos h1]
    rw [Int64.lt_iff_toInt_lt] at h1
    exact ⟨fun q => absurd q (by decide), fun q => by omega⟩
  · rw [if_neg h1]
    rw [Int64.lt_iff_toInt_lt] at h1
    by_cases h2 : x = y
    · rw [if_pos h2, h2]
      exact ⟨fun q => absurd q (by decide), fun q => by omega⟩
    · rw [if_neg h2]
      have h3 : x.toInt ≠ y.toInt := fun q => h2 (Int64.toInt_inj.mp q)
      exact ⟨fun q => by omega, fun q => by decide⟩
theorem ly_cmp_gt (x y : Int64) : 0 < (lg_cmp x y).toInt ↔ y.toInt < x.toInt := by
  unfold lg_cmp
  by_cases h1 : y < x
  · rw [if_pos h1]
    rw [Int64.lt_iff_toInt_lt] at h1
    exact ⟨fun q => h1, fun q => by decide⟩
  · rw [if_neg h1]
    rw [Int64.lt_iff_toInt_lt] at h1
    by_cases h2 : x = y
    · rw [if_pos h2, h2]
      exact ⟨fun q => absurd q (by decide), fun q => by omega⟩
    · rw [if_neg h2]
      exact ⟨fun q => absurd q (by decide), fun q => by omega⟩
theorem ly_cmp_eq (x y : Int64) : lg_cmp x y = 0 ↔ x = y := by
  unfold lg_cmp
  by_cases h1 : y < x
  · rw [if_pos h1]
    rw [Int64.lt_iff_toInt_lt] at h1
    exact ⟨fun q => absurd q (by decide), fun q => by rw [q] at h1; omega⟩
  · rw [if_neg h1]
    by_cases h2 : x = y
    · rw [if_pos h2]
      exact ⟨fun _ => h2, fun _ => rfl⟩
    · rw [if_neg h2]
      exact ⟨fun q => absurd q (by decide), fun q => absurd q h2⟩
theorem ll_lt (hx : p.tables.exec = Jvm.exec) (hb : c.code = cc) {x y : Int64} {off : Int} {tgt : Nat} (hd0 : decode cc pc = .ok (.lcmp, 1)) (hdg : decode cc (pc + 1) = .ok (.ifCond .lt off, 3)) (ht : ((pc + 1 : Nat) : Int) + off = (tgt : Int))
    (kt : x.toInt < y.toInt → W p l e R s m args below meth c H locs cells slots Q (F0 m tgt ls rest)) (kf : ¬ x.toInt < y.toInt → W p l e R s m args below meth c H locs cells slots Q (F0 m (pc + 4) ls rest)) : W p l e R s m args below meth c H locs cells slots Q (F0 m pc ls (.long y :: .long x :: rest)) :=
  W.lcmp hx hb hd0 (li_if_lt hx hb hdg ht (fun h => kt ((ly_cmp_lt x y).mp h)) (fun h => kf (fun q => h ((ly_cmp_lt x y).mpr q))))
theorem ll_ge (hx : p.tables.exec = Jvm.exec) (hb : c.code = cc) {x y : Int64} {off : Int} {tgt : Nat} (hd0 : decode cc pc = .ok (.lcmp, 1)) (hdg : decode cc (pc + 1) = .ok (.ifCond .ge off, 3)) (ht : ((pc + 1 : Nat) : Int) + off = (tgt : Int))
    (kt : ¬ x.toInt < y.toInt → W p l e R s m args below meth c H locs cells slots Q (F0 m tgt ls rest)) (kf : x.toInt < y.toInt → W p l e R s m args below meth c H locs cells slots Q (F0 m (pc + 4) ls rest)) : W p l e R s m args below meth c H locs cells slots Q (F0 m pc ls (.long y :: .long x :: rest)) :=
  W.lcmp hx hb hd0 (li_if_ge hx hb hdg ht (fun h => kt (fun q => h ((ly_cmp_lt x y).mpr q))) (fun h => kf ((ly_cmp_lt x y).mp h)))
theorem ll_gt (hx : p.tables.exec = Jvm.exec) (hb : c.code = cc) {x y : Int64} {off : Int} {tgt : Nat} (hd0 : decode cc pc = .ok (.lcmp, 1)) (hdg : decode cc (pc + 1) = .ok (.ifCond .gt off, 3)) (ht : ((pc + 1 : Nat) : Int) + off = (tgt : Int))
    (kt : y.toInt < x.toInt → W p l e R s m args below meth c H locs cells slots Q (F0 m tgt ls rest)) (kf : ¬ y.toInt < x.toInt → W p l e R s m args below meth c H locs cells slots Q (F0 m (pc + 4) ls rest)) : W p l e R s m args below meth c H locs cells slots Q (F0 m pc ls (.long y :: .long x :: rest)) :=
  W.lcmp hx hb hd0 (li_if_gt hx hb hdg ht (fun h => kt ((ly_cmp_gt x y).mp h)) (fun h => kf (fun q => h ((ly_cmp_gt x y).mpr q))))
theorem ll_le (hx : p.tables.exec = Jvm.exec) (hb : c.code = cc) {x y : Int64} {off : Int} {tgt : Nat} (hd0 : decode cc pc = .ok (.lcmp, 1)) (hdg : decode cc (pc + 1) = .ok (.ifCond .le off, 3)) (ht : ((pc + 1 : Nat) : Int) + off = (tgt : Int))
    (kt : ¬ y.toInt < x.toInt → W p l e R s m args below meth c H locs cells slots Q (F0 m tgt ls rest)) (kf : y.toInt < x.toInt → W p l e R s m args below meth c H locs cells slots Q (F0 m (pc + 4) ls rest)) : W p l e R s m args below meth c H locs cells slots Q (F0 m pc ls (.long y :: .long x :: rest)) :=
  W.lcmp hx hb hd0 (li_if_le hx hb hdg ht (fun h => kt (fun q => h ((ly_cmp_gt x y).mpr q))) (fun h => kf ((ly_cmp_gt x y).mp h)))
theorem ll_ne (hx : p.tables.exec = Jvm.exec) (hb : c.code = cc) {x y : Int64} {off : Int} {tgt : Nat} (hd0 : decode cc pc = .ok (.lcmp, 1)) (hdg : decode cc (pc + 1) = .ok (.ifCond .ne off, 3)) (ht : ((pc + 1 : Nat) : Int) + off = (tgt : Int))
    (kt : ¬ x = y → W p l e R s m args below meth c H locs cells slots Q (F0 m tgt ls rest)) (kf : x = y → W p l e R s m args below meth c H locs cells slots Q (F0 m (pc + 4) ls rest)) : W p l e R s m args below meth c H locs cells slots Q (F0 m pc ls (.long y :: .long x :: rest)) :=
  W.lcmp hx hb hd0 (li_ne hx hb hdg ht (fun h => kt (fun q => h ((ly_cmp_eq x y).mpr q))) (fun h => kf ((ly_cmp_eq x y).mp h)))
theorem ll_eq (hx : p.tables.exec = Jvm.exec) (hb : c.code = cc) {x y : Int64} {off : Int} {tgt : Nat} (hd0 : decode cc pc = .ok (.lcmp, 1)) (hdg : decode cc (pc + 1) = .ok (.ifCond .eq off, 3)) (ht : ((pc + 1 : Nat) : Int) + off = (tgt : Int))
    (kt : x = y → W p l e R s m args below meth c H locs cells slots Q (F0 m tgt ls rest)) (kf : ¬ x = y → W p l e R s m args below meth c H locs cells slots Q (F0 m (pc + 4) ls rest)) : W p l e R s m args below meth c H locs cells slots Q (F0 m pc ls (.long y :: .long x :: rest)) :=
  W.lcmp hx hb hd0 (lv_if_eq hx hb hdg ht (fun h => kt ((ly_cmp_eq x y).mp h)) (fun h => kf (fun q => h ((ly_cmp_eq x y).mpr q))))
theorem ll_ltL (hx : p.tables.exec = Jvm.exec) (hb : c.code = cc) {x y : Int64} {Y : Int} (hy : y.toInt = Y) {off : Int} {tgt : Nat} (hd0 : decode cc pc = .ok (.lcmp, 1)) (hdg : decode cc (pc + 1) = .ok (.ifCond .lt off, 3)) (ht : ((pc + 1 : Nat) : Int) + off = (tgt : Int))
    (kt : x.toInt < Y → W p l e R s m args below meth c H locs cells slots Q (F0 m tgt ls rest)) (kf : ¬ x.toInt < Y → W p l e R s m args below meth c H locs cells slots Q (F0 m (pc + 4) ls rest)) : W p l e R s m args below meth c H locs cells slots Q (F0 m pc ls (.long y :: .long x :: rest)) :=
  ll_lt hx hb hd0 hdg ht (fun h => kt (by rw [hy] at h; exact h)) (fun h => kf (by rw [hy] at h; exact h))
theorem ll_geL (hx : p.tables.exec = Jvm.exec) (hb : c.code = cc) {x y : Int64} {Y : Int} (hy : y.toInt = Y) {off : Int} {tgt : Nat} (hd0 : decode cc pc = .ok (.lcmp, 1)) (hdg : decode cc (pc + 1) = .ok (.ifCond .ge off, 3)) (ht : ((pc + 1 : Nat) : Int) + off = (tgt : Int))
    (kt : ¬ x.toInt < Y → W p l e R s m args below meth c H locs cells slots Q (F0 m tgt ls rest)) (kf : x.toInt < Y → W p l e R s m args below meth c H locs cells slots Q (F0 m (pc + 4) ls rest)) : W p l e R s m args below meth c H locs cells slots Q (F0 m pc ls (.long y :: .long x :: rest)) :=
  ll_ge hx hb hd0 hdg ht (fun h => kt (by rw [hy] at h; exact h)) (fun h => kf (by rw [hy] at h; exact h))
theorem ll_gtL (hx : p.tables.exec = Jvm.exec) (hb : c.code = cc) {x y : Int64} {Y : Int} (hy : y.toInt = Y) {off : Int} {tgt : Nat} (hd0 : decode cc pc = .ok (.lcmp, 1)) (hdg : decode cc (pc + 1) = .ok (.ifCond .gt off, 3)) (ht : ((pc + 1 : Nat) : Int) + off = (tgt : Int))
    (kt : Y < x.toInt → W p l e R s m args below meth c H locs cells slots Q (F0 m tgt ls rest)) (kf : ¬ Y < x.toInt → W p l e R s m args below meth c H locs cells slots Q (F0 m (pc + 4) ls rest)) : W p l e R s m args below meth c H locs cells slots Q (F0 m pc ls (.long y :: .long x :: rest)) :=
  ll_gt hx hb hd0 hdg ht (fun h => kt (by rw [hy] at h; exact h)) (fun h => kf (by rw [hy] at h; exact h))
theorem ll_leL (hx : p.tables.exec = Jvm.exec) (hb : c.code = cc) {x y : Int64} {Y : Int} (hy : y.toInt = Y) {off : Int} {tgt : Nat} (hd0 : decode cc pc = .ok (.lcmp, 1)) (hdg : decode cc (pc + 1) = .ok (.ifCond .le off, 3)) (ht : ((pc + 1 : Nat) : Int) + off = (tgt : Int))
    (kt : ¬ Y < x.toInt → W p l e R s m args below meth c H locs cells slots Q (F0 m tgt ls rest)) (kf : Y < x.toInt → W p l e R s m args below meth c H locs cells slots Q (F0 m (pc + 4) ls rest)) : W p l e R s m args below meth c H locs cells slots Q (F0 m pc ls (.long y :: .long x :: rest)) :=
  ll_le hx hb hd0 hdg ht (fun h => kt (by rw [hy] at h; exact h)) (fun h => kf (by rw [hy] at h; exact h))
/-- arithmetic over nI -/
theorem li_addN (hx : p.tables.exec = Jvm.exec) (hb : c.code = cc) {a b : Nat} (hdg : decode cc pc = .ok (.iadd, 1))
    (k : W p l e R s m args below meth c H locs cells slots Q (F0 m (pc + 1) ls (.int (nI (a + b)) :: rest))) : W p l e R s m args below meth c H locs cells slots Q (F0 m pc ls (.int (nI b) :: .int (nI a) :: rest)) :=
  lv_iadd hx hb hdg (by rw [nI_add]; exact k)
theorem li_mulN (hx : p.tables.exec = Jvm.exec) (hb : c.code = cc) {a b : Nat} (hdg : decode cc pc = .ok (.imul, 1))
    (k : W p l e R s m args below meth c H locs cells slots Q (F0 m (pc + 1) ls (.int (nI (a * b)) :: rest))) : W p l e R s m args below meth c H locs cells slots Q (F0 m pc ls (.int (nI b) :: .int (nI a) :: rest)) :=
  lv_imul hx hb hdg (by rw [pk_mul]; exact k)
theorem li_subN (hx : p.tables.exec = Jvm.exec) (hb : c.code = cc) {a b : Nat} (h : b ≤ a) (hdg : decode cc pc = .ok (.isub, 1))
    (k : W p l e R s m args below meth c H locs cells slots Q (F0 m (pc + 1) ls (.int (nI (a - b)) :: rest))) : W p l e R s m args below meth c H locs cells slots Q (F0 m pc ls (.int (nI b) :: .int (nI a) :: rest)) :=
  lv_isub hx hb hdg (by rw [pk_sub h]; exact k)
/-- the value on top, said otherwise -/
theorem li_top {v v' : Value} (h : v = v') (k : W p l e R s m args below meth c H locs cells slots Q (F0 m pc ls (v' :: rest))) : W p l e R s m args below meth c H locs cells slots Q (F0 m pc ls (v :: rest)) := h ▸ k
end LI
