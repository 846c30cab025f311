/-! the component's rows, sixth part: forms for the walker: the new map has a name -/
section XO
variable {p : Program} {l : Launch} {e : Env} {R : Room} {s : State} {m : MethodId} {args : Array Value} {below : List Frame} {meth : Method} {c : Code} {H : Heap} {locs : List Loc} {cells slots : Nat} {Q : State → Prop}
variable {cc : ByteArray} {pc nL maxL : Nat} {ls : Array Slot} {rest As : List Value} {D : xD} {A : Nat → Prop} {V : xV} {own : String} {a : Nat} {rm : Room} {y : MethodName} {bytes : ByteArray} {ret : Option FieldType}
theorem x_ne {a b : Nat} {e1 e2 : va_E} (h1 : V a = some e1) (h2 : V b = some e2) (h : e1 ≠ e2) : a ≠ b := by
  rintro rfl
  exact h (Option.some.inj (h1.symm.trans h2))
theorem x_put1 (E : xE own p c cc s m args D A) (hw : xWd D A s V H locs) {ref C : String} {T : u_T} {N ci index : Nat} {fs : List Value} {v : Value} {ty : FieldType} (k : Nat) (ha : V a = some (.inr (ci, fs))) (hc : xCl[ci]? = some (C, T, N)) (hin : ∀ w ∈ u_ws C T N, w ∈ lw_all) (ty0 : Nat → FieldType) (hty : ∀ k, k < N → parseFieldDescriptor (T k).2.2.1 = some (ty0 k)) (hk : k < N) (hl : Cond.fieldLink own index ref (T k).2.1 (T k).2.2.1 ∈ lw_all) (hsame : ∀ x, s.fieldFound? (T k).1 (T k).2.1 (T k).2.2.1 = some x → s.fieldFound? ref (T k).2.1 (T k).2.2.1 = some x) (hfin : (T k).2.2.2 = false)
    (hd0 : parseFieldDescriptor (T k).2.2.1 = some ty) (hn : narrow ty v = v) (hfit : fits ty v = true) (hlen : k < fs.length) (ho : ∀ j, j < N → j ≠ k → (T j).2.1 ≠ (T k).2.1 ∨ vp_V fs j = v) (hd : decode cc pc = .ok (.putfield index, 3))
    (kk : ∀ (V1 : xV) (H : Heap) (locs : List Loc), V1 = xu V a (.inr (ci, fs.set k v)) → xWd D A s V1 H locs → W p l e R s m args below meth c H locs cells slots Q (F0 m (pc + 3) ls rest)) : W p l e R s m args below meth c H locs cells slots Q (F0 m pc ls (v :: .ref a :: rest)) :=
  x_put E hw k ha hc hin ty0 hty hk hl hsame hfin hd0 hn hfit hlen ho hd (fun H locs hw => kk _ H locs rfl hw)
theorem x_putN1 (E : xE own p c cc s m args D A) (hw : xWd D A s V H locs) {ref C host : String} {T : u_T} {N ci index : Nat} {fs : List Value} {v : Value} {ty : FieldType} (k : Nat) (ha : V a = some (.inr (ci, fs))) (hc : xCl[ci]? = some (C, T, N)) (hin : ∀ w ∈ u_ws C T N, w ∈ lw_all) (ty0 : Nat → FieldType) (hty : ∀ k, k < N → parseFieldDescriptor (T k).2.2.1 = some (ty0 k)) (hk : k < N) (hl : Cond.fieldLinkNest own index ref (T k).2.1 (T k).2.2.1 host ∈ lw_tbl) (hsame : ∀ x, s.fieldFound? (T k).1 (T k).2.1 (T k).2.2.1 = some x → s.fieldFound? ref (T k).2.1 (T k).2.2.1 = some x) (hfin : (T k).2.2.2 = false)
    (hd0 : parseFieldDescriptor (T k).2.2.1 = some ty) (hn : narrow ty v = v) (hfit : fits ty v = true) (hlen : k < fs.length) (ho : ∀ j, j < N → j ≠ k → (T j).2.1 ≠ (T k).2.1 ∨ vp_V fs j = v) (hd : decode cc pc = .ok (.putfield index, 3))
    (kk : ∀ (V1 : xV) (H : Heap) (locs : List Loc), V1 = xu V a (.inr (ci, fs.set k v)) → xWd D A s V1 H locs → W p l e R s m args below meth c H locs cells slots Q (F0 m (pc + 3) ls rest)) : W p l e R s m args below meth c H locs cells slots Q (F0 m pc ls (v :: .ref a :: rest)) :=
  x_putN E hw k ha hc hin ty0 hty hk hl hsame hfin hd0 hn hfit hlen ho hd (fun H locs hw => kk _ H locs rfl hw)
theorem x_putF1 (E : xE own p c cc s m args D A) (hw : xWd D A s V H locs) {ref C : String} {T : u_T} {N ci index : Nat} {fs : List Value} {v : Value} {ty : FieldType} (k : Nat) (ha : V a = some (.inr (ci, fs))) (hc : xCl[ci]? = some (C, T, N)) (hin : ∀ w ∈ u_ws C T N, w ∈ lw_all) (ty0 : Nat → FieldType) (hty : ∀ k, k < N → parseFieldDescriptor (T k).2.2.1 = some (ty0 k)) (hk : k < N) (hl : Cond.fieldLink own index ref (T k).2.1 (T k).2.2.1 ∈ lw_all) (hsame : ∀ x, s.fieldFound? (T k).1 (T k).2.1 (T k).2.2.1 = some x → s.fieldFound? ref (T k).2.1 (T k).2.2.1 = some x) (hfin : (T k).2.2.2 = true) (hin2 : meth.name = "<init>") (hdecl : (T k).1 = own)
    (hd0 : parseFieldDescriptor (T k).2.2.1 = some ty) (hn : narrow ty v = v) (hfit : fits ty v = true) (hlen : k < fs.length) (ho : ∀ j, j < N → j ≠ k → (T j).2.1 ≠ (T k).2.1 ∨ vp_V fs j = v) (hd : decode cc pc = .ok (.putfield index, 3))
    (kk : ∀ (V1 : xV) (H : Heap) (locs : List Loc), V1 = xu V a (.inr (ci, fs.set k v)) → xWd D A s V1 H locs → W p l e R s m args below meth c H locs cells slots Q (F0 m (pc + 3) ls rest)) : W p l e R s m args below meth c H locs cells slots Q (F0 m pc ls (v :: .ref a :: rest)) :=
  x_putF E hw k ha hc hin ty0 hty hk hl hsame hfin hin2 hdecl hd0 hn hfit hlen ho hd (fun H locs hw => kk _ H locs rfl hw)
theorem x_ildN (E : xE own p c cc s m args D A) (hw : xW D A V H) {n : Nat} {f : Nat → Int32} {v : Int32} (i : Nat) (ha : V a = some (.inl (D.2.1, n, .inl f))) (hi : i < n) (hn : n < 2 ^ 31) (hv : f i = v) (hd : decode cc pc = .ok (.iaload, 1))
    (kk : W p l e R s m args below meth c H locs cells slots Q (F0 m (pc + 1) ls (.int v :: rest))) : W p l e R s m args below meth c H locs cells slots Q (F0 m pc ls (.int (nI i) :: .ref a :: rest)) :=
  x_ild E hw ha (vp_in_nI hi hn) hd (by rw [nI_clamp (Nat.lt_trans hi hn), hv]; exact kk)
theorem x_bldN (E : xE own p c cc s m args D A) (hw : xW D A V H) {n : Nat} {f : Nat → Int32} {v : Int32} (i : Nat) (ha : V a = some (.inl (D.2.2.1, n, .inl f))) (hi : i < n) (hn : n < 2 ^ 31) (hv : f i = v) (hd : decode cc pc = .ok (.baload, 1))
    (kk : W p l e R s m args below meth c H locs cells slots Q (F0 m (pc + 1) ls (.int v :: rest))) : W p l e R s m args below meth c H locs cells slots Q (F0 m pc ls (.int (nI i) :: .ref a :: rest)) :=
  x_bld E hw ha (vp_in_nI hi hn) hd (by rw [nI_clamp (Nat.lt_trans hi hn), hv]; exact kk)
theorem x_sldN (E : xE own p c cc s m args D A) (hw : xW D A V H) {n : Nat} {f : Nat → Int32} {v : Int32} (i : Nat) (ha : V a = some (.inl (D.2.2.2.1, n, .inl f))) (hi : i < n) (hn : n < 2 ^ 31) (hv : f i = v) (hd : decode cc pc = .ok (.saload, 1))
    (kk : W p l e R s m args below meth c H locs cells slots Q (F0 m (pc + 1) ls (.int v :: rest))) : W p l e R s m args below meth c H locs cells slots Q (F0 m pc ls (.int (nI i) :: .ref a :: rest)) :=
  x_sld E hw ha (vp_in_nI hi hn) hd (by rw [nI_clamp (Nat.lt_trans hi hn), hv]; exact kk)
theorem x_oldN (E : xE own p c cc s m args D A) (hw : xW D A V H) {n : Nat} {f : Nat → Option Nat} {v : Value} (i : Nat) (ha : V a = some (.inl (D.2.2.2.2, n, .inr (.inr (.inr (.inr f)))))) (hi : i < n) (hn : n < 2 ^ 31) (hv : va_rf (f i) = v) (hd : decode cc pc = .ok (.aaload, 1))
    (kk : W p l e R s m args below meth c H locs cells slots Q (F0 m (pc + 1) ls (v :: rest))) : W p l e R s m args below meth c H locs cells slots Q (F0 m pc ls (.int (nI i) :: .ref a :: rest)) :=
  x_old E hw ha (vp_in_nI hi hn) hd (by rw [nI_clamp (Nat.lt_trans hi hn), hv]; exact kk)
theorem x_istN (E : xE own p c cc s m args D A) (hw : xWd D A s V H locs) {n : Nat} {f : Nat → Int32} {x : Int32} (i : Nat) (ha : V a = some (.inl (D.2.1, n, .inl f))) (hi : i < n) (hn : n < 2 ^ 31) (hd : decode cc pc = .ok (.iastore, 1))
    (kk : ∀ (V1 : xV) (H : Heap) (locs : List Loc), V1 = xu V a (.inl (D.2.1, n, .inl (upd f i x))) → xWd D A s V1 H locs → W p l e R s m args below meth c H locs cells slots Q (F0 m (pc + 1) ls rest)) : W p l e R s m args below meth c H locs cells slots Q (F0 m pc ls (.int x :: .int (nI i) :: .ref a :: rest)) :=
  x_ist E hw ha (vp_in_nI hi hn) hd (fun H locs hw => kk _ H locs (by rw [nI_clamp (Nat.lt_trans hi hn)]) hw)
theorem x_ist1 (E : xE own p c cc s m args D A) (hw : xWd D A s V H locs) {n : Nat} {f : Nat → Int32} {i x : Int32} (ha : V a = some (.inl (D.2.1, n, .inl f))) (hin : vp_in i n) (hd : decode cc pc = .ok (.iastore, 1))
    (kk : ∀ (V1 : xV) (H : Heap) (locs : List Loc), V1 = xu V a (.inl (D.2.1, n, .inl (upd f i.toNatClampNeg x))) → xWd D A s V1 H locs → W p l e R s m args below meth c H locs cells slots Q (F0 m (pc + 1) ls rest)) : W p l e R s m args below meth c H locs cells slots Q (F0 m pc ls (.int x :: .int i :: .ref a :: rest)) :=
  x_ist E hw ha hin hd (fun H locs hw => kk _ H locs rfl hw)
theorem x_bst1 (E : xE own p c cc s m args D A) (hw : xWd D A s V H locs) {n : Nat} {f : Nat → Int32} {i x : Int32} (ha : V a = some (.inl (D.2.2.1, n, .inl f))) (hin : vp_in i n) (hd : decode cc pc = .ok (.bastore, 1))
    (kk : ∀ (V1 : xV) (H : Heap) (locs : List Loc), V1 = xu V a (.inl (D.2.2.1, n, .inl (upd f i.toNatClampNeg (vp_nar .byte x)))) → xWd D A s V1 H locs → W p l e R s m args below meth c H locs cells slots Q (F0 m (pc + 1) ls rest)) : W p l e R s m args below meth c H locs cells slots Q (F0 m pc ls (.int x :: .int i :: .ref a :: rest)) :=
  x_bst E hw ha hin hd (fun H locs hw => kk _ H locs rfl hw)
theorem x_sst1 (E : xE own p c cc s m args D A) (hw : xWd D A s V H locs) {n : Nat} {f : Nat → Int32} {i x : Int32} (ha : V a = some (.inl (D.2.2.2.1, n, .inl f))) (hin : vp_in i n) (hd : decode cc pc = .ok (.sastore, 1))
    (kk : ∀ (V1 : xV) (H : Heap) (locs : List Loc), V1 = xu V a (.inl (D.2.2.2.1, n, .inl (upd f i.toNatClampNeg (vp_nar .short x)))) → xWd D A s V1 H locs → W p l e R s m args below meth c H locs cells slots Q (F0 m (pc + 1) ls rest)) : W p l e R s m args below meth c H locs cells slots Q (F0 m pc ls (.int x :: .int i :: .ref a :: rest)) :=
  x_sst E hw ha hin hd (fun H locs hw => kk _ H locs rfl hw)
theorem x_ostN1 (E : xE own p c cc s m args D A) (hw : xWd D A s V H locs) {n : Nat} {f : Nat → Option Nat} (i : Nat) (ha : V a = some (.inl (D.2.2.2.2, n, .inr (.inr (.inr (.inr f)))))) (hi : i < n) (hn : n < 2 ^ 31) (hd : decode cc pc = .ok (.aastore, 1))
    (kk : ∀ (V1 : xV) (H : Heap) (locs : List Loc), V1 = xu V a (.inl (D.2.2.2.2, n, .inr (.inr (.inr (.inr (va_up f i none)))))) → xWd D A s V1 H locs → W p l e R s m args below meth c H locs cells slots Q (F0 m (pc + 1) ls rest)) : W p l e R s m args below meth c H locs cells slots Q (F0 m pc ls (.null :: .int (nI i) :: .ref a :: rest)) :=
  x_ostN E hw ha (vp_in_nI hi hn) hd (fun H locs hw => kk _ H locs (by rw [nI_clamp (Nat.lt_trans hi hn)]) hw)
theorem x_ost1 (E : xE own p c cc s m args D A) (hw : xWd D A s V H locs) {n v : Nat} {f : Nat → Option Nat} (i : Nat) (ha : V a = some (.inl (D.2.2.2.2, n, .inr (.inr (.inr (.inr f)))))) (hr : va_Any "java/lang/Object" s H v) (hi : i < n) (hn : n < 2 ^ 31) (hd : decode cc pc = .ok (.aastore, 1))
    (kk : ∀ (V1 : xV) (H : Heap) (locs : List Loc), V1 = xu V a (.inl (D.2.2.2.2, n, .inr (.inr (.inr (.inr (va_up f i (some v))))))) → xWd D A s V1 H locs → W p l e R s m args below meth c H locs cells slots Q (F0 m (pc + 1) ls rest)) : W p l e R s m args below meth c H locs cells slots Q (F0 m pc ls (.ref v :: .int (nI i) :: .ref a :: rest)) :=
  x_ost E hw ha hr (vp_in_nI hi hn) hd (fun H locs hw => kk _ H locs (by rw [nI_clamp (Nat.lt_trans hi hn)]) hw)
theorem x_fresh (hw : xW D A V H) : ∀ b e, V b = some e → b ≠ H.size := fun _ _ h => Nat.ne_of_lt (hw.lt h)
theorem x_new1 (E : xE own p c cc s m args D A) (hw : xWd D A s V H locs) {C : String} {T : u_T} {N ci index : Nat} {fs : List Value} (hc : xCl[ci]? = some (C, T, N)) (hin : ∀ w ∈ u_ws C T N, w ∈ lw_all) (ty : Nat → FieldType) (hty : ∀ k, k < N → parseFieldDescriptor (T k).2.2.1 = some (ty k)) (hl : Cond.classLink own index C ∈ lw_all) (hi : Cond.instantiable C N ∈ lw_all) (hz : Cond.initialized C ∈ lw_all) (hfs : ∀ j, j < N → defaultValue (ty j) = vp_V fs j) (hcl : cells + 1 ≤ R.cells) (hsl : slots + N ≤ R.slots) (hd : decode cc pc = .ok (.new index, 3))
    (kk : ∀ (a : Nat) (V1 : xV) (H1 : Heap), (∀ b e, V b = some e → b ≠ a) → V1 = xu V a (.inr (ci, fs)) → xWd D A s V1 H1 locs → W p l e R s m args below meth c H1 locs (cells + 1) (slots + N) Q (F0 m (pc + 3) ls (.ref a :: rest))) : W p l e R s m args below meth c H locs cells slots Q (F0 m pc ls rest) :=
  x_new E hw hc hin ty hty hl hi hz hfs hcl hsl hd (fun H1 h _ => kk H.size _ H1 (x_fresh hw.1) rfl h)
theorem x_newa1 (E : xE own p c cc s m args D A) (hw : xWd D A s V H locs) {atype : ArrayType} {ty : FieldType} {n : Int32} {N t0 : Nat} {cA : ClassId} (hty : newarray.typeOf atype = ty) (ht : (xTy D)[t0]? = some (cA, ty)) (hnm : s.vm.findClass ("[" ++ ty.toString) = some cA) (hdef : defaultValue ty = .int 0) (harr : Cond.arrayClass ty ∈ lw_all) (hn : ¬ n < 0) (hN : n.toNatClampNeg = N) (hby : N * componentBytes ty ≤ 536870912) (hcl : cells + 1 ≤ R.cells) (hsl : slots + N ≤ R.slots) (hd : decode cc pc = .ok (.newarray atype, 2))
    (kk : ∀ (a : Nat) (V1 : xV) (H1 : Heap), (∀ b e, V b = some e → b ≠ a) → V1 = xu V a (.inl (cA, N, .inl (fun _ => 0))) → xWd D A s V1 H1 locs → W p l e R s m args below meth c H1 locs (cells + 1) (slots + N) Q (F0 m (pc + 2) ls (.ref a :: rest))) : W p l e R s m args below meth c H locs cells slots Q (F0 m pc ls (.int n :: rest)) :=
  x_newa E hw hty ht hnm hdef harr hn hN hby hcl hsl hd (fun H1 h _ => kk H.size _ H1 (x_fresh hw.1) rfl h)
theorem x_newo1 (E : xE own p c cc s m args D A) (hw : xWd D A s V H locs) {n : Int32} {N index : Nat} (hl : Cond.classLink own index "java/lang/Object" ∈ lw_all) (hn : ¬ n < 0) (hN : n.toNatClampNeg = N) (hby : N * 4 ≤ 536870912) (hcl : cells + 1 ≤ R.cells) (hsl : slots + N ≤ R.slots) (hd : decode cc pc = .ok (.anewarray index, 3))
    (kk : ∀ (a : Nat) (V1 : xV) (H1 : Heap), (∀ b e, V b = some e → b ≠ a) → V1 = xu V a (.inl (D.2.2.2.2, N, .inr (.inr (.inr (.inr (fun _ => none)))))) → xWd D A s V1 H1 locs → W p l e R s m args below meth c H1 locs (cells + 1) (slots + N) Q (F0 m (pc + 3) ls (.ref a :: rest))) : W p l e R s m args below meth c H locs cells slots Q (F0 m pc ls (.int n :: rest)) :=
  x_newo E hw hl hn hN hby hcl hsl hd (fun H1 h _ => kk H.size _ H1 (x_fresh hw.1) rfl h)
/-- the class of an object -/
theorem x_recv (E : xE own p c cc s m args D A) (hw : xW D A V H) {ci N : Nat} {C : String} {T : u_T} {fs : List Value} (ha : V a = some (.inr (ci, fs))) (hc : xCl[ci]? = some (C, T, N)) : ∃ cell : Cell, H[a]? = some cell ∧ cell.vm.isStatics = false ∧ s.vm.findClass C = some cell.cls := by
  obtain ⟨r, h1, cell, q1, q2, q3, q4⟩ := (hw.2 a _ ha).2
  have hr : r = (C, T, N) := Option.some.inj (h1.symm.trans hc)
  subst hr
  exact ⟨cell, q1, by rw [q3]; rfl, by rw [q2]; exact (E.2.2.2.2.1.1.1 ci _ hc).2.1⟩
theorem x_castY (E : xE own p c cc s m args D A) (hw : xW D A V H) {ci N index : Nat} {C nm : String} {T : u_T} {fs : List Value} (ha : V a = some (.inr (ci, fs))) (hc : xCl[ci]? = some (C, T, N)) (hl : Cond.classLink own index nm ∈ lw_all) (hq : Cond.castable C nm ∈ lw_tbl) (hd : decode cc pc = .ok (.checkcast index, 3))
    (kk : W p l e R s m args below meth c H locs cells slots Q (F0 m (pc + 3) ls (.ref a :: rest))) : W p l e R s m args below meth c H locs cells slots Q (F0 m pc ls (.ref a :: rest)) :=
  va_castY E.1 E.2.1 E.2.2.2.1 (E.2.2.1 _ hl) (E.2.2.2.2.1.2.1.1 _ _ hq) (x_recv E hw ha hc) hd kk
theorem x_castS (E : xE own p c cc s m args D A) (hw : xW D A V H) {ci N index : Nat} {C : String} {T : u_T} {fs : List Value} (ha : V a = some (.inr (ci, fs))) (hc : xCl[ci]? = some (C, T, N)) (hl : Cond.classLink own index C ∈ lw_all) (hd : decode cc pc = .ok (.checkcast index, 3))
    (kk : W p l e R s m args below meth c H locs cells slots Q (F0 m (pc + 3) ls (.ref a :: rest))) : W p l e R s m args below meth c H locs cells slots Q (F0 m pc ls (.ref a :: rest)) :=
  va_castS E.1 E.2.1 E.2.2.2.1 (E.2.2.1 _ hl) (E.2.2.2.2.1.1.1 ci _ hc).2 (x_recv E hw ha hc) hd kk
/-- the head of a static method that answers by its arguments alone -/
theorem x_headS {Qc : Array Value → State → Outcome → State → Prop} (hy : plainName y.cls = true) (hyc : y.cls = own) (hn : (lg_sl As).length ≤ maxL)
    (body : ∀ (p : Program) (e : Env) (s : State) (m : MethodId) (below : List Frame) (meth : Method) (c : Code), p.tables.exec = Jvm.exec → c.code = bytes → (∀ w ∈ lw_all, w.before As.toArray s = true) → s.vm.findClass own = some m.cls → c.maxLocals = maxL → meth.sig.returnType = ret → meth.locks = false → ∀ ls : Array Slot, lv_has ls maxL (lv_args 0 As) →
      W p l e rm s m As.toArray below meth c s.heap [] 0 0 (MQ below Qc As.toArray s 0 0 (fun _ => False)) (F0 m 0 ls [])) : Met l y (ws_ y bytes maxL ret) rm (fun v _ => v = As.toArray) Qc 0 0 (fun _ => False) := by
  refine Met.ofW (cc := bytes) (maxL := maxL) (ret := ret) hy rfl ?_
  intro p e s m args below meth c s₁ B hml hv
  subst hv
  have hts := atoms_spec (ws := ws_ y bytes maxL ret) B.pre
  have hts : ∀ w ∈ lw_all, w.before _ s = true := fun w h => hts w (List.mem_cons_of_mem _ h)
  have hown : s.vm.findClass own = some m.cls := hyc ▸ findClass_of_methodNamed B.named
  have hl := lv_entry As (n := maxL) hn
  rw [lg_entry_eq]
  exact body p e s m below meth c B.exec B.bytes hts hown hml B.returns B.notSynchronized _ hl
/-- a static call out of a static method -/
theorem x_runSS {Qc : Array Value → State → Outcome → State → Prop} {Pc : Array Value → State → Prop} {st0 : List Value} {mc ms index : Nat} {free : Addr → Prop} (hx : p.tables.exec = Jvm.exec) (hb : c.code = cc) (hts : ∀ w ∈ lw_all, w.before args s = true) (hown : s.vm.findClass own = some m.cls) (hml : c.maxLocals = nL) (hls : ls.size = nL) (hp : PreS s H Pc As) (hM : Met l y (ws_ y bytes maxL ret) rm Pc Qc mc ms free)
    (h1 : Cond.methodLink own index y ∈ lw_all) (h2 : Cond.static y ∈ lw_all) (h3 : Cond.initialized y.cls ∈ lw_all) (h4 : Cond.code y bytes maxL ret ∈ lw_all)
    (hd : y.cls ≠ "java/lang/invoke/MethodHandle" ∧ y.cls ≠ "java/lang/invoke/VarHandle" ∧ (parseMethodDescriptor y.desc).map (fun d => d.parameters.length) = some As.length)
    (hR : rm.frames + 1 ≤ R.frames ∧ 8 + (maxL + 11) + rm.locals ≤ R.locals) (hrc : rm.cells = mc) (hrs : rm.slots = ms) (hst : st0 = As.reverse ++ rest) (hW : (rest.map fun v => v.category).sum ≤ 8) (hdg : decode cc pc = .ok (.invokestatic index, 3)) (hf : cells + mc ≤ R.cells ∧ slots + ms ≤ R.slots) :
    va_Run p l e R s m args below meth c H locs cells slots mc ms (F0 m pc ls st0) rest (Qc As.toArray) free :=
  va_runS (As := As) (rest := rest) (g := F0 m pc ls st0) ⟨hx, hb, hml, hown, hts⟩ hM (va_cwS As.length hts (lw_S h1 h2 h3 h4) rfl hrc hrs hd hR) hp rfl rfl hls hst (lv_room hW) hdg hf
end XO
