/-! the component's rows, third part: references stored, new cells, calls, heads, returns -/
section XT
variable {p : Program} {l : Launch} {e : Env} {R : Room} {s : State} {m : MethodId} {args : Array Value} {below : List Frame} {meth : Method} {c : Code} {H : Heap} {locs : List Loc} {cells slots : Nat} {Q : State → Prop}
variable {cc : ByteArray} {pc : Nat} {ls : Array Slot} {rest : List Value} {D : xD} {A : Nat → Prop} {V : xV} {own : String} {a : Nat}
/-- an object of a known class is an Object -/
theorem x_any (hK : xK D s) (hw : xW D A V H) {ci : Nat} {C : String} {T : u_T} {N : Nat} {fs : List Value} (ha : V a = some (.inr (ci, fs))) (hc : xCl[ci]? = some (C, T, N)) (hq : Cond.castable C "java/lang/Object" ∈ lw_tbl) : va_Any "java/lang/Object" s H a := by
  obtain ⟨r, h1, cell, q1, q2, q3, q4⟩ := (hw.2 a _ ha).2
  have hr : r = (C, T, N) := Option.some.inj (h1.symm.trans hc)
  subst hr
  obtain ⟨hS, hfc, kC, hkC, hkind⟩ := hK.1.1 ci _ hc
  obtain ⟨c0, t1, f1, f2, f3⟩ := Cond.castable_spec (va_Nw.use (A := #[]) rfl (hK.2.1.1 _ _ hq))
  refine ⟨cell, q1, by rw [q3]; rfl, ⟨kC, by rw [q2]; exact hkC⟩, fun comp h => ?_⟩
  cases hfc.symm.trans f1
  cases h.symm.trans f2
  rw [q2]
  exact f3
/-- an array of a small type is an Object -/
theorem x_anyA (hK : xK D s) (hw : xW D A V H) {cA : ClassId} {b : vp_A} {N : String} (ha : V a = some (.inl (cA, b))) (hn : s.vm.findClass N = some cA) (hq : Cond.castable N "java/lang/Object" ∈ lw_tbl) : va_Any "java/lang/Object" s H a := by
  have h1 : H[a]? = some (vp_cell cA b) := (hw.2 a _ ha).2
  obtain ⟨c0, t1, f1, f2, f3⟩ := Cond.castable_spec (va_Nw.use (A := #[]) rfl (hK.2.1.1 _ _ hq))
  obtain ⟨kC, hkC, -⟩ := Vm.findClass_spec hn
  have hcl : (vp_cell cA b).cls = cA := by
    obtain ⟨n, x⟩ := b
    rcases x with x | x | x | x | x <;> rfl
  have hst : (vp_cell cA b).vm.isStatics = false := by
    obtain ⟨n, x⟩ := b
    rcases x with x | x | x | x | x <;> rfl
  refine ⟨vp_cell cA b, h1, hst, ⟨kC, by rw [hcl]; exact hkC⟩, fun comp h => ?_⟩
  cases hn.symm.trans f1
  cases h.symm.trans f2
  rw [hcl]
  exact f3
theorem x_ost (E : xE own p c cc s m args D A) (hw : xWd D A s V H locs) {n v : Nat} {f : Nat → Option Nat} {i : Int32} (ha : V a = some (.inl (D.2.2.2.2, n, .inr (.inr (.inr (.inr f)))))) (hr : va_Any "java/lang/Object" s H v) (hin : vp_in i n) (hd : decode cc pc = .ok (.aastore, 1))
    (kk : ∀ (H : Heap) (locs : List Loc), xWd D A s (xu V a (.inl (D.2.2.2.2, n, .inr (.inr (.inr (.inr (va_up f i.toNatClampNeg (some v)))))))) H locs → W p l e R s m args below meth c H locs cells slots Q (F0 m (pc + 1) ls rest)) : W p l e R s m args below meth c H locs cells slots Q (F0 m pc ls (.ref v :: .int i :: .ref a :: rest)) := by
  have hlt : i.toNatClampNeg < n := Nat.not_le.mp fun q => hin (Or.inr q)
  have h0 : ¬ i < 0 := fun q => hin (Or.inl q)
  obtain ⟨cellV, g1, g3, ⟨kC, hkC⟩, hasg⟩ := hr
  obtain ⟨kA, comp, k1, k2, k3, -⟩ := (E.2.2.2.2.1.1.2 3 _ rfl).2
  obtain ⟨kE, hkE, -⟩ := Vm.findClass_spec k3
  refine W.aast E.1 E.2.1 (hw.1.2 a _ ha).2 (fun q h => by cases h) (fun h => by cases h) k1 k2 rfl hkE ⟨h0, by show _ < (arrV _ _ _).slots.size; rw [arrV_size]; exact hlt⟩ g1 (fun q h => by rw [h] at g3; cases g3) hkC (hasg _ k3) rfl rfl hd fun H1 e z oq => ?_
  refine kk H1 _ (hw.put ha (xEm.arr hin) ?_ z oq)
  show H1[a]? = some (vp_cell _ _)
  rw [e, vp_cell_q, vp_cell_q, arrV_store]
  congr 2
  funext q
  by_cases hq : q = i.toNatClampNeg
  · subst hq; simp [updV, va_up, va_rf]
  · simp [updV, va_up, hq]
/-- a new object -/
theorem x_new (E : xE own p c cc s m args D A) (hw : xWd D A s V H locs) {C : String} {T : u_T} {N ci index : Nat} {fs : List Value} (hc : xCl[ci]? = some (C, T, N)) (hin : ∀ w ∈ u_ws C T N, w ∈ lw_all) (ty : Nat → FieldType) (hty : ∀ k, k < N → parseFieldDescriptor (T k).2.2.1 = some (ty k)) (hl : Cond.classLink own index C ∈ lw_all) (hi : Cond.instantiable C N ∈ lw_all) (hz : Cond.initialized C ∈ lw_all) (hfs : ∀ j, j < N → defaultValue (ty j) = vp_V fs j) (hcl : cells + 1 ≤ R.cells) (hsl : slots + N ≤ R.slots) (hd : decode cc pc = .ok (.new index, 3))
    (kk : ∀ H1 : Heap, xWd D A s (xu V H.size (.inr (ci, fs))) H1 locs → H1.size = H.size + 1 → W p l e R s m args below meth c H1 locs (cells + 1) (slots + N) Q (F0 m (pc + 3) ls (.ref H.size :: rest))) : W p l e R s m args below meth c H locs cells slots Q (F0 m pc ls rest) := by
  obtain ⟨hx, hb, hts, hown, hK, hz0⟩ := E
  have hKn := hK.1.1 ci _ hc
  refine W.newcK (g := F0 m pc ls rest) hx hb hown (hts _ hl) (hts _ hi) (hts _ hz) rfl hd hcl hsl hKn.2.1 rfl fun H1 kC hkC e1 z1 o1 => ?_
  exact kk H1 (hw.push ⟨_, hc, (u_born ty hts hin hKn hkC e1 hty).to hfs⟩ z1 o1) z1
/-- a new array of a small type -/
theorem x_newa (E : xE own p c cc s m args D A) (hw : xWd D A s V H locs) {atype : ArrayType} {ty : FieldType} {n : Int32} {N t0 : Nat} {cA : ClassId} (hty : newarray.typeOf atype = ty) (ht : (xTy D)[t0]? = some (cA, ty)) (hnm : s.vm.findClass ("[" ++ ty.toString) = some cA) (hdef : defaultValue ty = .int 0) (harr : Cond.arrayClass ty ∈ lw_all) (hn : ¬ n < 0) (hN : n.toNatClampNeg = N) (hby : N * componentBytes ty ≤ 536870912) (hcl : cells + 1 ≤ R.cells) (hsl : slots + N ≤ R.slots) (hd : decode cc pc = .ok (.newarray atype, 2))
    (kk : ∀ H1 : Heap, xWd D A s (xu V H.size (.inl (cA, N, .inl (fun _ => 0)))) H1 locs → H1.size = H.size + 1 → W p l e R s m args below meth c H1 locs (cells + 1) (slots + N) Q (F0 m (pc + 2) ls (.ref H.size :: rest))) : W p l e R s m args below meth c H locs cells slots Q (F0 m pc ls (.int n :: rest)) := by
  subst hty
  obtain ⟨hx, hb, hts, hown, hK, hz0⟩ := E
  refine va_newaK (g := F0 m pc ls (.int n :: rest)) hx hb (hts _ harr) rfl hd rfl hn hN hby hcl hsl rfl fun H1 cA' e1 z1 o1 hAr hNm => ?_
  cases hNm.symm.trans hnm
  refine kk H1 (hw.push ?_ z1 o1) z1
  show H1[H.size]? = some (vp_cell _ _)
  rw [e1, hdef]
  rfl
/-- a new Object[] -/
theorem x_newo (E : xE own p c cc s m args D A) (hw : xWd D A s V H locs) {n : Int32} {N index : Nat} (hl : Cond.classLink own index "java/lang/Object" ∈ lw_all) (hn : ¬ n < 0) (hN : n.toNatClampNeg = N) (hby : N * 4 ≤ 536870912) (hcl : cells + 1 ≤ R.cells) (hsl : slots + N ≤ R.slots) (hd : decode cc pc = .ok (.anewarray index, 3))
    (kk : ∀ H1 : Heap, xWd D A s (xu V H.size (.inl (D.2.2.2.2, N, .inr (.inr (.inr (.inr (fun _ => none))))))) H1 locs → H1.size = H.size + 1 → W p l e R s m args below meth c H1 locs (cells + 1) (slots + N) Q (F0 m (pc + 3) ls (.ref H.size :: rest))) : W p l e R s m args below meth c H locs cells slots Q (F0 m pc ls (.int n :: rest)) := by
  subst hN
  obtain ⟨hx, hb, hts, hown, hK, hz0⟩ := E
  obtain ⟨kA0, comp0, k1, k2, k3, k4⟩ := (hK.1.2 3 _ rfl).2
  refine W.anew (g := F0 m pc ls (.int n :: rest)) hx hb hown (hts _ hl) (va_AO.use hK.2.1.2.2.2.2.1) rfl hd rfl hn hby hcl hsl fun cA kA comp f1 f2 f3 f4 => ?_
  cases f1.symm.trans k4
  generalize hH1 : H.push ({ cls := D.2.2.2.2, slots := Array.replicate n.toNatClampNeg .null, vm := .none } : Cell) = H1
  have z1 : H1.size = H.size + 1 := by rw [← hH1, Array.size_push]
  have e1 : H1[H.size]? = some (arrV D.2.2.2.2 n.toNatClampNeg (fun _ => .null)) := by rw [← hH1, Array.getElem?_push_size, ← arrV_new]
  have o1 : ∀ q : Nat, q < H.size → H1[q]? = H[q]? := fun q hq => by rw [← hH1, Array.getElem?_push, if_neg (Nat.ne_of_lt hq)]
  refine kk H1 (hw.push ?_ z1 o1) z1
  show H1[H.size]? = some (vp_cell _ _)
  rw [vp_cell_q]
  exact e1
end XT
def xP (D : xD) (A : Nat → Prop) (V : xV) (As : List Value) : Array Value → State → Prop := fun v U => v = As.toArray ∧ xK D U ∧ xZ D A U U.heap ∧ xW D A V U.heap
theorem xP.blind (D : xD) (A : Nat → Prop) (V : xV) (As : List Value) : FrameBlind (xP D A V As) := fun a U g mk h => ⟨h.1, h.2.1.calling g mk a, xZ.moved (u := U) (U := U.calling g mk a) (Vm.Alike.refl U.vm) h.2.2.1, h.2.2.2⟩
/-- a method's end that changes cells: its answer and the new map -/
def xQ (D : xD) (A : Nat → Prop) (post : Option Value → xV → Prop) : Array Value → State → Outcome → State → Prop := fun _ s o t => (∃ r V', o = .returned r ∧ post r V' ∧ xW D A V' t.heap) ∧ va_F A s t
/-- room -/
abbrev xRm (k mc ms : Nat) : Room := { frames := k, cells := mc, slots := ms, locals := 60 * k }
