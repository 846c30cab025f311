/-! the component's rows, second part: nest mates' fields, arrays, new cells -/
section XS
variable {p : Program} {l : Launch} {e : Env} {R : Room} {s : State} {m : MethodId} {args : Array Value} {below : List Frame} {meth : Method} {c : Code} {H : Heap} {locs : List Loc} {cells slots : Nat} {Q : State → Prop}
variable {cc : ByteArray} {pc : Nat} {ls : Array Slot} {rest : List Value} {D : xD} {A : Nat → Prop} {V : xV} {own : String} {a : Nat}
/-- getfield over a picture alone -/
theorem x_rd (E : xE own p c cc s m args D A) (hw : xW D A V H) {ref C : String} {T : u_T} {N ci index : Nat} {fs : List Value} {v : Value} (k : Nat) (ha : V a = some (.inr (ci, fs))) (hc : xCl[ci]? = some (C, T, N)) (hin : ∀ w ∈ u_ws C T N, w ∈ lw_all) (hk : k < N) (hl : Cond.fieldLink own index ref (T k).2.1 (T k).2.2.1 ∈ lw_all) (hsame : ∀ x, s.fieldFound? (T k).1 (T k).2.1 (T k).2.2.1 = some x → s.fieldFound? ref (T k).2.1 (T k).2.2.1 = some x) (hv : fs[k]? = some v) (hd : decode cc pc = .ok (.getfield index, 3))
    (kk : W p l e R s m args below meth c H locs cells slots Q (F0 m (pc + 3) ls (v :: rest))) : W p l e R s m args below meth c H locs cells slots Q (F0 m pc ls (.ref a :: rest)) := by
  obtain ⟨hx, hb, hts, hown, hK, hz0⟩ := E
  obtain ⟨r, h1, cell, q1, q2, q3, q4⟩ := (hw.2 a _ ha).2
  have hr : r = (C, T, N) := Option.some.inj (h1.symm.trans hc)
  subst hr
  obtain ⟨hS, hfc, kC, hkC, hkind⟩ := hK.1.1 ci _ hc
  obtain ⟨cf, kf, fi, f, hi, hsl⟩ := hS k hk
  refine W.getf hx hb hown (hts _ hl) (hsame _ hi) (u_facts hfc hkC (u_lays hts hin hk) hi).1 q1 (by rw [q3]; exact fun h => by cases h) (v := v) ?_ rfl rfl hd kk
  rw [hsl, q4 k hk]
  simp [vp_V, hv]
/-- .. of a nest mate -/
theorem x_rdN (E : xE own p c cc s m args D A) (hw : xW D A V H) {ref C host : String} {T : u_T} {N ci index : Nat} {fs : List Value} {v : Value} (k : Nat) (ha : V a = some (.inr (ci, fs))) (hc : xCl[ci]? = some (C, T, N)) (hin : ∀ w ∈ u_ws C T N, w ∈ lw_all) (hk : k < N) (hl : Cond.fieldLinkNest own index ref (T k).2.1 (T k).2.2.1 host ∈ lw_tbl) (hsame : ∀ x, s.fieldFound? (T k).1 (T k).2.1 (T k).2.2.1 = some x → s.fieldFound? ref (T k).2.1 (T k).2.2.1 = some x) (hv : fs[k]? = some v) (hd : decode cc pc = .ok (.getfield index, 3))
    (kk : W p l e R s m args below meth c H locs cells slots Q (F0 m (pc + 3) ls (v :: rest))) : W p l e R s m args below meth c H locs cells slots Q (F0 m pc ls (.ref a :: rest)) := by
  obtain ⟨hx, hb, hts, hown, hK, hz0⟩ := E
  obtain ⟨r, h1, cell, q1, q2, q3, q4⟩ := (hw.2 a _ ha).2
  have hr : r = (C, T, N) := Option.some.inj (h1.symm.trans hc)
  subst hr
  obtain ⟨hS, hfc, kC, hkC, hkind⟩ := hK.1.1 ci _ hc
  obtain ⟨cf, kf, fi, f, hi, hsl⟩ := hS k hk
  refine va_Wgetf hx hb hown (va_Nw.use rfl (hK.2.1.2.2.1 _ _ _ _ _ _ hl)) (hsame _ hi) (u_facts hfc hkC (u_lays hts hin hk) hi).1 q1 (by rw [q3]; exact fun h => by cases h) (v := v) ?_ rfl rfl hd kk
  rw [hsl, q4 k hk]
  simp [vp_V, hv]
theorem x_putN (E : xE own p c cc s m args D A) (hw : xWd D A s V H locs) {ref C host : String} {T : u_T} {N ci index : Nat} {fs : List Value} {v : Value} {ty : FieldType} (k : Nat) (ha : V a = some (.inr (ci, fs))) (hc : xCl[ci]? = some (C, T, N)) (hin : ∀ w ∈ u_ws C T N, w ∈ lw_all) (ty0 : Nat → FieldType) (hty : ∀ k, k < N → parseFieldDescriptor (T k).2.2.1 = some (ty0 k)) (hk : k < N) (hl : Cond.fieldLinkNest own index ref (T k).2.1 (T k).2.2.1 host ∈ lw_tbl) (hsame : ∀ x, s.fieldFound? (T k).1 (T k).2.1 (T k).2.2.1 = some x → s.fieldFound? ref (T k).2.1 (T k).2.2.1 = some x) (hfin : (T k).2.2.2 = false)
    (hd0 : parseFieldDescriptor (T k).2.2.1 = some ty) (hn : narrow ty v = v) (hfit : fits ty v = true) (hlen : k < fs.length) (ho : ∀ j, j < N → j ≠ k → (T j).2.1 ≠ (T k).2.1 ∨ vp_V fs j = v) (hd : decode cc pc = .ok (.putfield index, 3))
    (kk : ∀ (H : Heap) (locs : List Loc), xWd D A s (xu V a (.inr (ci, fs.set k v))) H locs → W p l e R s m args below meth c H locs cells slots Q (F0 m (pc + 3) ls rest)) : W p l e R s m args below meth c H locs cells slots Q (F0 m pc ls (v :: .ref a :: rest)) := by
  obtain ⟨hx, hb, hts, hown, hK, hz0⟩ := E
  obtain ⟨r, h1, cell, q1, q2, q3, q4⟩ := (hw.1.2 a _ ha).2
  have hr : r = (C, T, N) := Option.some.inj (h1.symm.trans hc)
  subst hr
  have hKn := hK.1.1 ci _ hc
  obtain ⟨hS, hfc, kC, hkC, hkind⟩ := hK.1.1 ci _ hc
  obtain ⟨cf, kf, fi, f, hi, hsl⟩ := hS k hk
  have hlay := hts _ (hin _ (u_in_lay hk))
  unfold u_lay at hlay
  rw [if_neg (by rw [hfin]; decide)] at hlay
  have hst := (u_facts hfc hkC (u_lays hts hin hk) hi).1
  have h6 := u_store hfc hkC hkind hlay hi hd0 hn hfit
  refine va_WputK hx hb (f := f) hown (va_Nw.use rfl (hK.2.1.2.2.1 _ _ _ _ _ _ hl)) (hsame _ hi) hst (by rw [q2]; exact h6) q1 q3 (by rw [hsl]; exact k2_hasslot (q4 k hk)) rfl rfl hd fun H' e1 e2 e3 => ?_
  rw [hsl] at e1 ⊢
  exact kk H' _ (hw.put ha xEm.obj ⟨_, hc, _, e1, q2, q3, x_set ty0 hts hin hty hKn hk hlen q4 ho⟩ e2 e3)
/-- int[] -/
theorem x_ild (E : xE own p c cc s m args D A) (hw : xW D A V H) {n : Nat} {f : Nat → Int32} {i : Int32} (ha : V a = some (.inl (D.2.1, n, .inl f))) (hin : vp_in i n) (hd : decode cc pc = .ok (.iaload, 1))
    (kk : W p l e R s m args below meth c H locs cells slots Q (F0 m (pc + 1) ls (.int (f i.toNatClampNeg) :: rest))) : W p l e R s m args below meth c H locs cells slots Q (F0 m pc ls (.int i :: .ref a :: rest)) :=
  va_iald (ws := [(a, .inl (D.2.1, n, .inl f))]) E.1 E.2.1 E.2.2.2.2.1.1 (fun k q hk => by match k, hk with | 0, hk => cases hk; exact (hw.2 a _ ha).2) 0 0 rfl rfl hin hd kk
theorem x_bld (E : xE own p c cc s m args D A) (hw : xW D A V H) {n : Nat} {f : Nat → Int32} {i : Int32} (ha : V a = some (.inl (D.2.2.1, n, .inl f))) (hin : vp_in i n) (hd : decode cc pc = .ok (.baload, 1))
    (kk : W p l e R s m args below meth c H locs cells slots Q (F0 m (pc + 1) ls (.int (f i.toNatClampNeg) :: rest))) : W p l e R s m args below meth c H locs cells slots Q (F0 m pc ls (.int i :: .ref a :: rest)) :=
  va_bald (ws := [(a, .inl (D.2.2.1, n, .inl f))]) E.1 E.2.1 E.2.2.2.2.1.1 (fun k q hk => by match k, hk with | 0, hk => cases hk; exact (hw.2 a _ ha).2) 0 1 rfl rfl hin hd kk
theorem x_sld (E : xE own p c cc s m args D A) (hw : xW D A V H) {n : Nat} {f : Nat → Int32} {i : Int32} (ha : V a = some (.inl (D.2.2.2.1, n, .inl f))) (hin : vp_in i n) (hd : decode cc pc = .ok (.saload, 1))
    (kk : W p l e R s m args below meth c H locs cells slots Q (F0 m (pc + 1) ls (.int (f i.toNatClampNeg) :: rest))) : W p l e R s m args below meth c H locs cells slots Q (F0 m pc ls (.int i :: .ref a :: rest)) :=
  va_sald (ws := [(a, .inl (D.2.2.2.1, n, .inl f))]) E.1 E.2.1 E.2.2.2.2.1.1 (fun k q hk => by match k, hk with | 0, hk => cases hk; exact (hw.2 a _ ha).2) 0 2 rfl rfl hin hd kk
theorem x_old (E : xE own p c cc s m args D A) (hw : xW D A V H) {n : Nat} {f : Nat → Option Nat} {i : Int32} (ha : V a = some (.inl (D.2.2.2.2, n, .inr (.inr (.inr (.inr f)))))) (hin : vp_in i n) (hd : decode cc pc = .ok (.aaload, 1))
    (kk : W p l e R s m args below meth c H locs cells slots Q (F0 m (pc + 1) ls (va_rf (f i.toNatClampNeg) :: rest))) : W p l e R s m args below meth c H locs cells slots Q (F0 m pc ls (.int i :: .ref a :: rest)) :=
  va_aldq (C := "java/lang/Object") (ws := [(a, .inl (D.2.2.2.2, n, .inr (.inr (.inr (.inr f)))))]) E.1 E.2.1 E.2.2.2.2.1.1 (fun k q hk => by match k, hk with | 0, hk => cases hk; exact (hw.2 a _ ha).2) 0 3 rfl rfl hin hd kk
/-- the length of any of them -/
theorem x_len (E : xE own p c cc s m args D A) (hw : xW D A V H) {cA : ClassId} {ty : FieldType} {t0 : Nat} {b : vp_A} {v : Int32} (ha : V a = some (.inl (cA, b))) (ht : (xTy D)[t0]? = some (cA, ty)) (hv : Int32.ofNat b.1 = v) (hd : decode cc pc = .ok (.arraylength, 1))
    (kk : W p l e R s m args below meth c H locs cells slots Q (F0 m (pc + 1) ls (.int v :: rest))) : W p l e R s m args below meth c H locs cells slots Q (F0 m pc ls (.ref a :: rest)) :=
  va_alen (v := v) (ws := [(a, .inl (cA, b))]) E.1 E.2.1 E.2.2.2.2.1.1 (fun k q hk => by match k, hk with | 0, hk => cases hk; exact (hw.2 a _ ha).2) 0 t0 rfl ht hv hd kk
/-- stores -/
theorem x_ist (E : xE own p c cc s m args D A) (hw : xWd D A s V H locs) {n : Nat} {f : Nat → Int32} {i x : Int32} (ha : V a = some (.inl (D.2.1, n, .inl f))) (hin : vp_in i n) (hd : decode cc pc = .ok (.iastore, 1))
    (kk : ∀ (H : Heap) (locs : List Loc), xWd D A s (xu V a (.inl (D.2.1, n, .inl (upd f i.toNatClampNeg x)))) H locs → W p l e R s m args below meth c H locs cells slots Q (F0 m (pc + 1) ls rest)) : W p l e R s m args below meth c H locs cells slots Q (F0 m pc ls (.int x :: .int i :: .ref a :: rest)) := by
  refine W.iast E.1 E.2.1 (hw.1.2 a _ ha).2 ((E.2.2.2.2.1.1.2 0 _ rfl).1 n (fun j => .int (f j))) (fun q => by cases q) (by show ¬ (i < 0 ∨ (arrV _ _ _).slots.size ≤ _); rw [arrV_size]; exact hin) rfl rfl hd fun H1 e z oq => ?_
  refine kk H1 _ (hw.put ha (xEm.arr hin) ?_ z oq)
  show H1[a]? = some (vp_cell _ _)
  rw [e, vp_cell_i, vp_cell_i, arrV_store]
  congr 2
  funext q
  by_cases hq : q = i.toNatClampNeg
  · subst hq; simp [updV, upd]
  · simp [updV, upd, hq]
theorem x_bst (E : xE own p c cc s m args D A) (hw : xWd D A s V H locs) {n : Nat} {f : Nat → Int32} {i x : Int32} (ha : V a = some (.inl (D.2.2.1, n, .inl f))) (hin : vp_in i n) (hd : decode cc pc = .ok (.bastore, 1))
    (kk : ∀ (H : Heap) (locs : List Loc), xWd D A s (xu V a (.inl (D.2.2.1, n, .inl (upd f i.toNatClampNeg (vp_nar .byte x))))) H locs → W p l e R s m args below meth c H locs cells slots Q (F0 m (pc + 1) ls rest)) : W p l e R s m args below meth c H locs cells slots Q (F0 m pc ls (.int x :: .int i :: .ref a :: rest)) := by
  refine W.bast E.1 E.2.1 (hw.1.2 a _ ha).2 ((E.2.2.2.2.1.1.2 1 _ rfl).1 n (fun j => .int (f j))) (fun q => by cases q) (by show ¬ (i < 0 ∨ (arrV _ _ _).slots.size ≤ _); rw [arrV_size]; exact hin) rfl rfl hd fun H1 e z oq => ?_
  refine kk H1 _ (hw.put ha (xEm.arr hin) ?_ z oq)
  show H1[a]? = some (vp_cell _ _)
  rw [e, vp_cell_i, vp_cell_i, arrV_store]
  congr 2
  funext q
  by_cases hq : q = i.toNatClampNeg
  · subst hq
    simp [updV, upd, vp_nar]
    try rfl
  · simp [updV, upd, hq]
theorem x_sst (E : xE own p c cc s m args D A) (hw : xWd D A s V H locs) {n : Nat} {f : Nat → Int32} {i x : Int32} (ha : V a = some (.inl (D.2.2.2.1, n, .inl f))) (hin : vp_in i n) (hd : decode cc pc = .ok (.sastore, 1))
    (kk : ∀ (H : Heap) (locs : List Loc), xWd D A s (xu V a (.inl (D.2.2.2.1, n, .inl (upd f i.toNatClampNeg (vp_nar .short x))))) H locs → W p l e R s m args below meth c H locs cells slots Q (F0 m (pc + 1) ls rest)) : W p l e R s m args below meth c H locs cells slots Q (F0 m pc ls (.int x :: .int i :: .ref a :: rest)) := by
  refine W.sast E.1 E.2.1 (hw.1.2 a _ ha).2 ((E.2.2.2.2.1.1.2 2 _ rfl).1 n (fun j => .int (f j))) (fun q => by cases q) (by show ¬ (i < 0 ∨ (arrV _ _ _).slots.size ≤ _); rw [arrV_size]; exact hin) rfl rfl hd fun H1 e z oq => ?_
  refine kk H1 _ (hw.put ha (xEm.arr hin) ?_ z oq)
  show H1[a]? = some (vp_cell _ _)
  rw [e, vp_cell_i, vp_cell_i, arrV_store]
  congr 2
  funext q
  by_cases hq : q = i.toNatClampNeg
  · subst hq
    simp [updV, upd, vp_nar]
    try rfl
  · simp [updV, upd, hq]
/-- null into an Object[] -/
theorem x_ostN (E : xE own p c cc s m args D A) (hw : xWd D A s V H locs) {n : Nat} {f : Nat → Option Nat} {i : Int32} (ha : V a = some (.inl (D.2.2.2.2, n, .inr (.inr (.inr (.inr f)))))) (hin : vp_in i n) (hd : decode cc pc = .ok (.aastore, 1))
    (kk : ∀ (H : Heap) (locs : List Loc), xWd D A s (xu V a (.inl (D.2.2.2.2, n, .inr (.inr (.inr (.inr (va_up f i.toNatClampNeg none))))))) H locs → W p l e R s m args below meth c H locs cells slots Q (F0 m (pc + 1) ls rest)) : W p l e R s m args below meth c H locs cells slots Q (F0 m pc ls (.null :: .int i :: .ref a :: rest)) := by
  refine va_WaastN (C := "java/lang/Object") E.1 E.2.1 (hw.1.2 a _ ha).2 ((E.2.2.2.2.1.1.2 3 _ rfl).1 n (fun j => va_rf (f j))) (fun q => by cases q) (by show ¬ (i < 0 ∨ (arrV _ _ _).slots.size ≤ _); rw [arrV_size]; exact hin) rfl rfl hd fun H1 e z oq => ?_
  refine kk H1 _ (hw.put ha (xEm.arr hin) ?_ z oq)
  show H1[a]? = some (vp_cell _ _)
  rw [e, vp_cell_q, vp_cell_q, arrV_store]
  congr 2
  funext q
  by_cases hq : q = i.toNatClampNeg
  · subst hq; simp [updV, va_up, va_rf]
  · simp [updV, va_up, hq]
end XS
