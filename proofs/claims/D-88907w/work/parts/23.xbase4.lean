/-! the component's rows, fourth part: heads of methods, what goes on behind a call, ends -/
section XC
variable {p : Program} {l : Launch} {e : Env} {R : Room} {s : State} {m : MethodId} {args : Array Value} {below : List Frame} {meth : Method} {c : Code} {H : Heap} {locs : List Loc} {cells slots : Nat} {Q : State → Prop}
variable {cc : ByteArray} {pc nL maxL index mc ms : Nat} {ls : Array Slot} {rest As st0 : List Value} {D : xD} {A : Nat → Prop} {V : xV} {own : String} {y : MethodName} {bytes : ByteArray} {ret : Option FieldType} {rm : Room}
/-- behind a call that changes nothing -/
theorem x_goR {r : Value} {a : Array Value} (hr : va_Run p l e R s m args below meth c H locs cells slots 0 0 (F0 m pc ls st0) rest (k2_QcV r a) (fun _ => False))
    (kk : W p l e R s m args below meth c H locs cells slots Q (F0 m (pc + 3) ls (r :: rest))) : W p l e R s m args below meth c H locs cells slots Q (F0 m pc ls st0) := by
  intro T hT X
  obtain ⟨v, s0, t, T', L, h0, X', hL, e1, e2, ⟨hv, hh⟩, st⟩ := hr T hT X
  cases hv
  obtain ⟨t2, a1, b1⟩ := kk T' (by rw [e1, hh, h0]) (Stand.forget X' (fun q h => (hL q h).elim))
  exact ⟨t2, st t2 a1, b1⟩
theorem x_goR5 {r : Value} {a : Array Value} (hr : va_Run5 p l e R s m args below meth c H locs cells slots 0 0 (F0 m pc ls st0) rest (k2_QcV r a) (fun _ => False))
    (kk : W p l e R s m args below meth c H locs cells slots Q (F0 m (pc + 5) ls (r :: rest))) : W p l e R s m args below meth c H locs cells slots Q (F0 m pc ls st0) := by
  intro T hT X
  obtain ⟨v, s0, t, T', L, h0, X', hL, e1, e2, ⟨hv, hh⟩, st⟩ := hr T hT X
  cases hv
  obtain ⟨t2, a1, b1⟩ := kk T' (by rw [e1, hh, h0]) (Stand.forget X' (fun q h => (hL q h).elim))
  exact ⟨t2, st t2 a1, b1⟩
theorem xWd.after {s0 t : State} {L : List Loc} {V' : xV} (hw : xWd D A s V H locs) (h0 : s0.heap = H) (hv : xW D A V' t.heap) (hF : va_F A s0 t) (hL : ∀ q ∈ L, A q.base) : xWd D A s V' t.heap (locs ++ L) := by
  obtain ⟨hz, hk⟩ := hF
  rw [h0] at hz hk
  refine ⟨hv, Nat.le_trans hw.2.1 hz, fun q h1 h2 => ?_, fun q hq => ?_⟩
  · rw [hk q (Nat.lt_of_lt_of_le h1 hw.2.1) h2]
    exact hw.2.2.1 q h1 h2
  · rcases List.mem_append.mp hq with h | h
    · exact hw.2.2.2 q h
    · exact hL q h
/-- behind a call that changes cells -/
theorem x_goW {post : Option Value → xV → Prop} {a : Array Value} (hw : xWd D A s V H locs) (hr : va_Run p l e R s m args below meth c H locs cells slots mc ms (F0 m pc ls st0) rest (xQ D A post a) A)
    (kk : ∀ (r : Option Value) (V : xV) (H : Heap) (locs : List Loc), post r V → xWd D A s V H locs → W p l e R s m args below meth c H locs (cells + mc) (slots + ms) Q (F0 m (pc + 3) ls (r.toList ++ rest))) : W p l e R s m args below meth c H locs cells slots Q (F0 m pc ls st0) := by
  intro T hT X
  obtain ⟨v, s0, t, T', L, h0, X', hL, e1, e2, ⟨⟨r, V', hv, hp, hx⟩, hF⟩, st⟩ := hr T hT X
  cases hv
  obtain ⟨t2, a1, b1⟩ := kk _ V' t.heap (locs ++ L) hp (hw.after h0 hx hF hL) T' e1 X'
  exact ⟨t2, st t2 a1, b1⟩
theorem x_goW5 {post : Option Value → xV → Prop} {a : Array Value} (hw : xWd D A s V H locs) (hr : va_Run5 p l e R s m args below meth c H locs cells slots mc ms (F0 m pc ls st0) rest (xQ D A post a) A)
    (kk : ∀ (r : Option Value) (V : xV) (H : Heap) (locs : List Loc), post r V → xWd D A s V H locs → W p l e R s m args below meth c H locs (cells + mc) (slots + ms) Q (F0 m (pc + 5) ls (r.toList ++ rest))) : W p l e R s m args below meth c H locs cells slots Q (F0 m pc ls st0) := by
  intro T hT X
  obtain ⟨v, s0, t, T', L, h0, X', hL, e1, e2, ⟨⟨r, V', hv, hp, hx⟩, hF⟩, st⟩ := hr T hT X
  cases hv
  obtain ⟨t2, a1, b1⟩ := kk _ V' t.heap (locs ++ L) hp (hw.after h0 hx hF hL) T' e1 X'
  exact ⟨t2, st t2 a1, b1⟩
/-- what a caller shows of its cells at a call -/
theorem x_preS (E : xE own p c cc s m args D A) (hS : va_S A s.heap H locs) (hw : xW D A V H) : PreS s H (xP D A V As) As := ⟨xP.blind D A V As, fun U hU hW => ⟨rfl, E.2.2.2.2.1.warm hW, by rw [hU]; exact (E.2.2.2.2.2.kept hS.2.1).moved hW.alike, by rw [hU]; exact hw⟩⟩
theorem x_preV (E : xE own p c cc s m args D A) (hS : va_S A s.heap H locs) (hw : xW D A V H) {ci : Nat} {C : String} {T : u_T} {N b : Nat} {fs : List Value} (hb : V b = some (.inr (ci, fs))) (hc : xCl[ci]? = some (C, T, N)) : PreV s H C b (xP D A V (.ref b :: As)) As := by
  obtain ⟨r, h1, cell, q1, q2, q3, q4⟩ := (hw.2 b _ hb).2
  have hr : r = (C, T, N) := Option.some.inj (h1.symm.trans hc)
  subst hr
  exact ⟨xP.blind D A V _, ⟨cell, q1, by rw [q3]; rfl, by rw [q2]; exact (E.2.2.2.2.1.1.1 ci _ hc).2.1⟩, fun U hU hW => ⟨rfl, E.2.2.2.2.1.warm hW, by rw [hU]; exact (E.2.2.2.2.2.kept hS.2.1).moved hW.alike, by rw [hU]; exact hw⟩⟩
/-- the head of a method that changes nothing -/
theorem x_headR {Qc : Array Value → State → Outcome → State → Prop} (hy : plainName y.cls = true) (hyc : y.cls = own) (hn : (lg_sl As).length ≤ maxL)
    (body : ∀ (p : Program) (e : Env) (s : State) (m : MethodId) (below : List Frame) (meth : Method) (c : Code), xE own p c bytes s m As.toArray D A → c.maxLocals = maxL → meth.sig.returnType = ret → meth.locks = false → xW D A V s.heap → ∀ ls : Array Slot, lv_has ls maxL (lv_args 0 As) →
      W p l e rm s m As.toArray below meth c s.heap [] 0 0 (MQ below Qc As.toArray s 0 0 (fun _ => False)) (F0 m 0 ls [])) : Met l y (ws_ y bytes maxL ret) rm (xP D A V As) Qc 0 0 (fun _ => False) := by
  refine Met.ofW (cc := bytes) (maxL := maxL) (ret := ret) hy rfl ?_
  intro p e s m args below meth c s₁ B hml hv
  obtain ⟨rfl, hK, hZ, hW⟩ := hv
  have hts := atoms_spec (ws := ws_ y bytes maxL ret) B.pre
  have hts : ∀ w ∈ lw_all, w.before _ s = true := fun w h => hts w (List.mem_cons_of_mem _ h)
  have hown : s.vm.findClass own = some m.cls := hyc ▸ findClass_of_methodNamed B.named
  have hl := lv_entry As (n := maxL) hn
  rw [lg_entry_eq]
  exact body p e s m below meth c ⟨B.exec, B.bytes, hts, hown, hK, hZ⟩ hml B.returns B.notSynchronized hW _ hl
/-- the head of a method that may change cells -/
theorem x_headW {post : Option Value → xV → Prop} (hy : plainName y.cls = true) (hyc : y.cls = own) (hn : (lg_sl As).length ≤ maxL)
    (body : ∀ (p : Program) (e : Env) (s : State) (m : MethodId) (below : List Frame) (meth : Method) (c : Code), xE own p c bytes s m As.toArray D A → c.maxLocals = maxL → meth.sig.returnType = ret → meth.locks = false → meth.name = y.name → xWd D A s V s.heap [] → ∀ ls : Array Slot, lv_has ls maxL (lv_args 0 As) →
      W p l e rm s m As.toArray below meth c s.heap [] 0 0 (MQ below (xQ D A post) As.toArray s mc ms A) (F0 m 0 ls [])) : Met l y (ws_ y bytes maxL ret) rm (xP D A V As) (xQ D A post) mc ms A := by
  refine Met.ofW (cc := bytes) (maxL := maxL) (ret := ret) hy rfl ?_
  intro p e s m args below meth c s₁ B hml hv
  obtain ⟨rfl, hK, hZ, hW⟩ := hv
  have hts := atoms_spec (ws := ws_ y bytes maxL ret) B.pre
  have hts : ∀ w ∈ lw_all, w.before _ s = true := fun w h => hts w (List.mem_cons_of_mem _ h)
  have hown : s.vm.findClass own = some m.cls := hyc ▸ findClass_of_methodNamed B.named
  have hl := lv_entry As (n := maxL) hn
  rw [lg_entry_eq]
  exact body p e s m below meth c ⟨B.exec, B.bytes, hts, hown, hK, hZ⟩ hml B.returns B.notSynchronized (name_of_methodNamed B.named B.method).1 ⟨hW, va_S.rf⟩ _ hl
/-- ends -/
theorem x_end {post : Option Value → xV → Prop} {r : Option Value} {t : State} (hw : xWd D A s V H locs) (hp : post r V) (ht : t.heap = H) : xQ D A post args s (.returned r) t := ⟨⟨r, V, rfl, hp, by rw [ht]; exact hw.1⟩, hw.2.F ht⟩
theorem x_iret {post : Option Value → xV → Prop} {v : Int32} (E : xE own p c cc s m args D A) (hr : meth.sig.returnType = some .int) (hlk : meth.locks = false) (hw : xWd D A s V H locs) (hd : decode cc pc = .ok (.ireturn, 1)) (hp : post (some (.int v)) V) :
    W p l e R s m args below meth c H locs cells slots (MQ below (xQ D A post) args s cells slots A) (F0 m pc ls [.int v]) :=
  W.iret E.1 E.2.1 hr (fun t ht hW => x_end hw hp ht) hw.2.2.2 hd hlk
theorem x_zret {post : Option Value → xV → Prop} {v : Int32} (E : xE own p c cc s m args D A) (hr : meth.sig.returnType = some .boolean) (hlk : meth.locks = false) (hw : xWd D A s V H locs) (hd : decode cc pc = .ok (.ireturn, 1)) (hn : narrow .boolean (.int v) = .int v) (hp : post (some (.int v)) V) :
    W p l e R s m args below meth c H locs cells slots (MQ below (xQ D A post) args s cells slots A) (F0 m pc ls [.int v]) :=
  W.zret E.1 E.2.1 hr hn (fun t ht hW => x_end hw hp ht) hw.2.2.2 hd hlk
theorem x_lret {post : Option Value → xV → Prop} {v : Int64} (E : xE own p c cc s m args D A) (hr : meth.sig.returnType = some .long) (hlk : meth.locks = false) (hw : xWd D A s V H locs) (hd : decode cc pc = .ok (.lreturn, 1)) (hp : post (some (.long v)) V) :
    W p l e R s m args below meth c H locs cells slots (MQ below (xQ D A post) args s cells slots A) (F0 m pc ls [.long v]) :=
  W.lret E.1 E.2.1 hr (fun t ht hW => x_end hw hp ht) hw.2.2.2 hd hlk
theorem x_vret {post : Option Value → xV → Prop} (E : xE own p c cc s m args D A) (hr : meth.sig.returnType = none) (hlk : meth.locks = false) (hw : xWd D A s V H locs) (hd : decode cc pc = .ok (.return_, 1)) (hp : post none V) :
    W p l e R s m args below meth c H locs cells slots (MQ below (xQ D A post) args s cells slots A) (F0 m pc ls []) :=
  W.vret E.1 E.2.1 hr (fun t ht hW => x_end hw hp ht) hw.2.2.2 hd hlk
/-- a reference handed back by a method that changes nothing -/
theorem x_aretS {v : Value} {rt : FieldType} (hx : p.tables.exec = Jvm.exec) (hb : c.code = cc) (hr : meth.sig.returnType = some rt) (hrt : (∃ n, rt = .object n) ∨ ∃ t, rt = .array t) (hv : v = .null ∨ ∃ a, v = .ref a) (hlk : meth.locks = false) (hd : decode cc pc = .ok (.areturn, 1)) :
    W p l e R s m args below meth c s.heap [] 0 0 (MQ below (k2_QcV v) args s 0 0 (fun _ => False)) (F0 m pc ls [v]) :=
  W.aret hx hb hr hrt hv (fun t ht hW => ⟨rfl, ht⟩) (fun _ h => by cases h) hd hlk
end XC
