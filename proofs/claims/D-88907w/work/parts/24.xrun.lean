/-! the component's rows, fifth part: a call of each kind; room that isn't used -/
section XN
variable {p : Program} {l : Launch} {e : Env} {R : Room} {s : State} {m : MethodId} {args : Array Value} {below : List Frame} {meth : Method} {c : Code} {H : Heap} {locs : List Loc} {cells slots : Nat} {Q : State → Prop}
variable {cc : ByteArray} {pc nL maxL index mc ms : Nat} {ls : Array Slot} {rest As st0 : List Value} {D : xD} {A : Nat → Prop} {V : xV} {own : String} {x y : MethodName} {bytes : ByteArray} {ret : Option FieldType} {rm : Room}
variable {Qc : Array Value → State → Outcome → State → Prop} {free : Addr → Prop} {ci b N : Nat} {C : String} {T : u_T} {fs : List Value}
theorem x_standMore {T : State} {c2 s2 : Nat} (X : Stand p l e R s m args below meth c T locs cells slots) (h1 : cells ≤ c2) (h2 : slots ≤ s2) : Stand p l e R s m args below meth c T locs c2 s2 := by
  obtain ⟨a1, a2, a3, a4, a5, a6, a7, a8, a9, a10, a11, a12, a13, b1, b2, b3, b4, b5, b6⟩ := X
  exact ⟨a1, a2, a3, a4, a5, a6, a7, a8, a9, a10, a11, a12, a13, b1, b2, by omega, b4, by omega, b6⟩
/-- room that isn't used -/
theorem x_more (c2 s2 : Nat) {g : JFrame} (h1 : cells ≤ c2) (h2 : slots ≤ s2) (k : W p l e R s m args below meth c H locs c2 s2 Q g) : W p l e R s m args below meth c H locs cells slots Q g :=
  fun T hT X => k T hT (x_standMore X h1 h2)
/-- a virtual call whose target is what is named, on an object of its class -/
theorem x_runV (E : xE own p c cc s m args D A) (hml : c.maxLocals = nL) (hls : ls.size = nL) (hS : va_S A s.heap H locs) (hw : xW D A V H) (ha : V b = some (.inr (ci, fs))) (hc : xCl[ci]? = some (C, T, N)) (hM : Met l y (ws_ y bytes maxL ret) rm (xP D A V (.ref b :: As)) Qc mc ms free)
    (h1 : Cond.methodLink own index y ∈ lw_all) (h2 : Cond.instanceMethod y ∈ lw_all) (h3 : Cond.selects C y y ∈ lw_all) (h4 : Cond.initialized C ∈ lw_all) (h5 : Cond.code y bytes maxL ret ∈ lw_all)
    (hd : y.cls = C ∧ y.cls ≠ "java/lang/invoke/MethodHandle" ∧ y.cls ≠ "java/lang/invoke/VarHandle" ∧ (parseMethodDescriptor y.desc).map (fun d => d.parameters.length) = some As.length)
    (hR : rm.frames + 1 ≤ R.frames ∧ 8 + (maxL + 11) + rm.locals ≤ R.locals) (hrc : rm.cells = mc) (hrs : rm.slots = ms) (hst : st0 = As.reverse ++ .ref b :: rest) (hW : (rest.map fun v => v.category).sum ≤ 8) (hdg : decode cc pc = .ok (.invokevirtual index, 3)) (hf : cells + mc ≤ R.cells ∧ slots + ms ≤ R.slots) :
    va_Run p l e R s m args below meth c H locs cells slots mc ms (F0 m pc ls st0) rest (Qc (Value.ref b :: As).toArray) free :=
  va_runV (As := As) (rest := rest) (g := F0 m pc ls st0) (b := b) ⟨E.1, E.2.1, hml, E.2.2.2.1, E.2.2.1⟩ hM (cwV As.length E.2.2.1 (lw_V h1 h2 h3 h4 h5) rfl hrc hrs hd hR) (x_preV E hS hw ha hc) rfl rfl hls hst (lv_room hW) hdg hf
/-- an inherited method -/
theorem x_runU {owner : String} (E : xE own p c cc s m args D A) (hml : c.maxLocals = nL) (hls : ls.size = nL) (hS : va_S A s.heap H locs) (hw : xW D A V H) (ha : V b = some (.inr (ci, fs))) (hc : xCl[ci]? = some (C, T, N)) (hM : Met l y (ws_ y bytes maxL ret) rm (xP D A V (.ref b :: As)) Qc mc ms free)
    (h1 : Cond.methodLink own index x ∈ lw_all) (h2 : Cond.sameMethod x.cls owner x.name x.desc ∈ lw_all) (h3 : Cond.selects C x y ∈ lw_all) (h4 : Cond.instanceMethod y ∈ lw_all) (h5 : Cond.initialized y.cls ∈ lw_all) (h6 : Cond.code y bytes maxL ret ∈ lw_all)
    (hyx : y = ⟨owner, x.name, x.desc⟩) (hd : owner ≠ "java/lang/invoke/MethodHandle" ∧ owner ≠ "java/lang/invoke/VarHandle" ∧ (parseMethodDescriptor x.desc).map (fun d => d.parameters.length) = some As.length)
    (hR : rm.frames + 1 ≤ R.frames ∧ 8 + (maxL + 11) + rm.locals ≤ R.locals) (hrc : rm.cells = mc) (hrs : rm.slots = ms) (hst : st0 = As.reverse ++ .ref b :: rest) (hW : (rest.map fun v => v.category).sum ≤ 8) (hdg : decode cc pc = .ok (.invokevirtual index, 3)) (hf : cells + mc ≤ R.cells ∧ slots + ms ≤ R.slots) :
    va_Run p l e R s m args below meth c H locs cells slots mc ms (F0 m pc ls st0) rest (Qc (Value.ref b :: As).toArray) free := by
  refine va_runU (As := As) (rest := rest) (g := F0 m pc ls st0) (b := b) ⟨E.1, E.2.1, hml, E.2.2.2.1, E.2.2.1⟩ hM (va_cwU (owner := owner) (x := x) As.length E.2.2.1 ?_ rfl hrc hrs hyx hd hR) (x_preV E hS hw ha hc) rfl rfl hls hst (lv_room hW) hdg hf
  refine lw_app ?_ (lw_meth h6)
  intro w hw
  simp only [List.mem_cons, List.not_mem_nil, or_false] at hw
  rcases hw with e | e | e | e | e <;> rw [e] <;> assumption
/-- an overriding method -/
theorem x_runO {owner : String} {b0 : ByteArray} {m0 : Nat} {r0 : Option FieldType} (E : xE own p c cc s m args D A) (hml : c.maxLocals = nL) (hls : ls.size = nL) (hS : va_S A s.heap H locs) (hw : xW D A V H) (ha : V b = some (.inr (ci, fs))) (hc : xCl[ci]? = some (C, T, N)) (hM : Met l y (ws_ y bytes maxL ret) rm (xP D A V (.ref b :: As)) Qc mc ms free)
    (h1 : Cond.methodLink own index x ∈ lw_all) (h2 : Cond.sameMethod x.cls owner x.name x.desc ∈ lw_all) (h3 : Cond.selects C x y ∈ lw_all) (h4 : Cond.instanceMethod y ∈ lw_all) (h5 : Cond.initialized y.cls ∈ lw_all) (h6 : Cond.code y bytes maxL ret ∈ lw_all)
    (h7 : Cond.instanceMethod ⟨owner, x.name, x.desc⟩ ∈ lw_all) (h0 : Cond.code ⟨owner, x.name, x.desc⟩ b0 m0 r0 ∈ lw_all) (hd : owner ≠ "java/lang/invoke/MethodHandle" ∧ owner ≠ "java/lang/invoke/VarHandle" ∧ (parseMethodDescriptor x.desc).map (fun d => d.parameters.length) = some As.length)
    (hR : rm.frames + 1 ≤ R.frames ∧ 8 + (maxL + 11) + rm.locals ≤ R.locals) (hrc : rm.cells = mc) (hrs : rm.slots = ms) (hst : st0 = As.reverse ++ .ref b :: rest) (hW : (rest.map fun v => v.category).sum ≤ 8) (hdg : decode cc pc = .ok (.invokevirtual index, 3)) (hf : cells + mc ≤ R.cells ∧ slots + ms ≤ R.slots) :
    va_Run p l e R s m args below meth c H locs cells slots mc ms (F0 m pc ls st0) rest (Qc (Value.ref b :: As).toArray) free := by
  refine va_runU (As := As) (rest := rest) (g := F0 m pc ls st0) (b := b) ⟨E.1, E.2.1, hml, E.2.2.2.1, E.2.2.1⟩ hM (va_cwO (owner := owner) (x := x) As.length E.2.2.1 ?_ rfl hrc hrs h0 hd hR) (x_preV E hS hw ha hc) rfl rfl hls hst (lv_room hW) hdg hf
  refine lw_app ?_ (lw_meth h6)
  intro w hw
  simp only [List.mem_cons, List.not_mem_nil, or_false] at hw
  rcases hw with e | e | e | e | e | e <;> rw [e] <;> assumption
/-- super.m -/
theorem x_runSU (E : xE own p c cc s m args D A) (hml : c.maxLocals = nL) (hls : ls.size = nL) (hS : va_S A s.heap H locs) (hw : xW D A V H) (ha : V b = some (.inr (ci, fs))) (hc : xCl[ci]? = some (C, T, N)) (hM : Met l y (ws_ y bytes maxL ret) rm (xP D A V (.ref b :: As)) Qc mc ms free)
    (h1 : Cond.methodLink own index y ∈ lw_all) (h2 : Cond.sameMethod y.cls y.cls y.name y.desc ∈ lw_all) (h3 : Cond.superclass own y.cls ∈ lw_all) (h4 : Cond.instanceMethod y ∈ lw_all) (h5 : Cond.initialized y.cls ∈ lw_all) (h6 : Cond.code y bytes maxL ret ∈ lw_all)
    (hd : y.name ≠ "<init>" ∧ (parseMethodDescriptor y.desc).map (fun d => d.parameters.length) = some As.length)
    (hR : rm.frames + 1 ≤ R.frames ∧ 8 + (maxL + 11) + rm.locals ≤ R.locals) (hrc : rm.cells = mc) (hrs : rm.slots = ms) (hst : st0 = As.reverse ++ .ref b :: rest) (hW : (rest.map fun v => v.category).sum ≤ 8) (hdg : decode cc pc = .ok (.invokespecial index, 3)) (hf : cells + mc ≤ R.cells ∧ slots + ms ≤ R.slots) :
    va_Run p l e R s m args below meth c H locs cells slots mc ms (F0 m pc ls st0) rest (Qc (Value.ref b :: As).toArray) free := by
  refine va_runSU (As := As) (rest := rest) (g := F0 m pc ls st0) (b := b) (E.2.2.2.2.1.1.1 ci _ hc).2 ⟨E.1, E.2.1, hml, E.2.2.2.1, E.2.2.1⟩ hM (va_cwSU As.length E.2.2.1 ?_ rfl hrc hrs hd hR) (x_preV E hS hw ha hc) rfl rfl hls hst (lv_room hW) hdg hf
  refine lw_app ?_ (lw_meth h6)
  intro w hw
  simp only [List.mem_cons, List.not_mem_nil, or_false] at hw
  rcases hw with e | e | e | e | e <;> rw [e] <;> assumption
/-- a static method -/
theorem x_runS {Pc : Array Value → State → Prop} (E : xE own p c cc s m args D A) (hml : c.maxLocals = nL) (hls : ls.size = nL) (hp : PreS s H Pc As) (hM : Met l y (ws_ y bytes maxL ret) rm Pc Qc mc ms free)
    (h1 : Cond.methodLink own index y ∈ lw_all) (h2 : Cond.static y ∈ lw_all) (h3 : Cond.initialized y.cls ∈ lw_all) (h4 : Cond.code y bytes maxL ret ∈ lw_all)
    (hd : y.cls ≠ "java/lang/invoke/MethodHandle" ∧ y.cls ≠ "java/lang/invoke/VarHandle" ∧ (parseMethodDescriptor y.desc).map (fun d => d.parameters.length) = some As.length)
    (hR : rm.frames + 1 ≤ R.frames ∧ 8 + (maxL + 11) + rm.locals ≤ R.locals) (hrc : rm.cells = mc) (hrs : rm.slots = ms) (hst : st0 = As.reverse ++ rest) (hW : (rest.map fun v => v.category).sum ≤ 8) (hdg : decode cc pc = .ok (.invokestatic index, 3)) (hf : cells + mc ≤ R.cells ∧ slots + ms ≤ R.slots) :
    va_Run p l e R s m args below meth c H locs cells slots mc ms (F0 m pc ls st0) rest (Qc As.toArray) free :=
  va_runS (As := As) (rest := rest) (g := F0 m pc ls st0) ⟨E.1, E.2.1, hml, E.2.2.2.1, E.2.2.1⟩ hM (va_cwS As.length E.2.2.1 (lw_S h1 h2 h3 h4) rfl hrc hrs hd hR) hp rfl rfl hls hst (lv_room hW) hdg hf
/-- through an interface -/
theorem x_runF {count : Nat} (E : xE own p c cc s m args D A) (hml : c.maxLocals = nL) (hls : ls.size = nL) (hS : va_S A s.heap H locs) (hw : xW D A V H) (ha : V b = some (.inr (ci, fs))) (hc : xCl[ci]? = some (C, T, N)) (hM : Met l y (ws_ y bytes maxL ret) rm (xP D A V (.ref b :: As)) Qc mc ms free) (hF : va_Fw C x y s)
    (h1 : Cond.methodLink own index x ∈ lw_all) (h3 : Cond.selects C x y ∈ lw_all) (h4 : Cond.instanceMethod y ∈ lw_all) (h5 : Cond.initialized y.cls ∈ lw_all) (h6 : Cond.code y bytes maxL ret ∈ lw_all)
    (hd : x.cls ≠ "java/lang/invoke/MethodHandle" ∧ x.cls ≠ "java/lang/invoke/VarHandle" ∧ (parseMethodDescriptor x.desc).map (fun d => d.parameters.length) = some As.length)
    (hR : rm.frames + 1 ≤ R.frames ∧ 8 + (maxL + 11) + rm.locals ≤ R.locals) (hrc : rm.cells = mc) (hrs : rm.slots = ms) (hst : st0 = As.reverse ++ .ref b :: rest) (hW : (rest.map fun v => v.category).sum ≤ 8) (hdg : decode cc pc = .ok (.invokeinterface index count, 5)) (hf : cells + mc ≤ R.cells ∧ slots + ms ≤ R.slots) :
    va_Run5 p l e R s m args below meth c H locs cells slots mc ms (F0 m pc ls st0) rest (Qc (Value.ref b :: As).toArray) free := by
  refine va_runF (As := As) (rest := rest) (g := F0 m pc ls st0) (b := b) (E.2.2.2.2.1.1.1 ci _ hc).2 ⟨E.1, E.2.1, hml, E.2.2.2.1, E.2.2.1⟩ hM (va_cwF As.length E.2.2.1 ?_ rfl hrc hrs hF hd hR) (x_preV E hS hw ha hc) rfl rfl hls hst (lv_room hW) hdg hf
  refine lw_app ?_ (lw_meth h6)
  intro w hw
  simp only [List.mem_cons, List.not_mem_nil, or_false] at hw
  rcases hw with e | e | e | e <;> rw [e] <;> assumption
/-- a private method of a nest mate -/
theorem x_runVN {host : String} (E : xE own p c cc s m args D A) (hml : c.maxLocals = nL) (hls : ls.size = nL) (hS : va_S A s.heap H locs) (hw : xW D A V H) (ha : V b = some (.inr (ci, fs))) (hc : xCl[ci]? = some (C, T, N)) (hM : Met l y (ws_ y bytes maxL ret) rm (xP D A V (.ref b :: As)) Qc mc ms free)
    (h1 : Cond.methodLinkNest own index y host ∈ lw_tbl) (h2 : Cond.instanceMethod y ∈ lw_all) (h3 : Cond.selects C y y ∈ lw_all) (h4 : Cond.initialized y.cls ∈ lw_all) (h5 : Cond.code y bytes maxL ret ∈ lw_all)
    (hd : y.cls ≠ "java/lang/invoke/MethodHandle" ∧ y.cls ≠ "java/lang/invoke/VarHandle" ∧ (parseMethodDescriptor y.desc).map (fun d => d.parameters.length) = some As.length)
    (hR : rm.frames + 1 ≤ R.frames ∧ 8 + (maxL + 11) + rm.locals ≤ R.locals) (hrc : rm.cells = mc) (hrs : rm.slots = ms) (hst : st0 = As.reverse ++ .ref b :: rest) (hW : (rest.map fun v => v.category).sum ≤ 8) (hdg : decode cc pc = .ok (.invokevirtual index, 3)) (hf : cells + mc ≤ R.cells ∧ slots + ms ≤ R.slots) :
    va_Run p l e R s m args below meth c H locs cells slots mc ms (F0 m pc ls st0) rest (Qc (Value.ref b :: As).toArray) free :=
  va_runVN (As := As) (rest := rest) (g := F0 m pc ls st0) (b := b) (C := C) (host := host) ⟨E.1, E.2.1, hml, E.2.2.2.1, E.2.2.1⟩ hM ⟨va_cnB As.length E.2.2.1 (lw_meth h5) rfl hrc hrs (E.2.2.2.2.1.2.1.2.2.2.1 _ _ _ _ h1) (E.2.2.1 _ h4) hd hR, E.2.2.1 _ h2, E.2.2.1 _ h3⟩ (x_preV E hS hw ha hc) rfl rfl hls hst (lv_room hW) hdg hf
/-- a constructor -/
theorem x_runI {Pc : Array Value → State → Prop} (E : xE own p c cc s m args D A) (hml : c.maxLocals = nL) (hls : ls.size = nL) (hp : PreS s H Pc (.ref b :: As)) (hM : Met l y (ws_ y bytes maxL none) rm Pc Qc mc ms free)
    (h1 : Cond.methodLink own index y ∈ lw_all) (h2 : Cond.instanceMethod y ∈ lw_all) (h3 : Cond.initialized y.cls ∈ lw_all) (h4 : Cond.code y bytes maxL none ∈ lw_all) (hy1 : y.name = "<init>")
    (hd : y.cls ≠ "java/lang/invoke/MethodHandle" ∧ y.cls ≠ "java/lang/invoke/VarHandle" ∧ (parseMethodDescriptor y.desc).map (fun d => d.parameters.length) = some As.length)
    (hR : rm.frames + 1 ≤ R.frames ∧ 8 + (maxL + 11) + rm.locals ≤ R.locals) (hrc : rm.cells = mc) (hrs : rm.slots = ms) (hst : st0 = As.reverse ++ .ref b :: rest) (hW : (rest.map fun v => v.category).sum ≤ 8) (hdg : decode cc pc = .ok (.invokespecial index, 3)) (hf : cells + mc ≤ R.cells ∧ slots + ms ≤ R.slots) :
    va_Run p l e R s m args below meth c H locs cells slots mc ms (F0 m pc ls st0) rest (Qc (Value.ref b :: As).toArray) free :=
  va_runI (As := As) (rest := rest) (g := F0 m pc ls st0) (b := b) ⟨E.1, E.2.1, hml, E.2.2.2.1, E.2.2.1⟩ hM (cwI As.length E.2.2.1 (lw_meth h4) rfl hrc hrs (E.2.2.1 _ h3) (E.2.2.1 _ h1) (E.2.2.1 _ h2) hy1 hd hR) hp rfl rfl hls hst (lv_room hW) hdg hf
end XN
