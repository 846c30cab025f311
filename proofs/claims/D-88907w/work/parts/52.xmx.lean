/-! methods that may throw: their contracts, calls of them -/
/-- as Met, but it may throw too -/
def MetX (l : Launch) (y : MethodName) (ws : List Cond) (rm : Room) (Pc : Array Value → State → Prop) (Qx : Array Value → State → Outcome → State → Prop) (mc ms : Nat) (free : Addr → Prop) : Prop :=
  MetFree l y (headSpec ws rm) Pc (fun _ _ _ _ _ => True) (fun a st o t => Qx a st o t ∧ st.WarmedH t.vm ∧ ∃ L, st.sameButNew ({ t with vm := st.vm } : State) L mc ms ∧ ∀ q ∈ L, free q.base)
/-- the end of a method that may throw -/
def MX (below : List Frame) (Qx : Array Value → State → Outcome → State → Prop) (a : Array Value) (s : State) (mc ms : Nat) (free : Addr → Prop) : State → Prop := fun t =>
  ∃ o, t.status = .running ∧ Ended t below o ∧ Qx a s o t ∧ s.WarmedH t.vm ∧ ∃ L, s.sameButNew ({ t with vm := s.vm } : State) L mc ms ∧ ∀ q ∈ L, free q.base
section XXA
variable {p : Program} {l : Launch} {e : Env} {R : Room} {s : State} {m : MethodId} {args : Array Value} {below : List Frame} {meth : Method} {c : Code} {H : Heap} {locs : List Loc} {cells slots : Nat} {Q Q' : State → Prop} {g : JFrame}
theorem W.mono (h : ∀ t, Q t → Q' t) (k : W p l e R s m args below meth c H locs cells slots Q g) : W p l e R s m args below meth c H locs cells slots Q' g := fun T hT X => by
  obtain ⟨t, h1, h2⟩ := k T hT X
  exact ⟨t, h1, h _ h2⟩
theorem MX.of {Qc Qx : Array Value → State → Outcome → State → Prop} {mc ms : Nat} {free : Addr → Prop} (h : ∀ o t, Qc args s o t → Qx args s o t) {t : State} (hq : MQ below Qc args s mc ms free t) : MX below Qx args s mc ms free t := by
  obtain ⟨o, h1, h2, h3, L, h4, h5⟩ := hq
  exact ⟨o, h1, h2, h _ _ h3, h4.2.1, L, h4.2.2, h5⟩
/-- it leaves by a throw: no row of its own covers the place -/
theorem x_out {Qx : Array Value → State → Outcome → State → Prop} {free : Addr → Prop} {a : Nat} (hg : g.method = m) (hlk : g.locked = none) (hen : g.entered = []) (hout : ∀ x ∈ c.exceptionTable.toList, covers x g.pc = false) (hl2 : meth.locks = false) (hf : ∀ q ∈ locs, free q.base) (hq : ∀ t : State, t.heap = H → s.WarmedH t.vm → Qx args s (.threw a) t) :
    WT p l e R s m args below meth c H locs cells slots (MX below Qx args s cells slots free) g a := by
  intro T hT X
  obtain ⟨h1, h2, h3, h4, h5⟩ := X.leaveThrown a hg hlk hen hout hl2
  exact ⟨_, h1, .threw a, h2, h3, hq _ hT h4, h4, locs, h5, hf⟩
theorem MetX.ofW {y : MethodName} {ws ws' : List Cond} {rm : Room} {Pc : Array Value → State → Prop} {Qx : Array Value → State → Outcome → State → Prop} {mc ms : Nat} {free : Addr → Prop} {cc : ByteArray} {maxL : Nat} {ret : Option FieldType}
    (hy : plainName y.cls = true) (hw : ws = Cond.code y cc maxL ret :: ws')
    (body : ∀ p e s m args below meth c s₁, BodyLoose p l y (headSpec ws rm) cc maxL ret e s m args below meth c s₁ → c.maxLocals = maxL → c.exceptionTable.toList = [] → Pc args s →
      W p l e (headSpec ws rm).room s m args below meth c s.heap [] 0 0 (MX below Qx args s mc ms free) (entryFrame m args maxL)) : MetX l y ws rm Pc Qx mc ms free := by
  refine MetFree.of_bodyS (code := cc) (maxLocals := maxL) (ret := ret) hy ?_ ?_
  · intro args s m h hn
    obtain ⟨meth, c, h1, h2, h3, h4, h5, h6, -, -⟩ := Cond.code_spec hn (atoms_spec (ws := ws) h _ (by rw [hw]; exact List.mem_cons_self))
    exact ⟨meth, c, h1, h2, h3, h4, h5, h6⟩
  · intro p e s m args below meth c s₁ B hml hP _
    have hh0 : s₁.heap = s.heap := by rw [B.state]; rfl
    have het : c.exceptionTable.toList = [] := by
      obtain ⟨meth', c', h1, h2, h3, h4, -, -, h5, -⟩ := Cond.code_spec B.named (atoms_spec (ws := ws) B.pre _ (by rw [hw]; exact List.mem_cons_self))
      cases B.method.symm.trans h1
      cases (Stand.of_body B).code.symm.trans h2
      exact Array.toList_eq_nil_iff.mpr (Array.isEmpty_iff.mp h5)
    obtain ⟨t, a1, o, b1, b2, b3, b4, b5⟩ := body p e s m args below meth c s₁ B hml het hP s₁ hh0 (Stand.of_body B)
    exact ⟨t, o, a1, b1, b2, b3, b4, b5⟩
end XXA
section XXB
variable {p : Program} {l : Launch} {e : Env} {R : Room} {s : State} {m : MethodId} {args : Array Value} {below : List Frame} {meth : Method} {c : Code} {locs : List Loc} {cells slots : Nat} {y : MethodName} {ws : List Cond} {rm : Room} {Pc : Array Value → State → Prop} {Qx : Array Value → State → Outcome → State → Prop} {mc ms maxL len Wd : Nat} {free : Addr → Prop} {bytes : ByteArray} {ret : Option FieldType}
/-- behind the step into a method that may throw -/
theorem x_backX (hM : MetX l y ws rm Pc Qx mc ms free) (hrc : rm.cells = mc) (hrs : rm.slots = ms) (hframes : rm.frames + 1 ≤ R.frames) (hlocals : Wd + (maxL + 11) + rm.locals ≤ R.locals) (hws : ∀ w ∈ ws, ∀ a' U, s.WarmedH U.vm → w.before a' U = true) (hcode : Cond.code y bytes maxL ret ∈ ws) (hinit : ∀ a' U, s.WarmedH U.vm → (Cond.initialized y.cls).before a' U = true)
    {U : State} {g : JFrame} {ig : Instr} {mk : MethodId} {a : Array Value} (X : Stand p l e R s m args below meth c U locs cells slots) (hg : g.method = m) (hsize : g.locals.size = c.maxLocals) (hdg : decode c.code g.pc = .ok (ig, len)) (hW : 2 * g.monitorRoom + (g.stack.map fun v => v.category).sum ≤ Wd) (hn : U.methodNamed? y = some mk) (hc : cells + mc ≤ R.cells) (hs : slots + ms ≤ R.slots) (hp : Pc a (U.calling g mk a)) :
    ∃ (o : Outcome) (t T' : State) (L : List Loc), Stand p l e R s m args below meth c T' (locs ++ L) (cells + mc) (slots + ms) ∧ (∀ q ∈ L, free q.base) ∧ T'.heap = t.heap ∧ Qx a (U.calling g mk a) o t ∧ ∀ target, Steps p.tables e below (match o with | .returned v => T'.setTop { g with pc := g.pc + len, stack := v.toList ++ g.stack } | .threw x => (T'.setTop g).pushFrame (.throwing x)) target → Steps p.tables e below (doInvoke e (U.setTop g) [] mk a).1 target := by
  have h1 : (headSpec ws rm).pre.before a U = true := atoms_intro fun w hw => hws w hw _ _ X.warmed
  have h2 := hws _ hcode a U X.warmed
  obtain ⟨methY, cY, hmY, hcY, -, hlY, -⟩ := Cond.code_spec hn h2
  obtain ⟨kY, hkY, -⟩ := className_of_methodNamed hn
  have hinitY : kY.init = .initialized := Cond.initialized_spec (findClass_of_methodNamed hn) hkY (hinit a U X.warmed)
  have h : At U g.method c below := by rw [hg]; exact X.here
  have happ : (headSpec ws rm).appliesLoose y e.platform (U.calling g mk a) = true :=
    Spec.appliesLoose_calling (g := g) h hdg hn hkY hinitY
      (X.room_calling (g := g) (R' := (headSpec ws rm).room) hsize hmY hcY hframes (by rw [hlY]; show _ + _ + rm.locals ≤ _; omega) (by show _ + rm.cells ≤ _; omega) (by show _ + rm.slots ≤ _; omega)) h1
  obtain ⟨mid, hmid⟩ := h.above
  have hfr : (U.setTop g).frames = (.java g :: mid) ++ below := by rw [State.frames_setTop' g h.top, hmid]; rfl
  obtain ⟨o, s₂, hsteps, -, hend, hq, hW₂, L, hsame, hL⟩ := Steps.callFree hM p X.admits X.cas X.clock (acts := []) hfr happ hp trivial
  rw [State.frames_setTop' g h.top, X.tail] at hend
  cases o with
  | threw x =>
    obtain ⟨T', XT, -, -, ht⟩ := X.outOfThrown (g := g) hg (mk := mk) (a := a) (t := s₂) (x := x) (L := L) (k := mc) (n := ms) hend hW₂ hsame
    refine ⟨.threw x, s₂, T', L, XT, hL, ?_, hq, fun target hrest => hsteps.trans ?_⟩
    · rw [ht, Stand.throwing_heap]
    · rw [ht]; exact hrest
  | returned v =>
    obtain ⟨T', XT, -, -, ht⟩ := X.outOf (g := g) hg hdg (mk := mk) (a := a) (t := s₂) (v := v) (L := L) (k := mc) (n := ms) hend hW₂ hsame
    refine ⟨.returned v, s₂, T', L, XT, hL, ?_, hq, fun target hrest => hsteps.trans ?_⟩
    · rw [ht]; exact (State.heap_setTop _ _).symm
    · rw [ht]; exact hrest
end XXB
section XXC
variable {p : Program} {l : Launch} {e : Env} {R : Room} {s : State} {m : MethodId} {args : Array Value} {below : List Frame} {meth : Method} {c : Code} {H : Heap} {locs : List Loc} {cells slots : Nat} {Q : State → Prop}
variable {cc : ByteArray} {pc nL maxL index mc ms : Nat} {ls : Array Slot} {rest As st0 : List Value} {D : xD} {A : Nat → Prop} {V : xV} {own : String} {y : MethodName} {bytes : ByteArray} {ret : Option FieldType} {rm : Room}
/-- what a method that may throw says: an answer, or an object of the class cX thrown; the map -/
def xQX (D : xD) (A : Nat → Prop) (post : Option Value → xV → Prop) (pthr : String → xV → Prop) : Array Value → State → Outcome → State → Prop := fun _ s o t =>
  ((∃ r V', o = .returned r ∧ post r V' ∧ xW D A V' t.heap) ∨ ∃ a tn V' cell, o = .threw a ∧ pthr tn V' ∧ xW D A V' t.heap ∧ t.heap[a]? = some cell ∧ cell.vm = .none ∧ s.vm.findClass tn = some cell.cls) ∧ va_F A s t
/-- a static call of a method that may throw -/
theorem x_callXS {post : Option Value → xV → Prop} {pthr : String → xV → Prop} (E : xE own p c cc s m args D A) (hml : c.maxLocals = nL) (hls : ls.size = nL) (hw : xWd D A s V H locs) (hM : MetX l y (ws_ y bytes maxL ret) rm (xP D A V As) (xQX D A post pthr) mc ms A)
    (h1 : Cond.methodLink own index y ∈ lw_all) (h2 : Cond.static y ∈ lw_all) (h3 : Cond.initialized y.cls ∈ lw_all) (h4 : Cond.code y bytes maxL ret ∈ lw_all)
    (hd : y.cls ≠ "java/lang/invoke/MethodHandle" ∧ y.cls ≠ "java/lang/invoke/VarHandle" ∧ (parseMethodDescriptor y.desc).map (fun d => d.parameters.length) = some As.length)
    (hR : rm.frames + 1 ≤ R.frames ∧ 8 + (maxL + 11) + rm.locals ≤ R.locals) (hrc : rm.cells = mc) (hrs : rm.slots = ms) (hst : st0 = As.reverse ++ rest) (hW : (rest.map fun v => v.category).sum ≤ 8) (hdg : decode cc pc = .ok (.invokestatic index, 3)) (hf : cells + mc ≤ R.cells ∧ slots + ms ≤ R.slots)
    (kr : ∀ (r : Option Value) (V : xV) (H : Heap) (locs : List Loc), post r V → xWd D A s V H locs → W p l e R s m args below meth c H locs (cells + mc) (slots + ms) Q (F0 m (pc + 3) ls (r.toList ++ rest)))
    (kt : ∀ (a : Nat) (tn : String) (V : xV) (H : Heap) (locs : List Loc) (cell : Cell), pthr tn V → xWd D A s V H locs → H[a]? = some cell → cell.vm = .none → s.vm.findClass tn = some cell.cls → WT p l e R s m args below meth c H locs (cells + mc) (slots + ms) Q (F0 m pc ls rest) a) :
    W p l e R s m args below meth c H locs cells slots Q (F0 m pc ls st0) := by
  intro T hT X
  have hts := E.2.2.1
  have hG : GoodIn lw_all (ws_ y bytes maxL ret) := lw_meth h4
  have hcd : Cond.code y bytes maxL ret ∈ ws_ y bytes maxL ret := List.mem_cons_self
  obtain ⟨mk, hnamed⟩ := Cond.code_named (hts _ h4)
  obtain ⟨methM, cM, hmethM, -, -, -, -, -, -, hsigM⟩ := Cond.code_spec hnamed (hts _ h4)
  have hstatic : methM.isStatic = true := Cond.static_spec hnamed hmethM (hts _ h2)
  obtain ⟨kP, hkP, -⟩ := className_of_methodNamed hnamed
  have hinitP : kP.init = .initialized := Cond.initialized_spec (findClass_of_methodNamed hnamed) hkP (hts _ h3)
  have hlen : As.length = methM.sig.parameters.length := by
    have q := hd.2.2
    rw [hsigM] at q
    exact (Option.some.inj q).symm
  obtain ⟨vm₁, X₁, hstep₁⟩ := X.invokestatic E.1 E.2.2.2.1 (hts _ h1) hnamed hmethM hstatic hkP hinitP ⟨hd.1, hd.2.1⟩ (g := F0 m pc ls st0) rfl (argsL := As) (rest := rest) hlen hst (by rw [E.2.1]; exact hdg)
  have hpre := x_preS (As := As) E hw.2 hw.1
  obtain ⟨o, t, T', L, XT, hL, hth, ⟨hq, hF⟩, hgo⟩ := x_backX (Wd := 8) (maxL := maxL) (bytes := bytes) (ret := ret) (len := 3) (ig := .invokestatic index) hM hrc hrs hR.1 (by omega) (pay_in hts hG) hcd (fun a' U hWU => word_at hWU (Or.inl (by first | rfl | simp [Cond.onTables, Cond.keeps, Cond.steady])) (hts _ h3)) (g := F0 m pc ls rest) (mk := mk) (a := As.toArray) X₁ rfl (by rw [hml]; exact hls) (by rw [E.2.1]; exact hdg) (lv_room hW) (X₁.named hnamed) hf.1 hf.2 (hpre.1 _ _ _ _ (hpre.2 (T.setVm vm₁) hT X₁.warmed))
  have h0 : ((T.setVm vm₁).calling (F0 m pc ls rest) mk As.toArray).heap = H := hT
  have hv0 : ((T.setVm vm₁).calling (F0 m pc ls rest) mk As.toArray).vm = vm₁ := rfl
  rcases hq with ⟨r, V', rfl, hp, hxw⟩ | ⟨a, tn, V', cell, rfl, hp, hxw, hc1, hc2, hc3⟩
  · obtain ⟨t2, a1, b1⟩ := kr r V' t.heap (locs ++ L) hp (hw.after h0 hxw hF hL) T' hth XT
    exact ⟨t2, hstep₁ _ fun acts => by rw [doInvoke_state]; exact hgo t2 a1, b1⟩
  · have hc3' : s.vm.findClass tn = some cell.cls := by
      have q : (T.setVm vm₁).vm.findClass tn = some cell.cls := hc3
      rw [X₁.warmed.alike.findClass] at q
      exact q
    obtain ⟨t2, a1, b1⟩ := kt a tn V' t.heap (locs ++ L) cell hp (hw.after h0 hxw hF hL) hc1 hc2 hc3' T' hth XT
    exact ⟨t2, hstep₁ _ fun acts => by rw [doInvoke_state]; exact hgo t2 a1, b1⟩
end XXC
