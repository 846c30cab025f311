/-! exceptions: the search for a handler, rows passed, the catch -/
section XTA
variable {e : Env} {s₀ S : State} {f : JFrame} {a : Addr} {tb : List ExceptionTableEntry} {x : ExceptionTableEntry} {cell : Cell} {cT : ClassId}
/-- the search in the rows tb ends at the handler pc', the tables warmer -/
def xFd (e : Env) (s₀ S : State) (f : JFrame) (a : Addr) (tb : List ExceptionTableEntry) (pc' : Nat) : Prop :=
  ∃ vm' : Vm, s₀.WarmedH vm' ∧ ∀ (Q : Handler → Pre) (E : CtlPost) (d : Bool) (acts : List Action), wp (findHandler.go f a tb) Q E e d acts S ↔ Q (.found pc') d acts (S.setVm vm')
theorem xFd.skip {pc' : Nat} (hx : covers x f.pc = false) (h : xFd e s₀ S f a tb pc') : xFd e s₀ S f a (x :: tb) pc' := by
  obtain ⟨vm', hW, hq⟩ := h
  exact ⟨vm', hW, fun Q E d acts => by rw [W.findHandler_go_skip hx]; exact hq Q E d acts⟩
/-- a row whose class takes the object -/
theorem xFd.hit (hW : s₀.WarmedH S.vm) (hx : covers x f.pc = true) (h0 : x.catchType ≠ 0) (hl : s₀.vm.ClassLinks e.platform f.method.cls x.catchType cT) (hcell : S.heap[a]? = some cell) (hobj : ∀ k, cell.vm ≠ .statics k) (hk : ∃ k, s₀.vm.classes[cell.cls]? = some k) (hfit : s₀.vm.assignable cell.cls cT = true) : xFd e s₀ S f a (x :: tb) x.handlerPc := by
  obtain ⟨dk, _, _, kt, hd, _, _, _, _, hkt, _, hopen⟩ := hl.here
  refine ⟨S.vm.noted f.method.cls x.catchType (.cls cT), hW.noted hd hopen (State.rightAt_cls hl), fun Q E d acts => ?_⟩
  simp only [covers] at hx
  obtain ⟨h1, h2⟩ := (resolveClass_links e.toSetting (hW.classLinks hl)).op (op := VmOp.resolveClass f.method.cls x.catchType) rfl
  have hal : s₀.vm.Alike (S.vm.noted f.method.cls x.catchType (.cls cT)) := hW.alike.noted _ _ _
  obtain ⟨k1, hk1⟩ := hk
  obtain ⟨k1', hk1', -⟩ := hal.2.2 _ _ hk1
  obtain ⟨k2', hk2', -⟩ := hal.2.2 _ _ hkt
  have hfit' : (S.vm.noted f.method.cls x.catchType (.cls cT)).assignable cell.cls cT = true := by rw [hal.assignable]; exact hfit
  simp [findHandler.go, hx, h0, h1, h2, hcell, hobj, hk1', hk2', hfit', VmOp.dirties, VmOp.acts]
/-- a row whose class doesn't take it -/
theorem xFd.pass {pc' : Nat} (hW : s₀.WarmedH S.vm) (hx : covers x f.pc = true) (h0 : x.catchType ≠ 0) (hl : s₀.vm.ClassLinks e.platform f.method.cls x.catchType cT) (hcell : S.heap[a]? = some cell) (hobj : ∀ k, cell.vm ≠ .statics k) (hk : ∃ k, s₀.vm.classes[cell.cls]? = some k) (hno : s₀.vm.assignable cell.cls cT = false)
    (h : ∀ vm1, s₀.WarmedH vm1 → xFd e s₀ (S.setVm vm1) f a tb pc') : xFd e s₀ S f a (x :: tb) pc' := by
  obtain ⟨dk, _, _, kt, hd, _, _, _, _, hkt, _, hopen⟩ := hl.here
  have hW1 := hW.noted hd hopen (State.rightAt_cls hl)
  obtain ⟨vm', hW2, hq⟩ := h _ hW1
  refine ⟨vm', hW2, fun Q E d acts => ?_⟩
  rw [show (S.setVm vm') = ((S.setVm (S.vm.noted f.method.cls x.catchType (.cls cT))).setVm vm') from rfl, ← hq Q E d acts]
  simp only [covers] at hx
  obtain ⟨h1, h2⟩ := (resolveClass_links e.toSetting (hW.classLinks hl)).op (op := VmOp.resolveClass f.method.cls x.catchType) rfl
  have hal : s₀.vm.Alike (S.vm.noted f.method.cls x.catchType (.cls cT)) := hW.alike.noted _ _ _
  obtain ⟨k1, hk1⟩ := hk
  obtain ⟨k1', hk1', -⟩ := hal.2.2 _ _ hk1
  obtain ⟨k2', hk2', -⟩ := hal.2.2 _ _ hkt
  have hno' : (S.vm.noted f.method.cls x.catchType (.cls cT)).assignable cell.cls cT = false := by rw [hal.assignable]; exact hno
  simp [findHandler.go, hx, h0, h1, h2, hcell, hobj, hk1', hk2', hno', VmOp.dirties, VmOp.acts]
end XTA
section XTB
variable {p : Program} {l : Launch} {e : Env} {R : Room} {s : State} {m : MethodId} {args : Array Value} {below : List Frame} {meth : Method} {c : Code} {H : Heap} {locs : List Loc} {cells slots : Nat} {Q : State → Prop}
variable {cc : ByteArray} {pc pc' : Nat} {ls : Array Slot} {rest st0 : List Value} {D : xD} {A : Nat → Prop} {V : xV} {own : String} {a : Nat} {g : JFrame}
/-- what is wanted where the note of a throw lies over the frame -/
def WT (p : Program) (l : Launch) (e : Env) (R : Room) (s : State) (m : MethodId) (args : Array Value) (below : List Frame) (meth : Method) (c : Code) (H : Heap) (locs : List Loc) (cells slots : Nat) (Q : State → Prop) (g : JFrame) (a : Nat) : Prop :=
  ∀ T : State, T.heap = H → Stand p l e R s m args below meth c T locs cells slots → ∃ t, Steps p.tables e below ((T.setTop g).pushFrame (.throwing a)) t ∧ Q t
theorem x_stepC {S : State} {r : List Frame} {vm' : Vm} (hq : ∀ (Q : Handler → Pre) (E : CtlPost) (d : Bool) (acts : List Action), wp (findHandler g a) Q E e d acts S ↔ Q (.found pc') d acts (S.setVm vm')) :
    (stepThrowing e S a (.java g :: r)).Is ((S.setVm vm').setFrames (.java { g with pc := pc', stack := [.ref a] } :: r)) [] := by
  simp only [stepThrowing, searchFrame, vmDo]
  generalize hr : Sem.go _ e false [] S = res
  obtain ⟨as, rfl, ha⟩ := Sem.eq_ok_of hr (a := Handler.found pc') (s' := S.setVm vm') (acts' := []) (by simp [hq _ _ _ _])
  exact ⟨rfl, ha⟩
/-- caught -/
theorem x_catch (hg : g.method = m) (hfd : ∀ T : State, T.heap = H → Stand p l e R s m args below meth c T locs cells slots → xFd e s ((T.setTop g).pushFrame (.throwing a)) g a c.exceptionTable.toList pc')
    (kk : W p l e R s m args below meth c H locs cells slots Q { g with pc := pc', stack := [.ref a] }) : WT p l e R s m args below meth c H locs cells slots Q g a := by
  intro T hT X
  obtain ⟨vm', hW, hq⟩ := hfd T hT X
  obtain ⟨t, h1, h2⟩ := kk (T.setVm vm') hT (X.noted hW)
  refine ⟨t, ?_, h2⟩
  subst hg
  have hA : At T g.method c below := X.here
  obtain ⟨hgo, hw⟩ := hA.throwing a
  refine Steps.head hgo hw ?_
  have hm : ((T.setTop g).pushFrame (.throwing a)).vm.method? g.method = some meth := by rw [Stand.throwing_vm]; exact X.method'
  rw [stepThread_throwing (frames_entered hA.top _), (x_stepC (S := (T.setTop g).pushFrame (.throwing a)) (g := g) (a := a) (vm' := vm') (fun Q E d acts => by rw [W.findHandler_eq hm X.code]; exact hq Q E d acts)).1]
  obtain ⟨g₀, hr⟩ := X.frames_eq
  have hr' : (T.setVm vm').frames = .java g₀ :: below := hr
  rw [State.setTop_of_frames _ hr'] at h1
  have e1 : (((T.setTop g).pushFrame (.throwing a)).setVm vm').setFrames (.java { g with pc := pc', stack := [.ref a] } :: T.frames.tail) = (T.setVm vm').setFrames (.java { g with pc := pc', stack := [.ref a] } :: below) := by
    rw [State.pushFrame, State.setTop_of_frames _ hr, hr, List.tail_cons, State.setFrames_setFrames]
    have q : ∀ F G : List Frame, ((T.setFrames F).setVm vm').setFrames G = (T.setVm vm').setFrames G := fun F G => by
      show ((T.setVm vm').setFrames F).setFrames G = _
      rw [State.setFrames_setFrames]
    exact q _ _
  rw [e1]
  exact h1
end XTB
