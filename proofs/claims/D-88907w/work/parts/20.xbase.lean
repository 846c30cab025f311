/-! THE COMPONENT: its cells as a map from addresses to pictures, and a row an instruction over it. -/
/-- class numbers: 0 RegularRally, 1 Road, 2 OneWay, 3 Ford, 4 Control, 5 Car, 6 Old, 7 Novice, 8 ArrayList, 9 Spent -/
abbrev xCl : List vw_C := [(RX0, TX0, 20), (RX2, TX2, 5), (RX3, TX3, 6), (RX4, TX4, 7), (RX6, TX6, 7), (RX7, TX7, 7), (RX8, TX8, 8), (RX9, TX9, 9), (RJ2, TJ2, 3), (RX5, TX5, 6)]
abbrev xV : Type := Nat → Option va_E
/-- classes and slots, ArrayList's shared empty array, the mirror of Object[]; classes of int[], byte[], short[], Object[] -/
abbrev xD : Type := (va_G × Nat × Nat) × ClassId × ClassId × ClassId × ClassId
abbrev xTy (D : xD) : List (ClassId × FieldType) := [(D.2.1, .int), (D.2.2.1, .byte), (D.2.2.2.1, .short), (D.2.2.2.2, .object "java/lang/Object")]
/-- words that don't ride in the lists -/
def xN (U : State) : Prop :=
  (∀ C T, Cond.castable C T ∈ lw_tbl → va_Nw (.castable C T) U) ∧ (∀ x, Cond.declares x ∈ lw_tbl → va_Nw (.declares x) U) ∧ (∀ a i b n d h, Cond.fieldLinkNest a i b n d h ∈ lw_tbl → va_Nw (.fieldLinkNest a i b n d h) U) ∧
  (∀ a i x h, Cond.methodLinkNest a i x h ∈ lw_tbl → va_Nw (.methodLinkNest a i x h) U) ∧ va_AO "java/lang/Object" U ∧
  va_Fw "java/util/ArrayList" ⟨"java/util/List", "size", "()I"⟩ ⟨"java/util/ArrayList", "size", "()I"⟩ U ∧ va_Fw "java/util/ArrayList" ⟨"java/util/List", "get", "(I)Ljava/lang/Object;"⟩ ⟨"java/util/ArrayList", "get", "(I)Ljava/lang/Object;"⟩ U ∧
  va_Fw "java/util/ArrayList" ⟨"java/util/List", "add", "(Ljava/lang/Object;)Z"⟩ ⟨"java/util/ArrayList", "add", "(Ljava/lang/Object;)Z"⟩ U ∧ va_Fw "java/util/ArrayList" ⟨"java/util/List", "clear", "()V"⟩ ⟨"java/util/ArrayList", "clear", "()V"⟩ U
theorem xN.warm {s U : State} (hW : s.WarmedH U.vm) (h : xN s) : xN U :=
  ⟨fun C T q => (h.1 C T q).warmC hW, fun x q => (h.2.1 x q).warmD hW, fun a i b n d k q => (h.2.2.1 a i b n d k q).warmF hW, fun a i x k q => (h.2.2.2.1 a i x k q).warmM hW, h.2.2.2.2.1.moved hW.alike,
   h.2.2.2.2.2.1.moved (by decide) hW.alike, h.2.2.2.2.2.2.1.moved (by decide) hW.alike, h.2.2.2.2.2.2.2.1.moved (by decide) hW.alike, h.2.2.2.2.2.2.2.2.moved (by decide) hW.alike⟩
theorem xN.calling {U : State} (g : JFrame) (mk : MethodId) (a : Array Value) (h : xN U) : xN (U.calling g mk a) :=
  ⟨fun C T q => (h.1 C T q).same rfl rfl, fun x q => (h.2.1 x q).same rfl rfl, fun a i b n d k q => (h.2.2.1 a i b n d k q).same rfl rfl, fun a i x k q => (h.2.2.2.1 a i x k q).same rfl rfl, h.2.2.2.2.1.moved (U := U.calling g mk a) (Vm.Alike.refl U.vm),
   h.2.2.2.2.2.1.moved (by decide) (U := U.calling g mk a) (Vm.Alike.refl U.vm), h.2.2.2.2.2.2.1.moved (by decide) (U := U.calling g mk a) (Vm.Alike.refl U.vm), h.2.2.2.2.2.2.2.1.moved (by decide) (U := U.calling g mk a) (Vm.Alike.refl U.vm), h.2.2.2.2.2.2.2.2.moved (by decide) (U := U.calling g mk a) (Vm.Alike.refl U.vm)⟩
/-- pairs that are not castable -/
def xNc : List (String × String) := [("RegularRally$Road", "RegularRally$Ford"), ("RegularRally$OneWay", "RegularRally$Ford"), ("RegularRally$Car", "RegularRally$Old"), ("RegularRally$Car", "RegularRally$Novice"), ("RegularRally$Old", "RegularRally$Novice"),
  ("[B", "[S"), ("[B", "[I"), ("[S", "[B"), ("[S", "[I"), ("[I", "[B"), ("[I", "[S"),
  ("java/lang/NullPointerException", "java/lang/ClassCastException"), ("java/lang/NegativeArraySizeException", "java/lang/ClassCastException"), ("java/lang/ArrayIndexOutOfBoundsException", "java/lang/ClassCastException"),
  ("java/lang/NegativeArraySizeException", "java/lang/NullPointerException"), ("java/lang/ArrayIndexOutOfBoundsException", "java/lang/NullPointerException"), ("java/lang/ArrayStoreException", "java/lang/NullPointerException"),
  ("java/lang/ArrayIndexOutOfBoundsException", "java/lang/NegativeArraySizeException"), ("java/lang/ArrayIndexOutOfBoundsException", "java/lang/ArrayStoreException")]
def xO (D : xD) (U : State) : Prop := (∀ q ∈ xNc, va_Nc q.1 q.2 U) ∧ va_Mi "[Ljava/lang/Object;" D.1.2.2 U ∧ va_Nw (.privateMethod ⟨"RegularRally$Car", "claimed", "(I)J"⟩) U ∧
  va_Fw "RegularRally$Car" ⟨"RegularRally$Greeted", "rally", "()LRegularRally;"⟩ ⟨"RegularRally$Car", "rally", "()LRegularRally;"⟩ U ∧ va_Fw "RegularRally$Car" ⟨"RegularRally$Greeted", "number", "()I"⟩ ⟨"RegularRally$Car", "number", "()I"⟩ U ∧ va_Fw "RegularRally$Car" ⟨"RegularRally$Greeted", "kind", "()I"⟩ ⟨"RegularRally$Car", "kind", "()I"⟩ U
theorem xO.alike {D : xD} {s U : State} (h : s.vm.Alike U.vm) (k : xO D s) : xO D U := ⟨fun q hq => (k.1 q hq).moved h, k.2.1.moved h, va_tabs rfl (rfl : (s.setVm U.vm).vm = U.vm) (by rw [Cond.privateMethod_setVm h]; exact k.2.2.1), k.2.2.2.1.moved (by decide) h, k.2.2.2.2.1.moved (by decide) h, k.2.2.2.2.2.moved (by decide) h⟩
def xK (D : xD) (U : State) : Prop := va_K D.1.1 xCl (xTy D) U ∧ xN U ∧ xO D U
theorem xK.warm {D : xD} {s U : State} (hW : s.WarmedH U.vm) (h : xK D s) : xK D U := ⟨h.1.moved hW.alike, h.2.1.warm hW, h.2.2.alike hW.alike⟩
theorem xK.calling {D : xD} {U : State} (g : JFrame) (mk : MethodId) (a : Array Value) (h : xK D U) : xK D (U.calling g mk a) := ⟨va_K.moved (u := U) (U := U.calling g mk a) (Vm.Alike.refl U.vm) h.1, h.2.1.calling g mk a, xO.alike (s := U) (U := U.calling g mk a) (Vm.Alike.refl U.vm) h.2.2⟩
/-- static fields that nobody writes -/
def xZ (D : xD) (A : Nat → Prop) (U : State) (H : Heap) : Prop :=
  va_Z "java/util/ArrayList" "DEFAULTCAPACITY_EMPTY_ELEMENTDATA" "[Ljava/lang/Object;" (.ref D.1.2.1) A U H ∧ (∃ v, va_Z "java/lang/Throwable" "UNASSIGNED_STACK" "[Ljava/lang/StackTraceElement;" v A U H ∧ (v = .null ∨ ∃ a, v = .ref a)) ∧ ∃ v, va_Z "java/lang/Throwable" "SUPPRESSED_SENTINEL" "Ljava/util/List;" v A U H ∧ (v = .null ∨ ∃ a, v = .ref a)
theorem xZ.moved {D : xD} {A : Nat → Prop} {u U : State} {H : Heap} (hvm : u.vm.Alike U.vm) (h : xZ D A u H) : xZ D A U H := by
  obtain ⟨h1, ⟨v, h2, h3⟩, w, h4, h5⟩ := h
  exact ⟨h1.moved hvm, ⟨v, h2.moved hvm, h3⟩, w, h4.moved hvm, h5⟩
theorem xZ.kept {D : xD} {A : Nat → Prop} {U : State} {H H1 : Heap} (h : xZ D A U H) (hq : ∀ a : Nat, a < H.size → ¬ A a → H1[a]? = H[a]?) : xZ D A U H1 := by
  obtain ⟨h1, ⟨v, h2, h3⟩, w, h4, h5⟩ := h
  exact ⟨h1.kept hq, ⟨v, h2.kept hq, h3⟩, w, h4.kept hq, h5⟩
/-- a picture that can't be written: an array without places -/
def xEm (e : va_E) : Prop := ∃ c f, e = .inl (c, 0, f)
theorem xEm.obj {x : Nat × List Value} : ¬ xEm (.inr x) := by rintro ⟨c, f, h⟩; cases h
theorem xEm.arr {c : ClassId} {n : Nat} {f : (Nat → Int32) ⊕ (Nat → Int64) ⊕ (Nat → UInt32) ⊕ (Nat → UInt64) ⊕ (Nat → Option Nat)} {i : Int32} (h : vp_in i n) : ¬ xEm (.inl (c, n, f)) := by
  rintro ⟨c, f, h2⟩
  cases h2
  exact h (Or.inr (Nat.zero_le _))
/-- the heap holds the pictures; A: what may be written -/
def xW (D : xD) (A : Nat → Prop) (V : xV) (H : Heap) : Prop := (∀ q, H.size ≤ q → A q) ∧ ∀ a e, V a = some e → (A a ∨ xEm e) ∧ va_at D.1.1 xCl (a, e) H
def xWd (D : xD) (A : Nat → Prop) (s : State) (V : xV) (H : Heap) (locs : List Loc) : Prop := xW D A V H ∧ va_S A s.heap H locs
def xu (V : xV) (a : Nat) (e : va_E) : xV := fun b => if b = a then some e else V b
theorem xu_s (V : xV) (a : Nat) (e : va_E) : xu V a e a = some e := if_pos rfl
theorem xu_n {V : xV} {a b : Nat} {e : va_E} (h : b ≠ a) : xu V a e b = V b := if_neg h
theorem xW.lt {D : xD} {A : Nat → Prop} {V : xV} {H : Heap} {a : Nat} {e : va_E} (h : xW D A V H) (ha : V a = some e) : a < H.size := (h.2 a e ha).2.lt
theorem xWd.put {D : xD} {A : Nat → Prop} {s : State} {V : xV} {H H1 : Heap} {locs : List Loc} {a i : Nat} {e0 e : va_E} (h : xWd D A s V H locs) (ha : V a = some e0) (hm : ¬ xEm e0) (he : va_at D.1.1 xCl (a, e) H1) (z : H1.size = H.size) (oq : ∀ q : Nat, q ≠ a → H1[q]? = H[q]?) : xWd D A s (xu V a e) H1 (locs ++ [⟨a, i⟩]) := by
  refine ⟨⟨fun q hq => h.1.1 q (by omega), fun b x hb => ?_⟩, h.2.put z oq ((h.1.2 a e0 ha).1.resolve_right hm)⟩
  by_cases hba : b = a
  · subst hba
    rw [xu_s] at hb
    cases hb
    exact ⟨Or.inl ((h.1.2 b e0 ha).1.resolve_right hm), he⟩
  · rw [xu_n hba] at hb
    exact ⟨(h.1.2 b x hb).1, (h.1.2 b x hb).2.kept (oq b hba)⟩
/-- a fresh cell -/
theorem xWd.push {D : xD} {A : Nat → Prop} {s : State} {V : xV} {H H1 : Heap} {locs : List Loc} {e : va_E} (h : xWd D A s V H locs) (he : va_at D.1.1 xCl (H.size, e) H1) (z : H1.size = H.size + 1) (oq : ∀ q : Nat, q < H.size → H1[q]? = H[q]?) : xWd D A s (xu V H.size e) H1 locs := by
  refine ⟨⟨fun q hq => h.1.1 q (by omega), fun b x hb => ?_⟩, ⟨Nat.le_trans h.2.1 (by omega), fun x h1 h2 => (oq x (Nat.lt_of_lt_of_le h1 h.2.1)).trans (h.2.2.1 x h1 h2), h.2.2.2⟩⟩
  by_cases hba : b = H.size
  · subst hba
    rw [xu_s] at hb
    cases hb
    exact ⟨Or.inl (h.1.1 _ (Nat.le_refl _)), he⟩
  · rw [xu_n hba] at hb
    exact ⟨(h.1.2 b x hb).1, (h.1.2 b x hb).2.kept (oq b (h.1.lt hb))⟩
/-- what is known inside a method of the class own -/
def xE (own : String) (p : Program) (c : Code) (cc : ByteArray) (s : State) (m : MethodId) (args : Array Value) (D : xD) (A : Nat → Prop) : Prop :=
  p.tables.exec = Jvm.exec ∧ c.code = cc ∧ (∀ w ∈ lw_all, w.before args s = true) ∧ s.vm.findClass own = some m.cls ∧ xK D s ∧ xZ D A s s.heap
section XR
variable {p : Program} {l : Launch} {e : Env} {R : Room} {s : State} {m : MethodId} {args : Array Value} {below : List Frame} {meth : Method} {c : Code} {H : Heap} {locs : List Loc} {cells slots : Nat} {Q : State → Prop}
variable {cc : ByteArray} {pc : Nat} {ls : Array Slot} {rest : List Value} {D : xD} {A : Nat → Prop} {V : xV} {own : String} {a : Nat}
/-- getfield -/
theorem x_get (E : xE own p c cc s m args D A) (hw : xWd D A s V H locs) {ref C : String} {T : u_T} {N ci index : Nat} {fs : List Value} {v : Value} (k : Nat) (ha : V a = some (.inr (ci, fs))) (hc : xCl[ci]? = some (C, T, N)) (hin : ∀ w ∈ u_ws C T N, w ∈ lw_all) (hk : k < N) (hl : Cond.fieldLink own index ref (T k).2.1 (T k).2.2.1 ∈ lw_all) (hsame : ∀ x, s.fieldFound? (T k).1 (T k).2.1 (T k).2.2.1 = some x → s.fieldFound? ref (T k).2.1 (T k).2.2.1 = some x) (hv : fs[k]? = some v) (hd : decode cc pc = .ok (.getfield index, 3))
    (kk : W p l e R s m args below meth c H locs cells slots Q (F0 m (pc + 3) ls (v :: rest))) : W p l e R s m args below meth c H locs cells slots Q (F0 m pc ls (.ref a :: rest)) := by
  obtain ⟨hx, hb, hts, hown, hK, hz0⟩ := E
  obtain ⟨r, h1, cell, q1, q2, q3, q4⟩ := (hw.1.2 a _ ha).2
  have hr : r = (C, T, N) := Option.some.inj (h1.symm.trans hc)
  subst hr
  obtain ⟨hS, hfc, kC, hkC, hkind⟩ := hK.1.1 ci _ hc
  obtain ⟨cf, kf, fi, f, hi, hsl⟩ := hS k hk
  refine W.getf hx hb hown (hts _ hl) (hsame _ hi) (u_facts hfc hkC (u_lays hts hin hk) hi).1 q1 (by rw [q3]; exact fun h => by cases h) (v := v) ?_ rfl rfl hd kk
  rw [hsl, q4 k hk]
  simp [vp_V, hv]
theorem x_slot {C : String} {T : u_T} {N : Nat} {cC : ClassId} {iS : Nat → Nat} (ty : Nat → FieldType) (hts : ∀ w ∈ lw_all, w.before args s = true) (hin : ∀ w ∈ u_ws C T N, w ∈ lw_all) (hty : ∀ k, k < N → parseFieldDescriptor (T k).2.2.1 = some (ty k)) (hKn : u_Kn s C T N cC iS) {x y : Nat} (hx : x < N) (hy : y < N) (hne : (T x).2.1 ≠ (T y).2.1) : iS x ≠ iS y := by
  obtain ⟨_, _, _, fa, hia, ea⟩ := hKn.1 x hx
  obtain ⟨_, _, _, fb, hib, eb⟩ := hKn.1 y hy
  rw [← ea, ← eb]
  refine u_apart (u_lays hts hin hx) (u_lays hts hin hy) hia hib ?_
  rw [(State.fieldFound?_type hia (hty x hx)).1, (State.fieldFound?_type hib (hty y hy)).1]
  exact hne
/-- the picture behind a store into field k: fields of another name, or that hold the value already -/
theorem x_set {C : String} {T : u_T} {N : Nat} {cC : ClassId} {iS : Nat → Nat} (ty : Nat → FieldType) (hts : ∀ w ∈ lw_all, w.before args s = true) (hin : ∀ w ∈ u_ws C T N, w ∈ lw_all) (hty : ∀ k, k < N → parseFieldDescriptor (T k).2.2.1 = some (ty k)) (hKn : u_Kn s C T N cC iS) {cell : Cell} {fs : List Value} {k : Nat} {v : Value} (hk : k < N) (hl : k < fs.length) (q4 : ∀ j, j < N → cell.slots[iS j]? = some (vp_V fs j)) (ho : ∀ j, j < N → j ≠ k → (T j).2.1 ≠ (T k).2.1 ∨ vp_V fs j = v) :
    ∀ j, j < N → (cell.setSlot (iS k) v).slots[iS j]? = some (vp_V (fs.set k v) j) := by
  intro j hj
  by_cases hjk : j = k
  · subst hjk
    rw [Cell.slots_setSlot_self _ (k2_hasslot (q4 j hj))]
    simp [vp_V, List.getD, hl]
  · have e1 : vp_V (fs.set k v) j = vp_V fs j := by simp [vp_V, List.getD, List.getElem?_set_ne (Ne.symm hjk)]
    rw [e1]
    by_cases hs : iS j = iS k
    · rcases ho j hj hjk with h | h
      · exact absurd hs (x_slot ty hts hin hty hKn hj hk h)
      · rw [hs, Cell.slots_setSlot_self _ (k2_hasslot (q4 k hk)), h]
    · rw [slot_ne _ _ (Ne.symm hs), q4 j hj]
/-- putfield, a field that isn't final -/
theorem x_put (E : xE own p c cc s m args D A) (hw : xWd D A s V H locs) {ref C : String} {T : u_T} {N ci index : Nat} {fs : List Value} {v : Value} {ty : FieldType} (k : Nat) (ha : V a = some (.inr (ci, fs))) (hc : xCl[ci]? = some (C, T, N)) (hin : ∀ w ∈ u_ws C T N, w ∈ lw_all) (ty0 : Nat → FieldType) (hty : ∀ k, k < N → parseFieldDescriptor (T k).2.2.1 = some (ty0 k)) (hk : k < N) (hl : Cond.fieldLink own index ref (T k).2.1 (T k).2.2.1 ∈ lw_all) (hsame : ∀ x, s.fieldFound? (T k).1 (T k).2.1 (T k).2.2.1 = some x → s.fieldFound? ref (T k).2.1 (T k).2.2.1 = some x) (hfin : (T k).2.2.2 = false)
    (hd0 : parseFieldDescriptor (T k).2.2.1 = some ty) (hn : narrow ty v = v) (hfit : fits ty v = true) (hlen : k < fs.length) (ho : ∀ j, j < N → j ≠ k → (T j).2.1 ≠ (T k).2.1 ∨ vp_V fs j = v) (hd : decode cc pc = .ok (.putfield index, 3))
    (kk : ∀ (H : Heap) (locs : List Loc), xWd D A s (xu V a (.inr (ci, fs.set k v))) H locs → W p l e R s m args below meth c H locs cells slots Q (F0 m (pc + 3) ls rest)) : W p l e R s m args below meth c H locs cells slots Q (F0 m pc ls (v :: .ref a :: rest)) := by
  obtain ⟨hx, hb, hts, hown, hK, hz0⟩ := E
  obtain ⟨r, h1, cell, q1, q2, q3, q4⟩ := (hw.1.2 a _ ha).2
  have hr : r = (C, T, N) := Option.some.inj (h1.symm.trans hc)
  subst hr
  have hKn := hK.1.1 ci _ hc
  obtain ⟨hS, hfc, kC, hkC, hkind⟩ := hK.1.1 ci _ hc
  obtain ⟨cf, kf, fi, f, hi, hsl⟩ := hS k hk
  have hlay := hts _ (hin _ (u_in_lay hk))
  unfold u_lay at hlay
  rw [if_neg (by rw [hfin]; decide)] at hlay
  have hst := (u_facts hfc hkC (u_lays hts hin hk) hi).1
  have h6 := u_store hfc hkC hkind hlay hi hd0 hn hfit
  refine W.putK hx hb (f := f) ⟨hown, hts _ hl, ⟨_, _, _, hsame _ hi⟩, hst⟩ (by rw [q2]; exact h6) q1 q3 (by rw [hsl]; exact k2_hasslot (q4 k hk)) rfl rfl hd fun H' e1 e2 e3 => ?_
  rw [hsl] at e1 ⊢
  exact kk H' _ (hw.put ha xEm.obj ⟨_, hc, _, e1, q2, q3, x_set ty0 hts hin hty hKn hk hlen q4 ho⟩ e2 e3)
/-- putfield of a final field in its class's constructor -/
theorem x_putF (E : xE own p c cc s m args D A) (hw : xWd D A s V H locs) {ref C : String} {T : u_T} {N ci index : Nat} {fs : List Value} {v : Value} {ty : FieldType} (k : Nat) (ha : V a = some (.inr (ci, fs))) (hc : xCl[ci]? = some (C, T, N)) (hin : ∀ w ∈ u_ws C T N, w ∈ lw_all) (ty0 : Nat → FieldType) (hty : ∀ k, k < N → parseFieldDescriptor (T k).2.2.1 = some (ty0 k)) (hk : k < N) (hl : Cond.fieldLink own index ref (T k).2.1 (T k).2.2.1 ∈ lw_all) (hsame : ∀ x, s.fieldFound? (T k).1 (T k).2.1 (T k).2.2.1 = some x → s.fieldFound? ref (T k).2.1 (T k).2.2.1 = some x) (hfin : (T k).2.2.2 = true) (hin2 : meth.name = "<init>") (hdecl : (T k).1 = own)
    (hd0 : parseFieldDescriptor (T k).2.2.1 = some ty) (hn : narrow ty v = v) (hfit : fits ty v = true) (hlen : k < fs.length) (ho : ∀ j, j < N → j ≠ k → (T j).2.1 ≠ (T k).2.1 ∨ vp_V fs j = v) (hd : decode cc pc = .ok (.putfield index, 3))
    (kk : ∀ (H : Heap) (locs : List Loc), xWd D A s (xu V a (.inr (ci, fs.set k v))) H locs → W p l e R s m args below meth c H locs cells slots Q (F0 m (pc + 3) ls rest)) : W p l e R s m args below meth c H locs cells slots Q (F0 m pc ls (v :: .ref a :: rest)) := by
  obtain ⟨hx, hb, hts, hown, hK, hz0⟩ := E
  obtain ⟨r, h1, cell, q1, q2, q3, q4⟩ := (hw.1.2 a _ ha).2
  have hr : r = (C, T, N) := Option.some.inj (h1.symm.trans hc)
  subst hr
  have hKn := hK.1.1 ci _ hc
  obtain ⟨hS, hfc, kC, hkC, hkind⟩ := hK.1.1 ci _ hc
  obtain ⟨cf, kf, fi, f, hi, hsl⟩ := hS k hk
  have hlay := hts _ (hin _ (u_in_lay hk))
  unfold u_lay at hlay
  rw [if_pos hfin] at hlay
  have hst := (u_facts hfc hkC (u_lays hts hin hk) hi).1
  have hcf : m.cls = cf := by
    obtain ⟨_, _, c', _, _, _, -, -, hf', -, -, -, hown2, -⟩ := Cond.laysFinal_spec hlay
    have e1 : c' = cf := by have := hi.symm.trans hf'; simp at this; exact this.1.symm
    rw [hdecl] at hown2
    rw [← e1]; exact Option.some.inj (hown.symm.trans hown2)
  have h6 := u_fits hfc hkC hkind (Or.inr hlay) hi hd0 hn hfit
  refine W.putFinK hx hb hown (hts _ hl) (hsame _ hi) hst hcf hin2 (by rw [q2]; exact h6) q1 q3 (by rw [hsl]; exact k2_hasslot (q4 k hk)) rfl rfl hd fun H' e1 e2 e3 => ?_
  rw [hsl] at e1 ⊢
  exact kk H' _ (hw.put ha xEm.obj ⟨_, hc, _, e1, q2, q3, x_set ty0 hts hin hty hKn hk hlen q4 ho⟩ e2 e3)
end XR
