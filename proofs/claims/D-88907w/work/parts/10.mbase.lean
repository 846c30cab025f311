/-! THE REFERENCE (RegularRallyModel): its memory as a pure function, and a row an instruction over it. -/
/-- row 0: its whole numbers by field number; row k: the array of field k -/
abbrev mS : Type := Nat → Nat → Int32
/-- address, array addresses by field, class, slots, class of int[], class of boolean[] -/
abbrev mG : Type := Nat × (Nat → Nat) × ClassId × (Nat → Nat) × ClassId × ClassId
def mlen : Nat → Nat
  | 2 => 16 | 3 => 16 | 4 => 16 | 5 => 16 | 6 => 16 | 7 => 16 | 8 => 4 | 9 => 4 | 10 => 128 | 11 => 32 | 13 => 8 | 17 => 10 | 20 => 11 | 21 => 11 | 22 => 11 | 23 => 11
  | 26 => 10 | 28 => 8 | 29 => 8 | 31 => 8 | 32 => 8 | 33 => 8 | 34 => 32 | 36 => 8 | 37 => 8 | 39 => 64 | 40 => 64 | 41 => 64 | _ => 0
def mbo (k : Nat) : Bool := k == 6 || k == 7 || k == 32 || k == 33
def mfv (G : mG) (st : mS) (k : Nat) : Value := if mlen k = 0 then .int (st 0 k) else .ref (G.2.1 k)
def mK (G : mG) (U : State) : Prop := u_Kn U RX1 TX1 43 G.2.2.1 G.2.2.2.1 ∧ ArrOfT U G.2.2.2.2.1 .int ∧ ArrOfT U G.2.2.2.2.2 .boolean ∧ (∀ k k', mlen k ≠ 0 → mlen k' ≠ 0 → G.2.1 k = G.2.1 k' → k = k') ∧ ∀ k, mlen k ≠ 0 → G.2.1 k ≠ G.1
def mW (G : mG) (st : mS) (H : Heap) : Prop := t_OB G.1 G.2.2.1 43 G.2.2.2.1 H (mfv G st) ∧ ∀ k, mlen k ≠ 0 → H[G.2.1 k]? = some (arrV (if mbo k then G.2.2.2.2.2 else G.2.2.2.2.1) (mlen k) (fun j => .int (st k j)))
def mA (G : mG) (q : Nat) : Prop := q = G.1 ∨ ∃ k, mlen k ≠ 0 ∧ q = G.2.1 k
def mWd (G : mG) (H0 : Heap) (st : mS) (H : Heap) (locs : List Loc) : Prop := mW G st H ∧ H.size = H0.size ∧ (∀ q : Nat, ¬ mA G q → H[q]? = H0[q]?) ∧ ∀ l ∈ locs, mA G l.base
def mu (st : mS) (a i : Nat) (v : Int32) : mS := fun b j => if b = a ∧ j = i then v else st b j
theorem mu_s (st : mS) (a i : Nat) (v : Int32) : mu st a i v a i = v := if_pos ⟨rfl, rfl⟩
theorem mu_n {st : mS} {a i b j : Nat} {v : Int32} (h : ¬ (b = a ∧ j = i)) : mu st a i v b j = st b j := if_neg h
theorem mu_r {st : mS} {a i b : Nat} {v : Int32} (h : b ≠ a) (j : Nat) : mu st a i v b j = st b j := if_neg (fun q => h q.1)
theorem mu_c {st : mS} {a i j : Nat} {v : Int32} (h : j ≠ i) (b : Nat) : mu st a i v b j = st b j := if_neg (fun q => h q.2)
/-- what is known inside a method -/
def mE (p : Program) (c : Code) (cc : ByteArray) (s : State) (m : MethodId) (args : Array Value) (G : mG) : Prop :=
  p.tables.exec = Jvm.exec ∧ c.code = cc ∧ (∀ w ∈ lw_all, w.before args s = true) ∧ s.vm.findClass RX1 = some m.cls ∧ mK G s
theorem mK.moved {G : mG} {u U : State} (hvm : u.vm.Alike U.vm) (h : mK G u) : mK G U := ⟨u_Kn_moved hvm h.1, arrOfT_moved hvm h.2.1, arrOfT_moved hvm h.2.2.1, h.2.2.2⟩
theorem TX1_own : ∀ k, k < 43 → (TX1 k).1 = RX1 := by decide +kernel
theorem mA_h (G : mG) : mA G G.1 := Or.inl rfl
theorem mA_a (G : mG) {k : Nat} (h : mlen k ≠ 0) : mA G (G.2.1 k) := Or.inr ⟨k, h, rfl⟩
theorem mWd.put {G : mG} {H0 : Heap} {st st' : mS} {H H1 : Heap} {locs : List Loc} {a i : Nat} (h : mWd G H0 st H locs) (hW : mW G st' H1) (z : H1.size = H.size) (oq : ∀ q : Nat, q ≠ a → H1[q]? = H[q]?) (ha : mA G a) : mWd G H0 st' H1 (locs ++ [⟨a, i⟩]) := by
  refine ⟨hW, z.trans h.2.1, fun q hq => ?_, fun q hq => ?_⟩
  · rw [oq q (fun e => hq (e ▸ ha))]
    exact h.2.2.1 q hq
  · rcases List.mem_append.mp hq with h1 | h1
    · exact h.2.2.2 q h1
    · rw [List.mem_singleton.mp h1]
      exact ha
theorem mW_ext {G : mG} {st st' : mS} {H : Heap} (h : mW G st H) (e0 : ∀ k, mlen k = 0 → st 0 k = st' 0 k) (e1 : ∀ k j, mlen k ≠ 0 → st k j = st' k j) : mW G st' H := by
  refine ⟨h.1.to (fun k _ => ?_), fun k hk => ?_⟩
  · unfold mfv
    split
    · rename_i hz
      rw [e0 k hz]
    · rfl
  · rw [h.2 k hk]
    congr 2
    funext j
    rw [e1 k j hk]
section MR
variable {p : Program} {l : Launch} {e : Env} {R : Room} {s : State} {m : MethodId} {args : Array Value} {below : List Frame} {meth : Method} {c : Code} {H : Heap} {locs : List Loc} {cells slots : Nat} {Q : State → Prop}
variable {cc : ByteArray} {pc : Nat} {ls : Array Slot} {rest : List Value} {G : mG} {st : mS} {H0 : Heap}
theorem m_get (E : mE p c cc s m args G) (hw : mWd G H0 st H locs) (k : Nat) {index : Nat} (hk : k < 43) (hl : Cond.fieldLink RX1 index RX1 (TX1 k).2.1 (TX1 k).2.2.1 ∈ lw_all) (hd : decode cc pc = .ok (.getfield index, 3))
    (kk : W p l e R s m args below meth c H locs cells slots Q (F0 m (pc + 3) ls (mfv G st k :: rest))) : W p l e R s m args below meth c H locs cells slots Q (F0 m pc ls (.ref G.1 :: rest)) := by
  obtain ⟨hx, hb, hts, hown, ⟨hS, hfc, kC, hkC, hkind⟩, -⟩ := E
  obtain ⟨⟨⟨cell, q1, q2, q3, q4⟩, -⟩, -⟩ := hw
  obtain ⟨cf, kf, fi, f, hi, hsl⟩ := hS k hk
  refine W.getf hx hb hown (hts _ hl) (by rw [← TX1_own k hk]; exact hi) (u_facts hfc hkC (u_lays hts in_X1 hk) hi).1 q1 (by rw [q3]; exact fun h => by cases h) (v := mfv G st k) ?_ rfl rfl hd kk
  rw [hsl, q4 k hk]
theorem m_geti (E : mE p c cc s m args G) (hw : mWd G H0 st H locs) (k : Nat) {index : Nat} (hk : k < 43) (hz : mlen k = 0) (hl : Cond.fieldLink RX1 index RX1 (TX1 k).2.1 (TX1 k).2.2.1 ∈ lw_all) (hd : decode cc pc = .ok (.getfield index, 3))
    (kk : W p l e R s m args below meth c H locs cells slots Q (F0 m (pc + 3) ls (.int (st 0 k) :: rest))) : W p l e R s m args below meth c H locs cells slots Q (F0 m pc ls (.ref G.1 :: rest)) :=
  m_get E hw k hk hl hd (by rw [show mfv G st k = .int (st 0 k) from if_pos hz]; exact kk)
theorem m_geta (E : mE p c cc s m args G) (hw : mWd G H0 st H locs) (k : Nat) {index : Nat} (hk : k < 43) (hz : ¬ mlen k = 0) (hl : Cond.fieldLink RX1 index RX1 (TX1 k).2.1 (TX1 k).2.2.1 ∈ lw_all) (hd : decode cc pc = .ok (.getfield index, 3))
    (kk : W p l e R s m args below meth c H locs cells slots Q (F0 m (pc + 3) ls (.ref (G.2.1 k) :: rest))) : W p l e R s m args below meth c H locs cells slots Q (F0 m pc ls (.ref G.1 :: rest)) :=
  m_get E hw k hk hl hd (by rw [show mfv G st k = .ref (G.2.1 k) from if_neg hz]; exact kk)
theorem m_put (E : mE p c cc s m args G) (hw : mWd G H0 st H locs) (k : Nat) {index : Nat} {v : Int32} (hk : k < 43) (hz : mlen k = 0) (hfin : (TX1 k).2.2.2 = false) (hty : parseFieldDescriptor (TX1 k).2.2.1 = some .int) (hl : Cond.fieldLink RX1 index RX1 (TX1 k).2.1 (TX1 k).2.2.1 ∈ lw_all) (hd : decode cc pc = .ok (.putfield index, 3))
    (kk : ∀ (H : Heap) (locs : List Loc), mWd G H0 (mu st 0 k v) H locs → W p l e R s m args below meth c H locs cells slots Q (F0 m (pc + 3) ls rest)) : W p l e R s m args below meth c H locs cells slots Q (F0 m pc ls (.int v :: .ref G.1 :: rest)) := by
  obtain ⟨hx, hb, hts, hown, ⟨hS, hfc, kC, hkC, hkind⟩, -, -, hinj, hne⟩ := E
  have hap : ∀ x y, x < 43 → y < 43 → x ≠ y → G.2.2.2.1 x ≠ G.2.2.2.1 y := by
    intro x y hx hy hxy
    obtain ⟨_, _, _, fa, hia, ea⟩ := hS x hx
    obtain ⟨_, _, _, fb, hib, eb⟩ := hS y hy
    rw [← ea, ← eb]
    refine u_apart (u_lays hts in_X1 hx) (u_lays hts in_X1 hy) hia hib ?_
    rw [(State.fieldFound?_type hia (tyX1_ok x hx)).1, (State.fieldFound?_type hib (tyX1_ok y hy)).1]
    exact nmX1 x hx y hy hxy
  have hw0 := hw
  obtain ⟨⟨⟨cell, q1, q2, q3, q4⟩, ha⟩, -⟩ := hw
  obtain ⟨cf, kf, fi, f, hi, hsl⟩ := hS k hk
  have hlay := hts _ (in_X1 _ (u_in_lay hk))
  unfold u_lay at hlay
  rw [if_neg (by rw [hfin]; decide)] at hlay
  have hst := (u_facts hfc hkC (u_lays hts in_X1 hk) hi).1
  have h6 := u_store (v := .int v) hfc hkC hkind hlay hi hty rfl rfl
  refine W.putK hx hb (f := f) ⟨hown, hts _ hl, ⟨_, _, _, by rw [← TX1_own k hk]; exact hi⟩, hst⟩ (by rw [q2]; exact h6) q1 q3 (by rw [hsl]; exact k2_hasslot (q4 k hk)) rfl rfl hd fun H' e1 e2 e3 => ?_
  rw [hsl] at e1 ⊢
  refine kk H' _ (hw0.put ⟨t_OB.to (V := updV (mfv G st) k (.int v)) ⟨_, e1, q2, q3, t_set q4 hap hk _⟩ (fun j _ => ?_), fun j hj => ?_⟩ e2 e3 (mA_h G))
  · unfold updV
    split
    · rename_i h
      subst h
      rw [show mfv G (mu st 0 j v) j = .int (mu st 0 j v 0 j) from if_pos hz, mu_s]
    · rename_i h
      unfold mfv
      rw [mu_c h]
  · rw [e3 _ (hne j hj), ha j hj]
    congr 2
    funext i
    rw [mu_r (fun h => hj (by rw [h]; rfl))]
theorem m_ald (E : mE p c cc s m args G) (hw : mWd G H0 st H locs) (k : Nat) {i : Int32} (hz : ¬ mlen k = 0) (hbo : mbo k = false) (hin : vp_in i (mlen k)) (hd : decode cc pc = .ok (.iaload, 1))
    (kk : W p l e R s m args below meth c H locs cells slots Q (F0 m (pc + 1) ls (.int (st k i.toNatClampNeg) :: rest))) : W p l e R s m args below meth c H locs cells slots Q (F0 m pc ls (.int i :: .ref (G.2.1 k) :: rest)) := by
  obtain ⟨hx, hb, hts, hown, -, hI, -⟩ := E
  have ha := hw.1.2 k hz
  rw [hbo] at ha
  have hlt : i.toNatClampNeg < mlen k := Nat.not_le.mp fun q => hin (Or.inr q)
  exact W.iald (v := .int (st k i.toNatClampNeg)) hx hb ha (hI _ _) (fun q => by cases q) (by show ¬ (i < 0 ∨ (arrV _ _ _).slots.size ≤ _); rw [arrV_size]; exact hin) (by show (arrV _ _ _).slots[_]? = _; rw [arrV_read _ _ hlt]) rfl rfl hd kk
theorem m_zld (E : mE p c cc s m args G) (hw : mWd G H0 st H locs) (k : Nat) {i : Int32} (hz : ¬ mlen k = 0) (hbo : mbo k = true) (hin : vp_in i (mlen k)) (hd : decode cc pc = .ok (.baload, 1))
    (kk : W p l e R s m args below meth c H locs cells slots Q (F0 m (pc + 1) ls (.int (st k i.toNatClampNeg) :: rest))) : W p l e R s m args below meth c H locs cells slots Q (F0 m pc ls (.int i :: .ref (G.2.1 k) :: rest)) := by
  obtain ⟨hx, hb, hts, hown, -, -, hI, -⟩ := E
  have ha := hw.1.2 k hz
  rw [hbo] at ha
  have hlt : i.toNatClampNeg < mlen k := Nat.not_le.mp fun q => hin (Or.inr q)
  exact W.zald (v := .int (st k i.toNatClampNeg)) hx hb ha (hI _ _) (fun q => by cases q) (by show ¬ (i < 0 ∨ (arrV _ _ _).slots.size ≤ _); rw [arrV_size]; exact hin) (by show (arrV _ _ _).slots[_]? = _; rw [arrV_read _ _ hlt]) rfl rfl hd kk
theorem mW_ast {k i : Nat} {v : Int32} {H1 : Heap} (hz : ¬ mlen k = 0) (hK : mK G s) (h : mW G st H) (e1 : H1[G.2.1 k]? = some ((arrV (if mbo k then G.2.2.2.2.2 else G.2.2.2.2.1) (mlen k) (fun j => .int (st k j))).setSlot i (.int v))) (e3 : ∀ q : Nat, q ≠ G.2.1 k → H1[q]? = H[q]?) : mW G (mu st k i v) H1 := by
  refine ⟨(h.1.kept (e3 _ (fun q => hK.2.2.2.2 k hz q.symm))).to (fun j _ => ?_), fun j hj => ?_⟩
  · unfold mfv
    rw [mu_r (fun q => hz (by rw [← q]; rfl))]
  · by_cases hjk : j = k
    · subst hjk
      rw [e1, arrV_store]
      congr 2
      funext x
      unfold updV
      split
      · rename_i hx
        rw [hx, mu_s]
      · rename_i hx
        rw [mu_c hx]
    · rw [e3 _ (fun q => hjk (hK.2.2.2.1 j k hj hz q)), h.2 j hj]
      congr 2
      funext x
      rw [mu_r hjk]
theorem m_ast (E : mE p c cc s m args G) (hw : mWd G H0 st H locs) (k : Nat) {i v : Int32} (hz : ¬ mlen k = 0) (hbo : mbo k = false) (hin : vp_in i (mlen k)) (hd : decode cc pc = .ok (.iastore, 1))
    (kk : ∀ (H : Heap) (locs : List Loc), mWd G H0 (mu st k i.toNatClampNeg v) H locs → W p l e R s m args below meth c H locs cells slots Q (F0 m (pc + 1) ls rest)) : W p l e R s m args below meth c H locs cells slots Q (F0 m pc ls (.int v :: .int i :: .ref (G.2.1 k) :: rest)) := by
  obtain ⟨hx, hb, hts, hown, hK⟩ := E
  have ha := hw.1.2 k hz
  refine W.iast hx hb ha (by rw [hbo]; exact hK.2.1 _ _) (fun q => by cases q) (by show ¬ (i < 0 ∨ (arrV _ _ _).slots.size ≤ _); rw [arrV_size]; exact hin) rfl rfl hd fun H1 e z oq => ?_
  exact kk H1 _ (hw.put (mW_ast hz hK hw.1 e oq) z oq (mA_a G hz))
theorem m_zst (E : mE p c cc s m args G) (hw : mWd G H0 st H locs) (k : Nat) {i v : Int32} (hz : ¬ mlen k = 0) (hbo : mbo k = true) (hin : vp_in i (mlen k)) (hn : narrow .boolean (.int v) = .int v) (hd : decode cc pc = .ok (.bastore, 1))
    (kk : ∀ (H : Heap) (locs : List Loc), mWd G H0 (mu st k i.toNatClampNeg v) H locs → W p l e R s m args below meth c H locs cells slots Q (F0 m (pc + 1) ls rest)) : W p l e R s m args below meth c H locs cells slots Q (F0 m pc ls (.int v :: .int i :: .ref (G.2.1 k) :: rest)) := by
  obtain ⟨hx, hb, hts, hown, hK⟩ := E
  have ha := hw.1.2 k hz
  refine W.zast hx hb ha (by rw [hbo]; exact hK.2.2.1 _ _) (fun q => by cases q) (by show ¬ (i < 0 ∨ (arrV _ _ _).slots.size ≤ _); rw [arrV_size]; exact hin) rfl rfl hd fun H1 e z oq => ?_
  rw [hn] at e
  exact kk H1 _ (hw.put (mW_ast hz hK hw.1 e oq) z oq (mA_a G hz))
end MR
/-- room for a method with k levels of calls below it -/
abbrev mR (k : Nat) : Room := { frames := k, cells := 0, slots := 0, locals := 60 * k }
def mP (G : mG) (As : List Value) (st : mS) : Array Value → State → Prop := fun v U => v = (Value.ref G.1 :: As).toArray ∧ mK G U ∧ mW G st U.heap
def mQ (G : mG) (r : Option Value) (st' : mS) : Array Value → State → Outcome → State → Prop := fun _ s o t => o = .returned r ∧ mW G st' t.heap ∧ t.heap.size = s.heap.size ∧ ∀ q : Nat, ¬ mA G q → t.heap[q]? = s.heap[q]?
theorem mP.blind (G : mG) (As : List Value) (st : mS) : FrameBlind (mP G As st) := fun a U g mk h => ⟨h.1, h.2.1.moved (u := U) (U := U.calling g mk a) (Vm.Alike.refl U.vm), h.2.2⟩
section MC
variable {p : Program} {l : Launch} {e : Env} {R : Room} {s : State} {m : MethodId} {args : Array Value} {below : List Frame} {meth : Method} {c : Code} {H : Heap} {locs : List Loc} {Q : State → Prop}
variable {cc : ByteArray} {pc nL maxL index : Nat} {ls : Array Slot} {rest As st0 : List Value} {G : mG} {st st' : mS} {y : MethodName} {bytes : ByteArray} {ret : Option FieldType} {rm : Room} {H0 : Heap}
theorem mWd.after {t : State} {L : List Loc} (hw : mWd G H0 st H locs) (h1 : mW G st' t.heap) (h2 : t.heap.size = H.size) (h3 : ∀ q : Nat, ¬ mA G q → t.heap[q]? = H[q]?) (hL : ∀ q ∈ L, mA G q.base) : mWd G H0 st' t.heap (locs ++ L) := by
  refine ⟨h1, h2.trans hw.2.1, fun q hq => (h3 q hq).trans (hw.2.2.1 q hq), fun q hq => ?_⟩
  rcases List.mem_append.mp hq with h | h
  · exact hw.2.2.2 q h
  · exact hL q h
theorem m_call {r : Option Value} {a : Array Value} (hw : mWd G H0 st H locs) (hr : CallRun p l e R s m args below meth c H locs 0 0 0 0 (F0 m pc ls st0) rest (mQ G r st' a) (mA G))
    (kk : ∀ (H : Heap) (locs : List Loc), mWd G H0 st' H locs → W p l e R s m args below meth c H locs 0 0 Q (F0 m (pc + 3) ls (r.toList ++ rest))) : W p l e R s m args below meth c H locs 0 0 Q (F0 m pc ls st0) := by
  intro T hT X
  obtain ⟨v, s0, t, T', L, h0, X', hL, e1, ⟨hv, h1, h2, h3⟩, stp⟩ := hr T hT X
  cases hv
  rw [h0] at h2 h3
  obtain ⟨t2, a1, b1⟩ := kk t.heap (locs ++ L) (hw.after h1 h2 h3 hL) T' e1 X'
  exact ⟨t2, stp t2 a1, b1⟩
/-- a call of one of its own methods -/
theorem m_cV {r : Option Value} (E : mE p c cc s m args G) (hml : c.maxLocals = nL) (hls : ls.size = nL) (hw : mWd G H0 st H locs) (hM : Met l y (ws_ y bytes maxL ret) rm (mP G As st) (mQ G r st') 0 0 (mA G))
    (h1 : Cond.methodLink RX1 index y ∈ lw_all) (h2 : Cond.instanceMethod y ∈ lw_all) (h3 : Cond.selects RX1 y y ∈ lw_all) (h4 : Cond.code y bytes maxL ret ∈ lw_all)
    (hd : y.cls = RX1 ∧ y.cls ≠ "java/lang/invoke/MethodHandle" ∧ y.cls ≠ "java/lang/invoke/VarHandle" ∧ (parseMethodDescriptor y.desc).map (fun d => d.parameters.length) = some As.length)
    (hR : rm.frames + 1 ≤ R.frames ∧ 8 + (maxL + 11) + rm.locals ≤ R.locals) (hrc : rm.cells = 0) (hrs : rm.slots = 0) (hst : st0 = As.reverse ++ .ref G.1 :: rest) (hW : (rest.map fun v => v.category).sum ≤ 8) (hdg : decode cc pc = .ok (.invokevirtual index, 3))
    (kk : ∀ (H : Heap) (locs : List Loc), mWd G H0 st' H locs → W p l e R s m args below meth c H locs 0 0 Q (F0 m (pc + 3) ls (r.toList ++ rest))) : W p l e R s m args below meth c H locs 0 0 Q (F0 m pc ls st0) := by
  obtain ⟨hx, hb, hts, hown, hK⟩ := E
  obtain ⟨⟨cell, q1, q2, q3, q4⟩, -⟩ := hw.1
  refine m_call hw (W.runV (As := As) (rest := rest) (g := F0 m pc ls st0) (b := G.1) ⟨hx, hb, hml, hown, hts⟩ hM (cwV As.length hts (lw_V h1 h2 h3 q52 h4) rfl hrc hrs hd hR) ⟨mP.blind G As st, ⟨cell, q1, by rw [q3]; rfl, by rw [q2]; exact hK.1.2.1⟩, fun U hU hW => ⟨rfl, hK.moved hW.alike, by rw [hU]; exact hw.1⟩⟩ rfl rfl hls hst (lv_room hW) hdg ⟨Nat.zero_le _, Nat.zero_le _⟩) kk
/-- a call of a static method that answers by its arguments alone -/
theorem m_cS {r : Value} (E : mE p c cc s m args G) (hml : c.maxLocals = nL) (hls : ls.size = nL) (hM : Met l y (ws_ y bytes maxL ret) rm (fun v _ => v = As.toArray) (k2_QcV r) 0 0 (fun _ => False))
    (h1 : Cond.methodLink RX1 index y ∈ lw_all) (h2 : Cond.static y ∈ lw_all) (h4 : Cond.code y bytes maxL ret ∈ lw_all)
    (hd : y.cls = RX1 ∧ y.cls ≠ "java/lang/invoke/MethodHandle" ∧ y.cls ≠ "java/lang/invoke/VarHandle" ∧ (parseMethodDescriptor y.desc).map (fun d => d.parameters.length) = some As.length)
    (hR : rm.frames + 1 ≤ R.frames ∧ 8 + (maxL + 11) + rm.locals ≤ R.locals) (hrc : rm.cells = 0) (hrs : rm.slots = 0) (hst : st0 = As.reverse ++ rest) (hW : (rest.map fun v => v.category).sum ≤ 8) (hdg : decode cc pc = .ok (.invokestatic index, 3))
    (kk : W p l e R s m args below meth c H locs 0 0 Q (F0 m (pc + 3) ls (r :: rest))) : W p l e R s m args below meth c H locs 0 0 Q (F0 m pc ls st0) := by
  obtain ⟨hx, hb, hts, hown, hK⟩ := E
  have h3 : Cond.initialized y.cls ∈ lw_all := by rw [hd.1]; exact q52
  exact W.callV (W.runS (As := As) (rest := rest) (g := F0 m pc ls st0) ⟨hx, hb, hml, hown, hts⟩ hM (va_cwS As.length hts (lw_S h1 h2 h3 h4) rfl hrc hrs hd.2 hR) preEq rfl rfl hls hst (lv_room hW) hdg ⟨Nat.zero_le _, Nat.zero_le _⟩) kk
theorem m_head {Qc : Array Value → State → Outcome → State → Prop} (hy : plainName y.cls = true) (hyc : y.cls = RX1) (hn : (lg_sl (Value.ref G.1 :: As)).length ≤ maxL)
    (body : ∀ (p : Program) (e : Env) (s : State) (m : MethodId) (below : List Frame) (meth : Method) (c : Code), mE p c bytes s m (Value.ref G.1 :: As).toArray G → c.maxLocals = maxL → meth.sig.returnType = ret → meth.locks = false → mWd G s.heap st s.heap [] → ∀ ls : Array Slot, lv_has ls maxL (lv_args 0 (Value.ref G.1 :: As)) →
      W p l e rm s m (Value.ref G.1 :: As).toArray below meth c s.heap [] 0 0 (MQ below Qc (Value.ref G.1 :: As).toArray s 0 0 (mA G)) (F0 m 0 ls [])) : Met l y (ws_ y bytes maxL ret) rm (mP G As st) Qc 0 0 (mA G) := by
  refine Met.ofW (cc := bytes) (maxL := maxL) (ret := ret) hy rfl ?_
  intro p e s m args below meth c s₁ B hml hv
  obtain ⟨rfl, hK, hW⟩ := hv
  have hts := atoms_spec (ws := ws_ y bytes maxL ret) B.pre
  have hts : ∀ w ∈ lw_all, w.before _ s = true := fun w h => hts w (List.mem_cons_of_mem _ h)
  have hown : s.vm.findClass RX1 = some m.cls := hyc ▸ findClass_of_methodNamed B.named
  have hl := lv_entry (Value.ref G.1 :: As) (n := maxL) hn
  rw [lg_entry_eq]
  exact body p e s m below meth c ⟨B.exec, B.bytes, hts, hown, hK⟩ hml B.returns B.notSynchronized ⟨hW, rfl, fun _ _ => rfl, fun _ h => by cases h⟩ _ hl
theorem m_headS {Qc : Array Value → State → Outcome → State → Prop} (hy : plainName y.cls = true) (hyc : y.cls = RX1) (hn : (lg_sl As).length ≤ maxL)
    (body : ∀ (p : Program) (e : Env) (s : State) (m : MethodId) (below : List Frame) (meth : Method) (c : Code), p.tables.exec = Jvm.exec → c.code = bytes → (∀ w ∈ lw_all, w.before As.toArray s = true) → s.vm.findClass RX1 = some m.cls → c.maxLocals = maxL → meth.sig.returnType = ret → meth.locks = false → ∀ ls : Array Slot, lv_has ls maxL (lv_args 0 As) →
      W p l e rm s m As.toArray below meth c s.heap [] 0 0 (MQ below Qc As.toArray s 0 0 (fun _ => False)) (F0 m 0 ls [])) : Met l y (ws_ y bytes maxL ret) rm (fun v _ => v = As.toArray) Qc 0 0 (fun _ => False) := by
  refine Met.ofW (cc := bytes) (maxL := maxL) (ret := ret) hy rfl ?_
  intro p e s m args below meth c s₁ B hml hv
  subst hv
  have hts := atoms_spec (ws := ws_ y bytes maxL ret) B.pre
  have hts : ∀ w ∈ lw_all, w.before _ s = true := fun w h => hts w (List.mem_cons_of_mem _ h)
  have hown : s.vm.findClass RX1 = some m.cls := hyc ▸ findClass_of_methodNamed B.named
  have hl := lv_entry As (n := maxL) hn
  rw [lg_entry_eq]
  exact body p e s m below meth c B.exec B.bytes hts hown hml B.returns B.notSynchronized _ hl
theorem m_iret {v r : Int32} (E : mE p c cc s m args G) (hr : meth.sig.returnType = some .int) (hlk : meth.locks = false) (hw : mWd G s.heap st H locs) (hd : decode cc pc = .ok (.ireturn, 1)) (he : v = r) (hst : st = st') :
    W p l e R s m args below meth c H locs 0 0 (MQ below (mQ G (some (.int r)) st') args s 0 0 (mA G)) (F0 m pc ls [.int v]) := by
  subst he; subst hst
  exact W.iret E.1 E.2.1 hr (fun t ht hW => ⟨rfl, by rw [ht]; exact hw.1, by rw [ht]; exact hw.2.1, by rw [ht]; exact hw.2.2.1⟩) hw.2.2.2 hd hlk
theorem m_zret {v r : Int32} (E : mE p c cc s m args G) (hr : meth.sig.returnType = some .boolean) (hlk : meth.locks = false) (hw : mWd G s.heap st H locs) (hd : decode cc pc = .ok (.ireturn, 1)) (hn : narrow .boolean (.int v) = .int v) (he : v = r) (hst : st = st') :
    W p l e R s m args below meth c H locs 0 0 (MQ below (mQ G (some (.int r)) st') args s 0 0 (mA G)) (F0 m pc ls [.int v]) := by
  subst he; subst hst
  exact W.zret E.1 E.2.1 hr hn (fun t ht hW => ⟨rfl, by rw [ht]; exact hw.1, by rw [ht]; exact hw.2.1, by rw [ht]; exact hw.2.2.1⟩) hw.2.2.2 hd hlk
theorem m_lret {v r : Int64} (E : mE p c cc s m args G) (hr : meth.sig.returnType = some .long) (hlk : meth.locks = false) (hw : mWd G s.heap st H locs) (hd : decode cc pc = .ok (.lreturn, 1)) (he : v = r) (hst : st = st') :
    W p l e R s m args below meth c H locs 0 0 (MQ below (mQ G (some (.long r)) st') args s 0 0 (mA G)) (F0 m pc ls [.long v]) := by
  subst he; subst hst
  exact W.lret E.1 E.2.1 hr (fun t ht hW => ⟨rfl, by rw [ht]; exact hw.1, by rw [ht]; exact hw.2.1, by rw [ht]; exact hw.2.2.1⟩) hw.2.2.2 hd hlk
theorem m_vret (E : mE p c cc s m args G) (hr : meth.sig.returnType = none) (hlk : meth.locks = false) (hw : mWd G s.heap st H locs) (hd : decode cc pc = .ok (.return_, 1)) (hst : st = st') :
    W p l e R s m args below meth c H locs 0 0 (MQ below (mQ G none st') args s 0 0 (mA G)) (F0 m pc ls []) := by
  subst hst
  exact W.vret E.1 E.2.1 hr (fun t ht hW => ⟨rfl, by rw [ht]; exact hw.1, by rw [ht]; exact hw.2.1, by rw [ht]; exact hw.2.2.1⟩) hw.2.2.2 hd hlk
end MC
section MN
variable {p : Program} {l : Launch} {e : Env} {R : Room} {s : State} {m : MethodId} {args : Array Value} {below : List Frame} {meth : Method} {c : Code} {H : Heap} {locs : List Loc} {cells slots : Nat} {Q : State → Prop}
variable {cc : ByteArray} {pc nL maxL index : Nat} {ls : Array Slot} {rest As st0 : List Value} {G : mG} {st st' : mS} {y : MethodName} {bytes : ByteArray} {ret : Option FieldType} {rm : Room} {H0 : Heap}
theorem m_getv (E : mE p c cc s m args G) (hw : mWd G H0 st H locs) (k : Nat) {index : Nat} {v : Int32} (hk : k < 43) (hz : mlen k = 0) (hv : st 0 k = v) (hl : Cond.fieldLink RX1 index RX1 (TX1 k).2.1 (TX1 k).2.2.1 ∈ lw_all) (hd : decode cc pc = .ok (.getfield index, 3))
    (kk : W p l e R s m args below meth c H locs cells slots Q (F0 m (pc + 3) ls (.int v :: rest))) : W p l e R s m args below meth c H locs cells slots Q (F0 m pc ls (.ref G.1 :: rest)) :=
  m_geti E hw k hk hz hl hd (by rw [hv]; exact kk)
theorem m_aldN (E : mE p c cc s m args G) (hw : mWd G H0 st H locs) (k j : Nat) {v : Int32} (hz : ¬ mlen k = 0) (hbo : mbo k = false) (hj : j < mlen k) (hm : mlen k < 2 ^ 31) (hv : st k j = v) (hd : decode cc pc = .ok (.iaload, 1))
    (kk : W p l e R s m args below meth c H locs cells slots Q (F0 m (pc + 1) ls (.int v :: rest))) : W p l e R s m args below meth c H locs cells slots Q (F0 m pc ls (.int (nI j) :: .ref (G.2.1 k) :: rest)) :=
  m_ald E hw k hz hbo (vp_in_nI hj hm) hd (by rw [nI_clamp (Nat.lt_trans hj hm), hv]; exact kk)
theorem m_zldN (E : mE p c cc s m args G) (hw : mWd G H0 st H locs) (k j : Nat) {v : Int32} (hz : ¬ mlen k = 0) (hbo : mbo k = true) (hj : j < mlen k) (hm : mlen k < 2 ^ 31) (hv : st k j = v) (hd : decode cc pc = .ok (.baload, 1))
    (kk : W p l e R s m args below meth c H locs cells slots Q (F0 m (pc + 1) ls (.int v :: rest))) : W p l e R s m args below meth c H locs cells slots Q (F0 m pc ls (.int (nI j) :: .ref (G.2.1 k) :: rest)) :=
  m_zld E hw k hz hbo (vp_in_nI hj hm) hd (by rw [nI_clamp (Nat.lt_trans hj hm), hv]; exact kk)
theorem m_astN (E : mE p c cc s m args G) (hw : mWd G H0 st H locs) (k j : Nat) {v : Int32} (hz : ¬ mlen k = 0) (hbo : mbo k = false) (hj : j < mlen k) (hm : mlen k < 2 ^ 31) (hd : decode cc pc = .ok (.iastore, 1))
    (kk : ∀ (H : Heap) (locs : List Loc), mWd G H0 (mu st k j v) H locs → W p l e R s m args below meth c H locs cells slots Q (F0 m (pc + 1) ls rest)) : W p l e R s m args below meth c H locs cells slots Q (F0 m pc ls (.int v :: .int (nI j) :: .ref (G.2.1 k) :: rest)) :=
  m_ast E hw k hz hbo (vp_in_nI hj hm) hd (by rw [nI_clamp (Nat.lt_trans hj hm)]; exact kk)
theorem m_zstN (E : mE p c cc s m args G) (hw : mWd G H0 st H locs) (k j : Nat) {v : Int32} (hz : ¬ mlen k = 0) (hbo : mbo k = true) (hj : j < mlen k) (hm : mlen k < 2 ^ 31) (hn : narrow .boolean (.int v) = .int v) (hd : decode cc pc = .ok (.bastore, 1))
    (kk : ∀ (H : Heap) (locs : List Loc), mWd G H0 (mu st k j v) H locs → W p l e R s m args below meth c H locs cells slots Q (F0 m (pc + 1) ls rest)) : W p l e R s m args below meth c H locs cells slots Q (F0 m pc ls (.int v :: .int (nI j) :: .ref (G.2.1 k) :: rest)) :=
  m_zst E hw k hz hbo (vp_in_nI hj hm) hn hd (by rw [nI_clamp (Nat.lt_trans hj hm)]; exact kk)
theorem m_cVi {r : Value} (E : mE p c cc s m args G) (hml : c.maxLocals = nL) (hls : ls.size = nL) (hw : mWd G H0 st H locs) (hM : Met l y (ws_ y bytes maxL ret) rm (mP G As st) (mQ G (some r) st') 0 0 (mA G))
    (h1 : Cond.methodLink RX1 index y ∈ lw_all) (h2 : Cond.instanceMethod y ∈ lw_all) (h3 : Cond.selects RX1 y y ∈ lw_all) (h4 : Cond.code y bytes maxL ret ∈ lw_all)
    (hd : y.cls = RX1 ∧ y.cls ≠ "java/lang/invoke/MethodHandle" ∧ y.cls ≠ "java/lang/invoke/VarHandle" ∧ (parseMethodDescriptor y.desc).map (fun d => d.parameters.length) = some As.length)
    (hR : rm.frames + 1 ≤ R.frames ∧ 8 + (maxL + 11) + rm.locals ≤ R.locals) (hrc : rm.cells = 0) (hrs : rm.slots = 0) (hst : st0 = As.reverse ++ .ref G.1 :: rest) (hW : (rest.map fun v => v.category).sum ≤ 8) (hdg : decode cc pc = .ok (.invokevirtual index, 3))
    (kk : ∀ (H : Heap) (locs : List Loc), mWd G H0 st' H locs → W p l e R s m args below meth c H locs 0 0 Q (F0 m (pc + 3) ls (r :: rest))) : W p l e R s m args below meth c H locs 0 0 Q (F0 m pc ls st0) :=
  m_cV E hml hls hw hM h1 h2 h3 h4 hd hR hrc hrs hst hW hdg kk
theorem m_cVv (E : mE p c cc s m args G) (hml : c.maxLocals = nL) (hls : ls.size = nL) (hw : mWd G H0 st H locs) (hM : Met l y (ws_ y bytes maxL ret) rm (mP G As st) (mQ G none st') 0 0 (mA G))
    (h1 : Cond.methodLink RX1 index y ∈ lw_all) (h2 : Cond.instanceMethod y ∈ lw_all) (h3 : Cond.selects RX1 y y ∈ lw_all) (h4 : Cond.code y bytes maxL ret ∈ lw_all)
    (hd : y.cls = RX1 ∧ y.cls ≠ "java/lang/invoke/MethodHandle" ∧ y.cls ≠ "java/lang/invoke/VarHandle" ∧ (parseMethodDescriptor y.desc).map (fun d => d.parameters.length) = some As.length)
    (hR : rm.frames + 1 ≤ R.frames ∧ 8 + (maxL + 11) + rm.locals ≤ R.locals) (hrc : rm.cells = 0) (hrs : rm.slots = 0) (hst : st0 = As.reverse ++ .ref G.1 :: rest) (hW : (rest.map fun v => v.category).sum ≤ 8) (hdg : decode cc pc = .ok (.invokevirtual index, 3))
    (kk : ∀ (H : Heap) (locs : List Loc), mWd G H0 st' H locs → W p l e R s m args below meth c H locs 0 0 Q (F0 m (pc + 3) ls rest)) : W p l e R s m args below meth c H locs 0 0 Q (F0 m pc ls st0) :=
  m_cV E hml hls hw hM h1 h2 h3 h4 hd hR hrc hrs hst hW hdg kk
/-- a static call out of a static method -/
theorem m_cSS {r : Value} (hx : p.tables.exec = Jvm.exec) (hb : c.code = cc) (hts : ∀ w ∈ lw_all, w.before args s = true) (hown : s.vm.findClass RX1 = some m.cls) (hml : c.maxLocals = nL) (hls : ls.size = nL) (hM : Met l y (ws_ y bytes maxL ret) rm (fun v _ => v = As.toArray) (k2_QcV r) 0 0 (fun _ => False))
    (h1 : Cond.methodLink RX1 index y ∈ lw_all) (h2 : Cond.static y ∈ lw_all) (h4 : Cond.code y bytes maxL ret ∈ lw_all)
    (hd : y.cls = RX1 ∧ y.cls ≠ "java/lang/invoke/MethodHandle" ∧ y.cls ≠ "java/lang/invoke/VarHandle" ∧ (parseMethodDescriptor y.desc).map (fun d => d.parameters.length) = some As.length)
    (hR : rm.frames + 1 ≤ R.frames ∧ 8 + (maxL + 11) + rm.locals ≤ R.locals) (hrc : rm.cells = 0) (hrs : rm.slots = 0) (hst : st0 = As.reverse ++ rest) (hW : (rest.map fun v => v.category).sum ≤ 8) (hdg : decode cc pc = .ok (.invokestatic index, 3))
    (kk : W p l e R s m args below meth c H locs 0 0 Q (F0 m (pc + 3) ls (r :: rest))) : W p l e R s m args below meth c H locs 0 0 Q (F0 m pc ls st0) := by
  have h3 : Cond.initialized y.cls ∈ lw_all := by rw [hd.1]; exact q52
  exact W.callV (W.runS (As := As) (rest := rest) (g := F0 m pc ls st0) ⟨hx, hb, hml, hown, hts⟩ hM (va_cwS As.length hts (lw_S h1 h2 h3 h4) rfl hrc hrs hd.2 hR) preEq rfl rfl hls hst (lv_room hW) hdg ⟨Nat.zero_le _, Nat.zero_le _⟩) kk
theorem m_zretS {v r : Int32} (hx : p.tables.exec = Jvm.exec) (hb : c.code = cc) (hr : meth.sig.returnType = some .boolean) (hlk : meth.locks = false) (hd : decode cc pc = .ok (.ireturn, 1)) (hn : narrow .boolean (.int v) = .int v) (he : v = r) :
    W p l e R s m args below meth c s.heap [] 0 0 (MQ below (k2_QcV (.int r)) args s 0 0 (fun _ => False)) (F0 m pc ls [.int v]) := by
  subst he
  exact W.zret hx hb hr hn (fun t ht hW => ⟨rfl, ht⟩) (fun _ h => by cases h) hd hlk
theorem m_lretS {v r : Int64} (hx : p.tables.exec = Jvm.exec) (hb : c.code = cc) (hr : meth.sig.returnType = some .long) (hlk : meth.locks = false) (hd : decode cc pc = .ok (.lreturn, 1)) (he : v = r) :
    W p l e R s m args below meth c s.heap [] 0 0 (MQ below (k2_QcV (.long r)) args s 0 0 (fun _ => False)) (F0 m pc ls [.long v]) := by
  subst he
  exact W.lret hx hb hr (fun t ht hW => ⟨rfl, ht⟩) (fun _ h => by cases h) hd hlk
theorem m_iretS {v r : Int32} (hx : p.tables.exec = Jvm.exec) (hb : c.code = cc) (hr : meth.sig.returnType = some .int) (hlk : meth.locks = false) (hd : decode cc pc = .ok (.ireturn, 1)) (he : v = r) :
    W p l e R s m args below meth c s.heap [] 0 0 (MQ below (k2_QcV (.int r)) args s 0 0 (fun _ => False)) (F0 m pc ls [.int v]) := by
  subst he
  exact W.iret hx hb hr (fun t ht hW => ⟨rfl, ht⟩) (fun _ h => by cases h) hd hlk
theorem m_to {r r' : Option Value} {st'' : mS} {g : JFrame} (hr : r = r') (hs : st' = st'') (k : W p l e R s m args below meth c H locs cells slots (MQ below (mQ G r st') args s cells slots (mA G)) g) : W p l e R s m args below meth c H locs cells slots (MQ below (mQ G r' st'') args s cells slots (mA G)) g := by
  subst hr; subst hs
  exact k
end MN
