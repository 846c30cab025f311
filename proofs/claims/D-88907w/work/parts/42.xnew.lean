/-! new roles; fields of one name in a class and its heir; constructors -/
section XW2
variable {D : xD} {st st' : mS} {g g' : xG} {V V' : xV}
/-- the addresses that a role's picture shows -/
def xDg (st : mS) (i j i' j' : Nat) : Prop := match i with
  | 0 => i' = 0 ∨ (j = 2 ∧ i' = 1 ∧ j' = 0) ∨ (j = 17 ∧ i' = 1 ∧ j' = 1) ∨ (j = 18 ∧ i' = 1 ∧ j' = 2) ∨ (j = 19 ∧ i' = 8 ∧ j' < 4)
  | 1 => (i' = 1 ∧ j' = j) ∨ (i' = 2 + j ∧ j' < cnt st (xcn j))
  | 2 => i' = 0 ∧ j' = 0
  | 4 => (i' = 0 ∧ j' = 0) ∨ ((i' = 5 ∨ i' = 6 ∨ i' = 7) ∧ j' = j)
  | _ => False
theorem xSh.sameG {i j : Nat} {e : va_E} (hj : i = 8 → j < 4) (hS : ∀ j, j < 4 → -1 ≤ (st 8 j).toInt ∧ (st 8 j).toInt ≤ 32) (hd : ∀ k q, xDep i j k q → st' k q = st k q) (hg : ∀ i' j', xDg st i j i' j' → g' i' j' = g i' j') (h9 : i = 4 → g' 9 j = g 9 j) (h10 : i = 6 → ∀ c, c < 8 → g' (10 + j) c = g (10 + j) c) (h : xSh D st g i j e) : xSh D st' g' i j e := by
  match i, h with
  | 0, h =>
    show xSh0 D st' g' j e
    have h : xSh0 D st g j e := h
    have hg0 : ∀ j', g' 0 j' = g 0 j' := fun j' => hg 0 j' (Or.inl rfl)
    unfold xSh0 at h ⊢
    split at h
    · obtain ⟨b7, b8, b9, rfl⟩ := h
      refine ⟨b7, b8, b9, ?_⟩
      have hq : ∀ q, (q = 0 ∨ q = 42 ∨ q = 12 ∨ q = 14 ∨ q = 24 ∨ q = 25 ∨ q = 27) → st' 0 q = st 0 q := fun q hq => hd 0 q (Or.inl ⟨rfl, rfl, hq⟩)
      unfold xXE
      rw [hq 0 (by simp), hq 42 (by simp), hq 12 (by simp), hq 14 (by simp), hq 24 (by simp), hq 25 (by simp), hq 27 (by simp)]
      simp only [hg0]
    · obtain ⟨mc, rfl⟩ := h
      exact ⟨mc, by rw [hg 1 0 (Or.inr (Or.inl ⟨rfl, rfl, rfl⟩))]; unfold cnt; rw [hd 0 1 (Or.inr (Or.inl ⟨rfl, rfl, rfl⟩))]⟩
    · obtain ⟨mc, rfl⟩ := h
      exact ⟨mc, by rw [hg 1 1 (Or.inr (Or.inr (Or.inl ⟨rfl, rfl, rfl⟩)))]; unfold cnt; rw [hd 0 30 (Or.inr (Or.inr (Or.inl ⟨rfl, rfl, rfl⟩)))]⟩
    · obtain ⟨mc, rfl⟩ := h
      exact ⟨mc, by rw [hg 1 2 (Or.inr (Or.inr (Or.inr (Or.inl ⟨rfl, rfl, rfl⟩))))]; unfold cnt; rw [hd 0 35 (Or.inr (Or.inr (Or.inr (Or.inl ⟨rfl, rfl, rfl⟩))))]⟩
    · obtain ⟨f, h1, h2⟩ := h
      exact ⟨f, h1, fun i hi => by rw [h2 i hi, hd 13 i (by unfold xDep; simp [hi])]⟩
    · exact h
    · exact h
    · obtain ⟨f, h1, h2⟩ := h
      exact ⟨f, h1, fun i hi => by rw [h2 i hi, hd 26 i (by unfold xDep; simp [hi])]⟩
    · obtain ⟨f, h1, h2⟩ := h
      exact ⟨f, h1, fun i hi => by rw [h2 i hi, hd 28 i (by unfold xDep; simp [hi])]⟩
    · obtain ⟨f, h1, h2⟩ := h
      exact ⟨f, h1, fun i hi => by rw [h2 i hi, hd 29 i (by unfold xDep; simp [hi])]⟩
    · obtain ⟨f, h1, h2⟩ := h
      exact ⟨f, h1, fun i hi => by rw [h2 i hi, hd 8 i (by unfold xDep; simp [hi]), hg 8 i (Or.inr (Or.inr (Or.inr (Or.inr ⟨rfl, rfl, hi⟩))))]⟩
    · exact h.elim
  | 1, h =>
    obtain ⟨cap, f, h1, h2, h3, h4⟩ := h
    have e0 : cnt st' (xcn j) = cnt st (xcn j) := by unfold cnt; rw [hd 0 (xcn j) ⟨rfl, rfl⟩]
    exact ⟨cap, f, h1, by rw [hg 1 j (Or.inl ⟨rfl, rfl⟩)]; exact h2, by rw [e0]; exact h3, fun q hq => by
      rw [e0] at hq
      rw [hg (2 + j) q (Or.inr ⟨rfl, hq⟩)]; exact h4 q hq⟩
  | 2, h =>
    show e = _
    rw [hd 5 j (by unfold xDep; simp), hd 2 j (by unfold xDep; simp), hd 3 j (by unfold xDep; simp), hd 4 j (by unfold xDep; simp), hd 6 j (by unfold xDep; simp), hd 7 j (by unfold xDep; simp), hg 0 0 ⟨rfl, rfl⟩]
    exact h
  | 3, h =>
    obtain ⟨a, b, c, d, h1, h2⟩ := h
    refine ⟨a, b, c, d, ?_, ?_⟩
    · rw [hd 31 j (by unfold xDep; simp), hd 32 j (by unfold xDep; simp), hd 33 j (by unfold xDep; simp)]
      exact h1
    · rw [hd 33 j (by unfold xDep; simp), hd 34 (4 * j) (by unfold xDep; simp), hd 34 (4 * j + 1) (by unfold xDep; simp), hd 34 (4 * j + 2) (by unfold xDep; simp), hd 34 (4 * j + 3) (by unfold xDep; simp)]
      exact h2
  | 4, h =>
    show e = _
    rw [hd 37 j (by unfold xDep; simp), hd 36 j (by unfold xDep; simp), hg 5 j (Or.inr ⟨by simp, rfl⟩), hg 6 j (Or.inr ⟨by simp, rfl⟩), hg 7 j (Or.inr ⟨by simp, rfl⟩), hg 0 0 (Or.inl ⟨rfl, rfl⟩), h9 rfl]
    exact h
  | 5, h =>
    obtain ⟨f, h1, h2⟩ := h
    exact ⟨f, h1, fun i hi => by rw [h2 i hi]; exact (hd 40 (8 * j + i) ⟨rfl, by omega, by omega⟩).symm⟩
  | 6, h =>
    obtain ⟨f, h1, h2⟩ := h
    exact ⟨f, h1, fun i hi => by rw [h2 i hi]; show nI _ = nI _; rw [h10 rfl i hi]⟩
  | 7, h =>
    obtain ⟨f, h1, h2⟩ := h
    exact ⟨f, h1, fun i hi => by rw [h2 i hi]; exact (hd 41 (8 * j + i) ⟨rfl, by omega, by omega⟩).symm⟩
  | 8, h =>
    obtain ⟨f, h1, h2⟩ := h
    have hj := hj rfl
    have hs := (hS j hj).2
    have e8 := hd 8 j (by unfold xDep; simp)
    have e9 := hd 9 j (by unfold xDep; simp)
    have hn : (st 8 j).toNatClampNeg ≤ 32 := by show (st 8 j).toInt.toNat ≤ 32; omega
    exact ⟨f, by rw [e8, e9]; exact h1, fun q hq => by
      rw [e8] at hq
      rw [h2 q hq]
      exact (hd 10 (32 * j + q) (Or.inr ⟨rfl, by omega, by rw [if_pos hj]; omega⟩)).symm⟩
/-- roles N new or changed, the others as they were -/
theorem xR.gen (h : xR D st g V) (N : List (Nat × Nat)) (hold : ∀ i j, xVal st' i j → (i, j) ∉ N → xVal st i j ∧ g' i j = g i j ∧ V' (g i j) = V (g i j) ∧ ∀ e, xSh D st g i j e → xSh D st' g' i j e)
    (hnew : ∀ r ∈ N, ∃ e, V' (g' r.1 r.2) = some e ∧ xSh D st' g' r.1 r.2 e) (hi1 : ∀ r ∈ N, ∀ i j, xVal st' i j → (i, j) ∉ N → g' r.1 r.2 = g i j → r.1 = 1 ∧ i = 1 ∧ g i j = D.1.2.1) (hi2 : ∀ r ∈ N, ∀ r2 ∈ N, g' r.1 r.2 = g' r2.1 r2.2 → r = r2) (hE : V' D.1.2.1 = V D.1.2.1) (hor : xOr st' g') : xR D st' g' V' := by
  refine ⟨fun i j hv => ?_, ⟨fun i j i' j' h1 h2 e => ?_, by rw [hE]; exact h.2.1.2⟩, hor⟩
  · by_cases hm : (i, j) ∈ N
    · exact hnew _ hm
    · obtain ⟨a1, a2, a3, a4⟩ := hold i j hv hm
      obtain ⟨e, he, hs⟩ := h.1 i j a1
      exact ⟨e, by rw [a2, a3]; exact he, a4 e hs⟩
  · by_cases hm : (i, j) ∈ N
    · by_cases hm' : (i', j') ∈ N
      · have := hi2 _ hm _ hm' e
        left
        simp only [Prod.mk.injEq] at this
        exact this
      · obtain ⟨a1, a2, -⟩ := hold i' j' h2 hm'
        have q := hi1 _ hm i' j' h2 hm' (by rw [← a2]; exact e)
        exact Or.inr ⟨q.1, q.2.1, by rw [e, a2]; exact q.2.2⟩
    · obtain ⟨a1, a2, -⟩ := hold i j h1 hm
      by_cases hm' : (i', j') ∈ N
      · have q := hi1 _ hm' i j h1 hm (by rw [← a2]; exact e.symm)
        exact Or.inr ⟨q.2.1, q.1, by rw [a2]; exact q.2.2⟩
      · obtain ⟨b1, b2, -⟩ := hold i' j' h2 hm'
        rw [a2, b2] at e
        rw [a2]
        exact h.2.1.1 i j i' j' a1 b1 e
end XW2
section XR2
variable {p : Program} {l : Launch} {e : Env} {R : Room} {s : State} {m : MethodId} {args : Array Value} {below : List Frame} {meth : Method} {c : Code} {H : Heap} {locs : List Loc} {cells slots : Nat} {Q : State → Prop}
variable {cc : ByteArray} {pc : Nat} {ls : Array Slot} {rest : List Value} {D : xD} {A : Nat → Prop} {V : xV} {own : String} {a : Nat}
theorem x_set2 {C : String} {T : u_T} {N : Nat} {cC : ClassId} {iS : Nat → Nat} (ty : Nat → FieldType) (hts : ∀ w ∈ lw_all, w.before args s = true) (hin : ∀ w ∈ u_ws C T N, w ∈ lw_all) (hty : ∀ k, k < N → parseFieldDescriptor (T k).2.2.1 = some (ty k)) (hKn : u_Kn s C T N cC iS) {cell : Cell} {fs : List Value} {k j1 j2 : Nat} {v : Value} (hk : k < N) (hl : k < fs.length) (hl1 : j1 < fs.length) (hl2 : j2 < fs.length) (n1 : j1 ≠ k) (n2 : j2 ≠ k) (q4 : ∀ j, j < N → cell.slots[iS j]? = some (vp_V fs j)) (ho : ∀ j, j < N → j ≠ k → j ≠ j1 → j ≠ j2 → (T j).2.1 ≠ (T k).2.1 ∨ vp_V fs j = v) :
    ∃ w1 w2, ∀ j, j < N → (cell.setSlot (iS k) v).slots[iS j]? = some (vp_V (((fs.set k v).set j1 w1).set j2 w2) j) := by
  refine ⟨if iS j1 = iS k then v else vp_V fs j1, if iS j2 = iS k then v else vp_V fs j2, fun j hj => ?_⟩
  by_cases hj2 : j = j2
  · subst hj2
    have e1 : vp_V (((fs.set k v).set j1 (if iS j1 = iS k then v else vp_V fs j1)).set j (if iS j = iS k then v else vp_V fs j)) j = if iS j = iS k then v else vp_V fs j := by simp [vp_V, List.getD, hl2]
    rw [e1]
    by_cases hs : iS j = iS k
    · rw [if_pos hs, hs, Cell.slots_setSlot_self _ (k2_hasslot (q4 k hk))]
    · rw [if_neg hs, slot_ne _ _ (Ne.symm hs), q4 j hj]
  · have e0 : vp_V (((fs.set k v).set j1 (if iS j1 = iS k then v else vp_V fs j1)).set j2 (if iS j2 = iS k then v else vp_V fs j2)) j = vp_V ((fs.set k v).set j1 (if iS j1 = iS k then v else vp_V fs j1)) j := by simp [vp_V, List.getD, List.getElem?_set_ne (Ne.symm hj2)]
    rw [e0]
    by_cases hj1 : j = j1
    · subst hj1
      have e1 : vp_V ((fs.set k v).set j (if iS j = iS k then v else vp_V fs j)) j = if iS j = iS k then v else vp_V fs j := by simp [vp_V, List.getD, hl1]
      rw [e1]
      by_cases hs : iS j = iS k
      · rw [if_pos hs, hs, Cell.slots_setSlot_self _ (k2_hasslot (q4 k hk))]
      · rw [if_neg hs, slot_ne _ _ (Ne.symm hs), q4 j hj]
    · have e2 : vp_V ((fs.set k v).set j1 (if iS j1 = iS k then v else vp_V fs j1)) j = vp_V (fs.set k v) j := by simp [vp_V, List.getD, List.getElem?_set_ne (Ne.symm hj1)]
      rw [e2]
      by_cases hjk : j = k
      · subst hjk
        rw [Cell.slots_setSlot_self _ (k2_hasslot (q4 j hj))]
        simp [vp_V, List.getD, hl]
      · have e1 : vp_V (fs.set k v) j = vp_V fs j := by simp [vp_V, List.getD, List.getElem?_set_ne (Ne.symm hjk)]
        rw [e1]
        by_cases hs : iS j = iS k
        · rcases ho j hj hjk hj1 hj2 with h | h
          · exact absurd hs (x_slot ty hts hin hty hKn hj hk h)
          · rw [hs, Cell.slots_setSlot_self _ (k2_hasslot (q4 k hk)), h]
        · rw [slot_ne _ _ (Ne.symm hs), q4 j hj]
/-- putfield of a final field where heirs or forebears have a field of its name -/
theorem x_putF2 (E : xE own p c cc s m args D A) (hw : xWd D A s V H locs) {ref C : String} {T : u_T} {N ci index : Nat} {fs : List Value} {v : Value} {ty : FieldType} (k j1 j2 : Nat) (ha : V a = some (.inr (ci, fs))) (hc : xCl[ci]? = some (C, T, N)) (hin : ∀ w ∈ u_ws C T N, w ∈ lw_all) (ty0 : Nat → FieldType) (hty : ∀ k, k < N → parseFieldDescriptor (T k).2.2.1 = some (ty0 k)) (hk : k < N) (hl : Cond.fieldLink own index ref (T k).2.1 (T k).2.2.1 ∈ lw_all) (hsame : ∀ x, s.fieldFound? (T k).1 (T k).2.1 (T k).2.2.1 = some x → s.fieldFound? ref (T k).2.1 (T k).2.2.1 = some x) (hfin : (T k).2.2.2 = true) (hin2 : meth.name = "<init>") (hdecl : (T k).1 = own)
    (hd0 : parseFieldDescriptor (T k).2.2.1 = some ty) (hn : narrow ty v = v) (hfit : fits ty v = true) (hlen : k < fs.length) (hl1 : j1 < fs.length) (hl2 : j2 < fs.length) (n1 : j1 ≠ k) (n2 : j2 ≠ k) (ho : ∀ j, j < N → j ≠ k → j ≠ j1 → j ≠ j2 → (T j).2.1 ≠ (T k).2.1 ∨ vp_V fs j = v) (hd : decode cc pc = .ok (.putfield index, 3))
    (kk : ∀ (w1 w2 : Value) (V1 : xV) (H : Heap) (locs : List Loc), V1 = xu V a (.inr (ci, ((fs.set k v).set j1 w1).set j2 w2)) → xWd D A s V1 H locs → W p l e R s m args below meth c H locs cells slots Q (F0 m (pc + 3) ls rest)) : W p l e R s m args below meth c H locs cells slots Q (F0 m pc ls (v :: .ref a :: rest)) := by
  obtain ⟨hx, hb, hts, hown, hK, hz0⟩ := E
  obtain ⟨r, h1, cell, q1, q2, q3, q4⟩ := (hw.1.2 a _ ha).2
  have hr : r = (C, T, N) := Option.some.inj (h1.symm.trans hc)
  subst hr
  have hKn := hK.1.1 ci _ hc
  obtain ⟨hS, hfc, kC, hkC, hkind⟩ := hK.1.1 ci _ hc
  obtain ⟨cf, kf, fi, f, hi, hsl⟩ := hS k hk
  have hlay := hts _ (hin _ (u_in_lay hk))
  unfold u_lay at hlay
  rw [if_pos hfin] at hlay
  have hst := (u_facts hfc hkC (u_lays hts hin hk) hi).1
  have hcf : m.cls = cf := by
    obtain ⟨_, _, c', _, _, _, -, -, hf', -, -, -, hown2, -⟩ := Cond.laysFinal_spec hlay
    have e1 : c' = cf := by have := hi.symm.trans hf'; simp at this; exact this.1.symm
    rw [hdecl] at hown2
    rw [← e1]; exact Option.some.inj (hown.symm.trans hown2)
  have h6 := u_fits hfc hkC hkind (Or.inr hlay) hi hd0 hn hfit
  refine W.putFinK hx hb hown (hts _ hl) (hsame _ hi) hst hcf hin2 (by rw [q2]; exact h6) q1 q3 (by rw [hsl]; exact k2_hasslot (q4 k hk)) rfl rfl hd fun H' e1 e2 e3 => ?_
  rw [hsl] at e1 ⊢
  obtain ⟨w1, w2, hs⟩ := x_set2 ty0 hts hin hty hKn hk hlen hl1 hl2 n1 n2 q4 ho
  exact kk w1 w2 _ H' _ rfl (hw.put ha xEm.obj ⟨_, hc, _, e1, q2, q3, hs⟩ e2 e3)
end XR2
