/-! what the component's cells show of the reference's memory -/
abbrev xG : Type := Nat → Nat → Nat
/-- an int[] of n places that holds f -/
def xIA (D : xD) (n : Nat) (f : Nat → Int32) (e : va_E) : Prop := ∃ h : Nat → Int32, e = .inl (D.2.1, n, .inl h) ∧ ∀ i, i < n → h i = f i
/-- a road of kind k -/
def xRoE (k a b d sh wt : Int32) (x : Nat) : va_E :=
  if k = 0 then .inr (1, [.int a, .int b, .int d, .int sh, .ref x]) else if k = 1 then .inr (2, [.int a, .int b, .int d, .int sh, .ref x, .ref x]) else .inr (3, [.int a, .int b, .int d, .int sh, .ref x, .int wt, .ref x])
/-- a car of kind k -/
def xCaE (k nu s0 : Int32) (t o c ck x : Nat) : va_E :=
  if k = 0 then .inr (5, [.int nu, .int s0, .ref t, .ref o, .ref c, .int (nI ck), .ref x]) else if k = 1 then .inr (6, [.int nu, .int s0, .ref t, .ref o, .ref c, .int (nI ck), .ref x, .ref x]) else .inr (7, [.int nu, .int s0, .ref t, .ref o, .ref c, .int (nI ck), .ref x, .ref x, .ref x])
def xcn (j : Nat) : Nat := if j = 0 then 1 else if j = 1 then 30 else 35
/-- the component itself -/
def xXE (st : mS) (g : xG) (b7 : Int32) (b8 : Int64) (b9 : Int32) : va_E :=
  .inr (0, [.int (st 0 0), .int (st 0 42), .ref (g 0 2), .ref (g 0 3), .int (st 0 12), .ref (g 0 5), .ref (g 0 6), .int b7, .long b8, .int b9, .int (st 0 14), .ref (g 0 11), .int (st 0 24), .int (st 0 25), .ref (g 0 14), .ref (g 0 15), .int (st 0 27), .ref (g 0 17), .ref (g 0 18), .ref (g 0 19)])
/-- a sheet's cells: its lane w -/
def xShE (D : xD) (w : Int32) (n : Nat) (h : Nat → Int32) : va_E := if w = 0 then .inl (D.2.2.1, n, .inl h) else if w = 1 then .inl (D.2.2.2.1, n, .inl h) else .inl (D.2.1, n, .inl h)
/-- roles: 0 0 the component, 0 k its field k; 1 j a list's array; 2 j a road, 3 j a control, 4 j a car, 5 j 6 j 7 j its times, orders, claims; 8 j a sheet. Numbers: 9 j a car's clocked, 10 + j its orders -/
def xVal (st : mS) (i j : Nat) : Prop :=
  (i = 0 ∧ (j = 0 ∨ j = 2 ∨ j = 3 ∨ j = 5 ∨ j = 6 ∨ j = 11 ∨ j = 14 ∨ j = 15 ∨ j = 17 ∨ j = 18 ∨ j = 19)) ∨ (i = 1 ∧ j < 3) ∨ (i = 2 ∧ j < cnt st 1) ∨ (i = 3 ∧ j < cnt st 30) ∨ ((i = 4 ∨ i = 5 ∨ i = 6 ∨ i = 7) ∧ j < cnt st 35) ∨ (i = 8 ∧ j < 4 ∧ 0 ≤ (st 8 j).toInt)
def xSh0 (D : xD) (st : mS) (g : xG) (j : Nat) (e : va_E) : Prop := match j with
  | 0 => ∃ b7 b8 b9, e = xXE st g b7 b8 b9
  | 2 => ∃ mc : Int32, e = .inr (8, [.int mc, .ref (g 1 0), .int (nI (cnt st 1))])
  | 17 => ∃ mc : Int32, e = .inr (8, [.int mc, .ref (g 1 1), .int (nI (cnt st 30))])
  | 18 => ∃ mc : Int32, e = .inr (8, [.int mc, .ref (g 1 2), .int (nI (cnt st 35))])
  | 3 => xIA D 8 (st 13) e
  | 5 => ∃ h : Nat → Int32, e = .inl (D.2.1, 10, .inl h)
  | 6 => ∃ h : Nat → Int32, e = .inl (D.2.1, 10, .inl h)
  | 11 => xIA D 10 (st 26) e
  | 14 => xIA D 8 (st 28) e
  | 15 => xIA D 8 (st 29) e
  | 19 => ∃ h : Nat → Option Nat, e = .inl (D.2.2.2.2, 4, .inr (.inr (.inr (.inr h)))) ∧ ∀ k, k < 4 → h k = if (st 8 k).toInt < 0 then none else some (g 8 k)
  | _ => False
def xSh (D : xD) (st : mS) (g : xG) (i j : Nat) (e : va_E) : Prop := match i with
  | 0 => xSh0 D st g j e
  | 1 => ∃ (cap : Nat) (h : Nat → Option Nat), e = .inl (D.2.2.2.2, cap, .inr (.inr (.inr (.inr h)))) ∧ (cap = 0 ∧ g 1 j = D.1.2.1 ∨ cap = 10 ∨ cap = 15 ∨ cap = 22) ∧ cnt st (xcn j) ≤ cap ∧ ∀ q, q < cnt st (xcn j) → h q = some (g (2 + j) q)
  | 2 => e = xRoE (st 5 j) (st 2 j) (st 3 j) (st 4 j) (st 6 j) (st 7 j) (g 0 0)
  | 3 => ∃ a b c d : Int32, e = .inr (4, [.int (st 31 j), .int (st 32 j), .int (st 33 j), .int a, .int b, .int c, .int d]) ∧ (¬ st 33 j = 0 → a = st 34 (4 * j) ∧ b = st 34 (4 * j + 1) ∧ c = st 34 (4 * j + 2) ∧ d = st 34 (4 * j + 3))
  | 4 => e = xCaE (st 37 j) (nI j) (st 36 j) (g 5 j) (g 6 j) (g 7 j) (g 9 j) (g 0 0)
  | 5 => xIA D 8 (fun c => st 40 (8 * j + c)) e
  | 6 => xIA D 8 (fun c => nI (g (10 + j) c)) e
  | 7 => xIA D 8 (fun c => st 41 (8 * j + c)) e
  | 8 => ∃ h : Nat → Int32, e = xShE D (st 9 j) (st 8 j).toNatClampNeg h ∧ ∀ q, q < (st 8 j).toNatClampNeg → h q = st 10 (32 * j + q)
  | _ => False
/-- a car's orders: as the reference's, up to order -/
def xOr (st : mS) (g : xG) : Prop := ∀ j, j < cnt st 35 → g 9 j ≤ cnt st 38 ∧ ∀ c, c < 8 → (g (10 + j) c = 0 ↔ st 39 (8 * j + c) = 0) ∧ g (10 + j) c ≤ g 9 j ∧ ∀ d, d < 8 → (g (10 + j) c < g (10 + j) d ↔ (st 39 (8 * j + c)).toInt < (st 39 (8 * j + d)).toInt)
def xR (D : xD) (st : mS) (g : xG) (V : xV) : Prop :=
  (∀ i j, xVal st i j → ∃ e, V (g i j) = some e ∧ xSh D st g i j e) ∧ ((∀ i j i' j', xVal st i j → xVal st i' j' → g i j = g i' j' → (i = i' ∧ j = j') ∨ (i = 1 ∧ i' = 1 ∧ g i j = D.1.2.1)) ∧ (∃ f : Nat → Option Nat, V D.1.2.1 = some (.inl (D.2.2.2.2, 0, .inr (.inr (.inr (.inr f))))))) ∧ xOr st g
section XU
variable {D : xD} {st st' : mS} {g g' : xG} {V V' : xV}
theorem xVal.lt9 {i j : Nat} (h : xVal st i j) : i < 9 := by
  rcases h with ⟨rfl, -⟩ | ⟨rfl, -⟩ | ⟨rfl, -⟩ | ⟨rfl, -⟩ | ⟨rfl | rfl | rfl | rfl, -⟩ | ⟨rfl, -⟩ <;> omega
theorem xR.ne (h : xR D st g V) {i j i' j' : Nat} (h1 : xVal st i j) (h2 : xVal st i' j') (hn : ¬ (i = i' ∧ j = j')) (he : ¬ (i = 1 ∧ i' = 1)) : g i j ≠ g i' j' := fun e => by
  rcases h.2.1.1 i j i' j' h1 h2 e with q | q
  · exact hn q
  · exact he ⟨q.1, q.2.1⟩
/-- no role but a list's array is the shared empty array -/
theorem xSh.noE {i j : Nat} {e : va_E} {f : Nat → Option Nat} (hi : i ≠ 1) (h : xSh D st g i j e) : e ≠ .inl (D.2.2.2.2, 0, .inr (.inr (.inr (.inr f)))) := by
  rintro rfl
  match i, h with
  | 0, h =>
    have h : xSh0 D st g j _ := h
    unfold xSh0 at h
    split at h
    · obtain ⟨b7, b8, b9, h⟩ := h; unfold xXE at h; simp at h
    · obtain ⟨mc, h⟩ := h; simp at h
    · obtain ⟨mc, h⟩ := h; simp at h
    · obtain ⟨mc, h⟩ := h; simp at h
    · obtain ⟨f, h, -⟩ := h; simp at h
    · obtain ⟨f, h⟩ := h; simp at h
    · obtain ⟨f, h⟩ := h; simp at h
    · obtain ⟨f, h, -⟩ := h; simp at h
    · obtain ⟨f, h, -⟩ := h; simp at h
    · obtain ⟨f, h, -⟩ := h; simp at h
    · obtain ⟨f, h, -⟩ := h; simp at h
    · exact h
  | 1, h => exact hi rfl
  | 2, h =>
    have h : _ = xRoE _ _ _ _ _ _ _ := h
    unfold xRoE at h
    split at h
    · simp at h
    · split at h <;> simp at h
  | 3, h => obtain ⟨a, b, c, d, h, -⟩ := h; simp at h
  | 4, h =>
    have h : _ = xCaE _ _ _ _ _ _ _ _ := h
    unfold xCaE at h
    split at h
    · simp at h
    · split at h <;> simp at h
  | 5, h => obtain ⟨f, h, -⟩ := h; simp at h
  | 6, h => obtain ⟨f, h, -⟩ := h; simp at h
  | 7, h => obtain ⟨f, h, -⟩ := h; simp at h
  | 8, h =>
    obtain ⟨f, h, -⟩ := h
    unfold xShE at h
    split at h
    · simp at h
    · split at h <;> simp at h
  | (n + 9), h => exact h
theorem xR.noE (h : xR D st g V) {i j : Nat} (hv : xVal st i j) (hi : i ≠ 1) : g i j ≠ D.1.2.1 := fun q => by
  obtain ⟨e, h1, h2⟩ := h.1 i j hv
  obtain ⟨f, h3⟩ := h.2.1.2
  rw [q, h3] at h1
  exact h2.noE hi (Option.some.inj h1).symm
/-- no new addresses: writes at the roles L -/
theorem xR.keep (h : xR D st g V) (L : List (Nat × Nat)) (hg : ∀ i j, i < 9 → g' i j = g i j) (hval : ∀ i j, xVal st' i j → xVal st i j) (hL : ∀ r ∈ L, xVal st r.1 r.2 ∧ (r.1 = 1 → g r.1 r.2 ≠ D.1.2.1)) (hV : ∀ b, (∀ r ∈ L, b ≠ g r.1 r.2) → V' b = V b)
    (hsh : ∀ i j e, xVal st' i j → (i, j) ∉ L → xSh D st g i j e → xSh D st' g' i j e) (hnew : ∀ r ∈ L, xVal st' r.1 r.2 → ∃ e, V' (g r.1 r.2) = some e ∧ xSh D st' g' r.1 r.2 e) (hor : xOr st' g') : xR D st' g' V' := by
  refine ⟨fun i j hv => ?_, ⟨fun i j i' j' h1 h2 e => ?_, ?_⟩, hor⟩
  · rw [hg i j hv.lt9]
    by_cases hm : (i, j) ∈ L
    · exact hnew _ hm hv
    · obtain ⟨e, he, hs⟩ := h.1 i j (hval i j hv)
      refine ⟨e, ?_, hsh i j e hv hm hs⟩
      rw [hV _ (fun r hr q => ?_)]
      · exact he
      · rcases h.2.1.1 i j r.1 r.2 (hval i j hv) (hL r hr).1 q with ⟨q1, q2⟩ | ⟨q1, q2, q3⟩
        · exact hm (by rw [q1, q2]; exact hr)
        · exact (hL r hr).2 q2 (by rw [← q]; exact q3)
  · rw [hg i j h1.lt9, hg i' j' h2.lt9] at e
    rw [hg i j h1.lt9]
    exact h.2.1.1 i j i' j' (hval i j h1) (hval i' j' h2) e
  · rw [hV _ (fun r hr q => ?_)]
    · exact h.2.1.2
    · by_cases h1 : r.1 = 1
      · exact (hL r hr).2 h1 q.symm
      · exact h.noE (hL r hr).1 h1 q.symm
/-- the places of the reference's memory that a role's picture shows -/
def xDep (i j k q : Nat) : Prop := match i with
  | 0 => (j = 0 ∧ k = 0 ∧ (q = 0 ∨ q = 42 ∨ q = 12 ∨ q = 14 ∨ q = 24 ∨ q = 25 ∨ q = 27)) ∨ (j = 2 ∧ k = 0 ∧ q = 1) ∨ (j = 17 ∧ k = 0 ∧ q = 30) ∨ (j = 18 ∧ k = 0 ∧ q = 35) ∨ (j = 3 ∧ k = 13 ∧ q < 8) ∨ (j = 11 ∧ k = 26 ∧ q < 10) ∨ (j = 14 ∧ k = 28 ∧ q < 8) ∨ (j = 15 ∧ k = 29 ∧ q < 8) ∨ (j = 19 ∧ k = 8 ∧ q < 4)
  | 1 => k = 0 ∧ q = xcn j
  | 2 => (k = 2 ∨ k = 3 ∨ k = 4 ∨ k = 5 ∨ k = 6 ∨ k = 7) ∧ q = j
  | 3 => ((k = 31 ∨ k = 32 ∨ k = 33) ∧ q = j) ∨ (k = 34 ∧ 4 * j ≤ q ∧ q < 4 * j + 4)
  | 4 => (k = 36 ∨ k = 37) ∧ q = j
  | 5 => k = 40 ∧ 8 * j ≤ q ∧ q < 8 * j + 8
  | 7 => k = 41 ∧ 8 * j ≤ q ∧ q < 8 * j + 8
  | 8 => ((k = 8 ∨ k = 9) ∧ q = j) ∨ (k = 10 ∧ 32 * j ≤ q ∧ q < 32 * j + (if j < 4 then 32 else 0))
  | _ => False
/-- the numbers that a role's picture shows -/
theorem xSh.same {i j : Nat} {e : va_E} (hv : xVal st' i j) (hS : ∀ j, j < 4 → -1 ≤ (st 8 j).toInt ∧ (st 8 j).toInt ≤ 32) (hd : ∀ k q, xDep i j k q → st' k q = st k q) (hg : ∀ i j, i < 9 → g' i j = g i j) (h9 : i = 4 → g' 9 j = g 9 j) (h10 : i = 6 → ∀ c, c < 8 → g' (10 + j) c = g (10 + j) c) (h : xSh D st g i j e) : xSh D st' g' i j e := by
  match i, hv, h with
  | 0, hv, h =>
    show xSh0 D st' g' j e
    have h : xSh0 D st g j e := h
    unfold xSh0 at h ⊢
    split at h
    · obtain ⟨b7, b8, b9, rfl⟩ := h
      refine ⟨b7, b8, b9, ?_⟩
      have hq : ∀ q, (q = 0 ∨ q = 42 ∨ q = 12 ∨ q = 14 ∨ q = 24 ∨ q = 25 ∨ q = 27) → st' 0 q = st 0 q := fun q hq => hd 0 q (Or.inl ⟨rfl, rfl, hq⟩)
      unfold xXE
      rw [hq 0 (by simp), hq 42 (by simp), hq 12 (by simp), hq 14 (by simp), hq 24 (by simp), hq 25 (by simp), hq 27 (by simp)]
      simp only [hg _ _ (by decide : 0 < 9)]
    · obtain ⟨mc, rfl⟩ := h
      exact ⟨mc, by rw [hg 1 0 (by decide)]; unfold cnt; rw [hd 0 1 (Or.inr (Or.inl ⟨rfl, rfl, rfl⟩))]⟩
    · obtain ⟨mc, rfl⟩ := h
      exact ⟨mc, by rw [hg 1 1 (by decide)]; unfold cnt; rw [hd 0 30 (Or.inr (Or.inr (Or.inl ⟨rfl, rfl, rfl⟩)))]⟩
    · obtain ⟨mc, rfl⟩ := h
      exact ⟨mc, by rw [hg 1 2 (by decide)]; unfold cnt; rw [hd 0 35 (Or.inr (Or.inr (Or.inr (Or.inl ⟨rfl, rfl, rfl⟩))))]⟩
    · obtain ⟨f, h1, h2⟩ := h
      exact ⟨f, h1, fun i hi => by rw [h2 i hi, hd 13 i (by unfold xDep; simp [hi])]⟩
    · exact h
    · exact h
    · obtain ⟨f, h1, h2⟩ := h
      exact ⟨f, h1, fun i hi => by rw [h2 i hi, hd 26 i (by unfold xDep; simp [hi])]⟩
    · obtain ⟨f, h1, h2⟩ := h
      exact ⟨f, h1, fun i hi => by rw [h2 i hi, hd 28 i (by unfold xDep; simp [hi])]⟩
    · obtain ⟨f, h1, h2⟩ := h
      exact ⟨f, h1, fun i hi => by rw [h2 i hi, hd 29 i (by unfold xDep; simp [hi])]⟩
    · obtain ⟨f, h1, h2⟩ := h
      exact ⟨f, h1, fun i hi => by rw [h2 i hi, hd 8 i (by unfold xDep; simp [hi]), hg 8 i (by decide)]⟩
    · exact h.elim
  | 1, hv, h =>
    obtain ⟨cap, f, h1, h2, h3, h4⟩ := h
    have e0 : cnt st' (xcn j) = cnt st (xcn j) := by unfold cnt; rw [hd 0 (xcn j) ⟨rfl, rfl⟩]
    have hj : 2 + j < 9 := by
      rcases hv with ⟨q, -⟩ | ⟨-, q⟩ | ⟨q, -⟩ | ⟨q, -⟩ | ⟨q, -⟩ | ⟨q, -⟩ <;> omega
    exact ⟨cap, f, h1, by rw [hg 1 j (by decide)]; exact h2, by rw [e0]; exact h3, fun q hq => by rw [hg _ q hj]; exact h4 q (by rw [← e0]; exact hq)⟩
  | 2, hv, h =>
    show e = _
    rw [hd 5 j (by unfold xDep; simp), hd 2 j (by unfold xDep; simp), hd 3 j (by unfold xDep; simp), hd 4 j (by unfold xDep; simp), hd 6 j (by unfold xDep; simp), hd 7 j (by unfold xDep; simp), hg 0 0 (by decide)]
    exact h
  | 3, hv, h =>
    obtain ⟨a, b, c, d, h1, h2⟩ := h
    refine ⟨a, b, c, d, ?_, ?_⟩
    · rw [hd 31 j (by unfold xDep; simp), hd 32 j (by unfold xDep; simp), hd 33 j (by unfold xDep; simp)]
      exact h1
    · rw [hd 33 j (by unfold xDep; simp), hd 34 (4 * j) (by unfold xDep; simp), hd 34 (4 * j + 1) (by unfold xDep; simp), hd 34 (4 * j + 2) (by unfold xDep; simp), hd 34 (4 * j + 3) (by unfold xDep; simp)]
      exact h2
  | 4, hv, h =>
    show e = _
    rw [hd 37 j (by unfold xDep; simp), hd 36 j (by unfold xDep; simp), hg 5 j (by decide), hg 6 j (by decide), hg 7 j (by decide), hg 0 0 (by decide), h9 rfl]
    exact h
  | 5, hv, h =>
    obtain ⟨f, h1, h2⟩ := h
    exact ⟨f, h1, fun i hi => by rw [h2 i hi]; exact (hd 40 (8 * j + i) ⟨rfl, by omega, by omega⟩).symm⟩
  | 6, hv, h =>
    obtain ⟨f, h1, h2⟩ := h
    exact ⟨f, h1, fun i hi => by rw [h2 i hi]; show nI _ = nI _; rw [h10 rfl i hi]⟩
  | 7, hv, h =>
    obtain ⟨f, h1, h2⟩ := h
    exact ⟨f, h1, fun i hi => by rw [h2 i hi]; exact (hd 41 (8 * j + i) ⟨rfl, by omega, by omega⟩).symm⟩
  | 8, hv, h =>
    obtain ⟨f, h1, h2⟩ := h
    have hj : j < 4 := by
      rcases hv with ⟨q, -⟩ | ⟨q, -⟩ | ⟨q, -⟩ | ⟨q, -⟩ | ⟨q, -⟩ | ⟨-, q, -⟩ <;> omega
    have hs := (hS j hj).2
    have e8 := hd 8 j (by unfold xDep; simp)
    have e9 := hd 9 j (by unfold xDep; simp)
    have hn : (st 8 j).toNatClampNeg ≤ 32 := by show (st 8 j).toInt.toNat ≤ 32; omega
    exact ⟨f, by rw [e8, e9]; exact h1, fun q hq => by
      rw [e8] at hq
      rw [h2 q hq]
      exact (hd 10 (32 * j + q) (Or.inr ⟨rfl, by omega, by rw [if_pos hj]; omega⟩)).symm⟩
end XU
