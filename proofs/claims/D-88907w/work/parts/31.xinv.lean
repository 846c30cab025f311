/-! the invariant of the reference's memory, and what the representation gives -/
/-- counts -/
def mI1 (st : mS) : Prop := (0 ≤ (st 0 1).toInt ∧ (st 0 1).toInt ≤ 16) ∧ (0 ≤ (st 0 24).toInt ∧ (st 0 24).toInt ≤ 10) ∧ (0 ≤ (st 0 27).toInt ∧ (st 0 27).toInt ≤ 8) ∧ (0 ≤ (st 0 30).toInt ∧ (st 0 30).toInt ≤ 8) ∧ (0 ≤ (st 0 35).toInt ∧ (st 0 35).toInt ≤ 8) ∧ (0 ≤ (st 0 38).toInt ∧ (st 0 38).toInt ≤ 1000) ∧ (0 ≤ (st 0 12).toInt ∧ (st 0 12).toInt ≤ 8)
/-- roads -/
def mI2 (st : mS) : Prop := ∀ j, j < 16 → (st 6 j = 0 ∨ st 6 j = 1) ∧ (st 7 j = 0 ∨ st 7 j = 1) ∧ (¬ st 5 j = 2 → st 7 j = 0) ∧ (cnt st 1 ≤ j → st 6 j = 0 ∧ st 7 j = 0) ∧ (j < cnt st 1 → (st 5 j = 0 ∨ st 5 j = 1 ∨ st 5 j = 2) ∧ (0 ≤ (st 2 j).toInt ∧ (st 2 j).toInt ≤ 9) ∧ (0 ≤ (st 3 j).toInt ∧ (st 3 j).toInt ≤ 9) ∧ (1 ≤ (st 4 j).toInt ∧ (st 4 j).toInt ≤ 20000) ∧ ¬ st 2 j = st 3 j)
/-- the way, speeds, controls -/
def mI3 (st : mS) : Prop := (∀ i, i < cnt st 24 → 0 ≤ (st 26 i).toInt ∧ (st 26 i).toInt < (st 0 1).toInt) ∧ (0 ≤ (st 0 25).toInt ∧ (st 0 25).toInt ≤ 200000) ∧ (cnt st 24 = 0 → st 0 25 = 0) ∧ (∀ k, k < cnt st 27 → 0 < (st 29 k).toInt ∧ 0 ≤ (st 28 k).toInt) ∧
  (∀ c, c < 8 → (st 32 c = 0 ∨ st 32 c = 1) ∧ (st 33 c = 0 ∨ st 33 c = 1) ∧ (¬ st 33 c = 0 → (st 34 (4 * c)).toInt < (st 34 (4 * c + 1)).toInt ∧ (st 34 (4 * c + 2)).toInt < (st 34 (4 * c + 3)).toInt ∧ ∀ q, q < 4 → 0 ≤ (st 34 (4 * c + q)).toInt ∧ (st 34 (4 * c + q)).toInt ≤ 1000000)) ∧
  (∀ c, c < cnt st 30 → 1 ≤ (st 31 c).toInt ∧ (st 31 c).toInt ≤ (st 0 25).toInt ∧ ∀ d, d < cnt st 30 → st 31 c = st 31 d → c = d)
/-- cars -/
def mI4 (st : mS) : Prop := (∀ j, j < cnt st 35 → (0 ≤ (st 36 j).toInt ∧ (st 36 j).toInt ≤ 500000) ∧ (st 37 j = 0 ∨ st 37 j = 1 ∨ st 37 j = 2)) ∧ ∀ q, q < 64 → (0 ≤ (st 39 q).toInt ∧ (st 39 q).toInt ≤ (st 0 38).toInt) ∧ (0 ≤ (st 40 q).toInt ∧ (st 40 q).toInt ≤ 1000000) ∧ (0 ≤ (st 41 q).toInt ∧ (st 41 q).toInt ≤ 3000) ∧ (8 * cnt st 35 ≤ q → st 39 q = 0 ∧ st 40 q = 0 ∧ st 41 q = 0)
/-- sheets, the book -/
def mI5 (st : mS) : Prop := (∀ j, j < 4 → -1 ≤ (st 8 j).toInt ∧ (st 8 j).toInt ≤ 32) ∧ (∀ j, j < 4 → (st 9 j = 0 ∨ st 9 j = 1 ∨ st 9 j = 2) ∧ ∀ q, q < 32 → 0 ≤ (st 8 j).toInt → (st 9 j = 0 → (st 10 (32 * j + q)).toInt8.toInt32 = st 10 (32 * j + q)) ∧ (st 9 j = 1 → (st 10 (32 * j + q)).toInt16.toInt32 = st 10 (32 * j + q))) ∧ (∀ q, q < cnt st 12 → 0 ≤ (st 13 q).toInt ∧ (st 13 q).toInt ≤ 9)
def mI (st : mS) : Prop := mI1 st ∧ mI2 st ∧ mI3 st ∧ mI4 st ∧ mI5 st
section XA
variable {D : xD} {st : mS} {g : xG} {V : xV}
theorem mI.R (h : mI st) : 0 ≤ (st 0 1).toInt ∧ (st 0 1).toInt ≤ 16 := h.1.1
theorem mI.L (h : mI st) : 0 ≤ (st 0 24).toInt ∧ (st 0 24).toInt ≤ 10 := h.1.2.1
theorem mI.Sp (h : mI st) : 0 ≤ (st 0 27).toInt ∧ (st 0 27).toInt ≤ 8 := h.1.2.2.1
theorem mI.C (h : mI st) : 0 ≤ (st 0 30).toInt ∧ (st 0 30).toInt ≤ 8 := h.1.2.2.2.1
theorem mI.K (h : mI st) : 0 ≤ (st 0 35).toInt ∧ (st 0 35).toInt ≤ 8 := h.1.2.2.2.2.1
theorem mI.T (h : mI st) : 0 ≤ (st 0 38).toInt ∧ (st 0 38).toInt ≤ 1000 := h.1.2.2.2.2.2.1
theorem mI.B (h : mI st) : 0 ≤ (st 0 12).toInt ∧ (st 0 12).toInt ≤ 8 := h.1.2.2.2.2.2.2
theorem cnt_le {k : Nat} {b : Int} (h : 0 ≤ (st 0 k).toInt ∧ (st 0 k).toInt ≤ b) : (cnt st k : Int) ≤ b := by
  have := cnt_i h.1
  omega
theorem mI.r16 (h : mI st) : cnt st 1 ≤ 16 := by have := cnt_le h.R; omega
theorem mI.l10 (h : mI st) : cnt st 24 ≤ 10 := by have := cnt_le h.L; omega
theorem mI.v8 (h : mI st) : cnt st 27 ≤ 8 := by have := cnt_le h.Sp; omega
theorem mI.c8 (h : mI st) : cnt st 30 ≤ 8 := by have := cnt_le h.C; omega
theorem mI.k8 (h : mI st) : cnt st 35 ≤ 8 := by have := cnt_le h.K; omega
theorem mI.b8 (h : mI st) : cnt st 12 ≤ 8 := by have := cnt_le h.B; omega
/-- the component's own picture -/
def xXF (st : mS) (g : xG) (b7 : Int32) (b8 : Int64) (b9 : Int32) : va_E :=
  .inr (0, [.int (st 0 0), .int (st 0 42), .ref (g 0 2), .ref (g 0 3), .int (nI (cnt st 12)), .ref (g 0 5), .ref (g 0 6), .int b7, .long b8, .int b9, .int (st 0 14), .ref (g 0 11), .int (nI (cnt st 24)), .int (st 0 25), .ref (g 0 14), .ref (g 0 15), .int (nI (cnt st 27)), .ref (g 0 17), .ref (g 0 18), .ref (g 0 19)])
theorem xXF_eq (h : mI st) (b7 : Int32) (b8 : Int64) (b9 : Int32) : xXE st g b7 b8 b9 = xXF st g b7 b8 b9 := by
  unfold xXE xXF
  rw [cnt_n h.B.1, cnt_n h.L.1, cnt_n h.Sp.1]
theorem xR.px (h : xR D st g V) (hI : mI st) : ∃ b7 b8 b9, V (g 0 0) = some (xXF st g b7 b8 b9) := by
  obtain ⟨e, h1, b7, b8, b9, rfl⟩ := h.1 0 0 (Or.inl ⟨rfl, Or.inl rfl⟩)
  exact ⟨b7, b8, b9, by rw [h1, xXF_eq hI]⟩
theorem xR.p2 (h : xR D st g V) : ∃ mc : Int32, V (g 0 2) = some (.inr (8, [.int mc, .ref (g 1 0), .int (nI (cnt st 1))])) := by
  obtain ⟨e, h1, mc, rfl⟩ := h.1 0 2 (Or.inl ⟨rfl, by simp⟩); exact ⟨mc, h1⟩
theorem xR.p17 (h : xR D st g V) : ∃ mc : Int32, V (g 0 17) = some (.inr (8, [.int mc, .ref (g 1 1), .int (nI (cnt st 30))])) := by
  obtain ⟨e, h1, mc, rfl⟩ := h.1 0 17 (Or.inl ⟨rfl, by simp⟩); exact ⟨mc, h1⟩
theorem xR.p18 (h : xR D st g V) : ∃ mc : Int32, V (g 0 18) = some (.inr (8, [.int mc, .ref (g 1 2), .int (nI (cnt st 35))])) := by
  obtain ⟨e, h1, mc, rfl⟩ := h.1 0 18 (Or.inl ⟨rfl, by simp⟩); exact ⟨mc, h1⟩
theorem xR.p3 (h : xR D st g V) : ∃ f : Nat → Int32, V (g 0 3) = some (.inl (D.2.1, 8, .inl f)) ∧ ∀ i, i < 8 → f i = st 13 i := by
  obtain ⟨e, h1, f, rfl, h2⟩ := h.1 0 3 (Or.inl ⟨rfl, by simp⟩); exact ⟨f, h1, h2⟩
theorem xR.p11 (h : xR D st g V) : ∃ f : Nat → Int32, V (g 0 11) = some (.inl (D.2.1, 10, .inl f)) ∧ ∀ i, i < 10 → f i = st 26 i := by
  obtain ⟨e, h1, f, rfl, h2⟩ := h.1 0 11 (Or.inl ⟨rfl, by simp⟩); exact ⟨f, h1, h2⟩
theorem xR.p14 (h : xR D st g V) : ∃ f : Nat → Int32, V (g 0 14) = some (.inl (D.2.1, 8, .inl f)) ∧ ∀ i, i < 8 → f i = st 28 i := by
  obtain ⟨e, h1, f, rfl, h2⟩ := h.1 0 14 (Or.inl ⟨rfl, by simp⟩); exact ⟨f, h1, h2⟩
theorem xR.p15 (h : xR D st g V) : ∃ f : Nat → Int32, V (g 0 15) = some (.inl (D.2.1, 8, .inl f)) ∧ ∀ i, i < 8 → f i = st 29 i := by
  obtain ⟨e, h1, f, rfl, h2⟩ := h.1 0 15 (Or.inl ⟨rfl, by simp⟩); exact ⟨f, h1, h2⟩
theorem xR.p5 (h : xR D st g V) : ∃ f : Nat → Int32, V (g 0 5) = some (.inl (D.2.1, 10, .inl f)) := by
  obtain ⟨e, h1, f, rfl⟩ := h.1 0 5 (Or.inl ⟨rfl, by simp⟩); exact ⟨f, h1⟩
theorem xR.p6 (h : xR D st g V) : ∃ f : Nat → Int32, V (g 0 6) = some (.inl (D.2.1, 10, .inl f)) := by
  obtain ⟨e, h1, f, rfl⟩ := h.1 0 6 (Or.inl ⟨rfl, by simp⟩); exact ⟨f, h1⟩
theorem xR.p19 (h : xR D st g V) : ∃ f : Nat → Option Nat, V (g 0 19) = some (.inl (D.2.2.2.2, 4, .inr (.inr (.inr (.inr f))))) ∧ ∀ k, k < 4 → f k = if (st 8 k).toInt < 0 then none else some (g 8 k) := by
  obtain ⟨e, h1, f, rfl, h2⟩ := h.1 0 19 (Or.inl ⟨rfl, by simp⟩); exact ⟨f, h1, h2⟩
theorem xR.pe (h : xR D st g V) {j : Nat} (hj : j < 3) : ∃ (cap : Nat) (f : Nat → Option Nat), V (g 1 j) = some (.inl (D.2.2.2.2, cap, .inr (.inr (.inr (.inr f))))) ∧ (cap = 0 ∧ g 1 j = D.1.2.1 ∨ cap = 10 ∨ cap = 15 ∨ cap = 22) ∧ cnt st (xcn j) ≤ cap ∧ ∀ q, q < cnt st (xcn j) → f q = some (g (2 + j) q) := by
  obtain ⟨e, h1, cap, f, rfl, h2⟩ := h.1 1 j (Or.inr (Or.inl ⟨rfl, hj⟩)); exact ⟨cap, f, h1, h2⟩
theorem xR.road (h : xR D st g V) {j : Nat} (hj : j < cnt st 1) : V (g 2 j) = some (xRoE (st 5 j) (st 2 j) (st 3 j) (st 4 j) (st 6 j) (st 7 j) (g 0 0)) := by
  obtain ⟨e, h1, rfl⟩ := h.1 2 j (Or.inr (Or.inr (Or.inl ⟨rfl, hj⟩))); exact h1
theorem xR.ctl (h : xR D st g V) {j : Nat} (hj : j < cnt st 30) : ∃ a b c d : Int32, V (g 3 j) = some (.inr (4, [.int (st 31 j), .int (st 32 j), .int (st 33 j), .int a, .int b, .int c, .int d])) ∧ (¬ st 33 j = 0 → a = st 34 (4 * j) ∧ b = st 34 (4 * j + 1) ∧ c = st 34 (4 * j + 2) ∧ d = st 34 (4 * j + 3)) := by
  obtain ⟨e, h1, a, b, c, d, rfl, h2⟩ := h.1 3 j (Or.inr (Or.inr (Or.inr (Or.inl ⟨rfl, hj⟩)))); exact ⟨a, b, c, d, h1, h2⟩
theorem xR.car (h : xR D st g V) {j : Nat} (hj : j < cnt st 35) : V (g 4 j) = some (xCaE (st 37 j) (nI j) (st 36 j) (g 5 j) (g 6 j) (g 7 j) (g 9 j) (g 0 0)) := by
  obtain ⟨e, h1, rfl⟩ := h.1 4 j (Or.inr (Or.inr (Or.inr (Or.inr (Or.inl ⟨by simp, hj⟩))))); exact h1
theorem xR.tim (h : xR D st g V) {j : Nat} (hj : j < cnt st 35) : ∃ f : Nat → Int32, V (g 5 j) = some (.inl (D.2.1, 8, .inl f)) ∧ ∀ c, c < 8 → f c = st 40 (8 * j + c) := by
  obtain ⟨e, h1, f, rfl, h2⟩ := h.1 5 j (Or.inr (Or.inr (Or.inr (Or.inr (Or.inl ⟨by simp, hj⟩))))); exact ⟨f, h1, h2⟩
theorem xR.ord (h : xR D st g V) {j : Nat} (hj : j < cnt st 35) : ∃ f : Nat → Int32, V (g 6 j) = some (.inl (D.2.1, 8, .inl f)) ∧ ∀ c, c < 8 → f c = nI (g (10 + j) c) := by
  obtain ⟨e, h1, f, rfl, h2⟩ := h.1 6 j (Or.inr (Or.inr (Or.inr (Or.inr (Or.inl ⟨by simp, hj⟩))))); exact ⟨f, h1, h2⟩
theorem xR.clm (h : xR D st g V) {j : Nat} (hj : j < cnt st 35) : ∃ f : Nat → Int32, V (g 7 j) = some (.inl (D.2.1, 8, .inl f)) ∧ ∀ c, c < 8 → f c = st 41 (8 * j + c) := by
  obtain ⟨e, h1, f, rfl, h2⟩ := h.1 7 j (Or.inr (Or.inr (Or.inr (Or.inr (Or.inl ⟨by simp, hj⟩))))); exact ⟨f, h1, h2⟩
end XA
