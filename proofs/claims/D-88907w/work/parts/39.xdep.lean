/-! what a role's picture shows; writes -/
/-- the cells show st -/
def xF (D : xD) (g : xG) (st : mS) (V : xV) : Prop := ∃ g' : xG, g' 0 0 = g 0 0 ∧ xR D st g' V
theorem mu_k {st : mS} {a i k q : Nat} {v : Int32} (h : ¬ (k = a ∧ q = i)) : mu st a i v k q = st k q := if_neg h
theorem xd_2 {i j q : Nat} (h : xDep i j 2 q) : i = 2 ∧ q = j := by
  unfold xDep at h
  split at h <;> first | omega | (unfold xcn at h; split at h <;> first | omega | (split at h <;> omega)) | exact h.elim
theorem xd_3 {i j q : Nat} (h : xDep i j 3 q) : i = 2 ∧ q = j := by
  unfold xDep at h
  split at h <;> first | omega | (unfold xcn at h; split at h <;> first | omega | (split at h <;> omega)) | exact h.elim
theorem xd_4 {i j q : Nat} (h : xDep i j 4 q) : i = 2 ∧ q = j := by
  unfold xDep at h
  split at h <;> first | omega | (unfold xcn at h; split at h <;> first | omega | (split at h <;> omega)) | exact h.elim
theorem xd_5 {i j q : Nat} (h : xDep i j 5 q) : i = 2 ∧ q = j := by
  unfold xDep at h
  split at h <;> first | omega | (unfold xcn at h; split at h <;> first | omega | (split at h <;> omega)) | exact h.elim
theorem xd_6 {i j q : Nat} (h : xDep i j 6 q) : i = 2 ∧ q = j := by
  unfold xDep at h
  split at h <;> first | omega | (unfold xcn at h; split at h <;> first | omega | (split at h <;> omega)) | exact h.elim
theorem xd_7 {i j q : Nat} (h : xDep i j 7 q) : i = 2 ∧ q = j := by
  unfold xDep at h
  split at h <;> first | omega | (unfold xcn at h; split at h <;> first | omega | (split at h <;> omega)) | exact h.elim
theorem xd_8 {i j q : Nat} (h : xDep i j 8 q) : (i = 8 ∧ q = j) ∨ (i = 0 ∧ j = 19 ∧ q < 4) := by
  unfold xDep at h
  split at h <;> first | omega | (unfold xcn at h; split at h <;> first | omega | (split at h <;> omega)) | exact h.elim
theorem xd_9 {i j q : Nat} (h : xDep i j 9 q) : i = 8 ∧ q = j := by
  unfold xDep at h
  split at h <;> first | omega | (unfold xcn at h; split at h <;> first | omega | (split at h <;> omega)) | exact h.elim
theorem xd_10 {i j q : Nat} (h : xDep i j 10 q) : i = 8 ∧ 32 * j ≤ q ∧ q < 32 * j + 32 := by
  unfold xDep at h
  split at h
  · omega
  · omega
  · omega
  · omega
  · omega
  · omega
  · omega
  · have : (if j < 4 then 32 else 0) ≤ 32 := by split <;> omega
    omega
  · exact h.elim
theorem xd_13 {i j q : Nat} (h : xDep i j 13 q) : i = 0 ∧ j = 3 := by
  unfold xDep at h
  split at h <;> first | omega | (unfold xcn at h; split at h <;> first | omega | (split at h <;> omega)) | exact h.elim
theorem xd_26 {i j q : Nat} (h : xDep i j 26 q) : i = 0 ∧ j = 11 := by
  unfold xDep at h
  split at h <;> first | omega | (unfold xcn at h; split at h <;> first | omega | (split at h <;> omega)) | exact h.elim
theorem xd_28 {i j q : Nat} (h : xDep i j 28 q) : i = 0 ∧ j = 14 := by
  unfold xDep at h
  split at h <;> first | omega | (unfold xcn at h; split at h <;> first | omega | (split at h <;> omega)) | exact h.elim
theorem xd_29 {i j q : Nat} (h : xDep i j 29 q) : i = 0 ∧ j = 15 := by
  unfold xDep at h
  split at h <;> first | omega | (unfold xcn at h; split at h <;> first | omega | (split at h <;> omega)) | exact h.elim
theorem xd_31 {i j q : Nat} (h : xDep i j 31 q) : i = 3 ∧ q = j := by
  unfold xDep at h
  split at h <;> first | omega | (unfold xcn at h; split at h <;> first | omega | (split at h <;> omega)) | exact h.elim
theorem xd_32 {i j q : Nat} (h : xDep i j 32 q) : i = 3 ∧ q = j := by
  unfold xDep at h
  split at h <;> first | omega | (unfold xcn at h; split at h <;> first | omega | (split at h <;> omega)) | exact h.elim
theorem xd_33 {i j q : Nat} (h : xDep i j 33 q) : i = 3 ∧ q = j := by
  unfold xDep at h
  split at h <;> first | omega | (unfold xcn at h; split at h <;> first | omega | (split at h <;> omega)) | exact h.elim
theorem xd_34 {i j q : Nat} (h : xDep i j 34 q) : i = 3 ∧ 4 * j ≤ q ∧ q < 4 * j + 4 := by
  unfold xDep at h
  split at h <;> first | omega | (unfold xcn at h; split at h <;> first | omega | (split at h <;> omega)) | exact h.elim
theorem xd_36 {i j q : Nat} (h : xDep i j 36 q) : i = 4 ∧ q = j := by
  unfold xDep at h
  split at h <;> first | omega | (unfold xcn at h; split at h <;> first | omega | (split at h <;> omega)) | exact h.elim
theorem xd_37 {i j q : Nat} (h : xDep i j 37 q) : i = 4 ∧ q = j := by
  unfold xDep at h
  split at h <;> first | omega | (unfold xcn at h; split at h <;> first | omega | (split at h <;> omega)) | exact h.elim
theorem xd_40 {i j q : Nat} (h : xDep i j 40 q) : i = 5 ∧ 8 * j ≤ q ∧ q < 8 * j + 8 := by
  unfold xDep at h
  split at h <;> first | omega | (unfold xcn at h; split at h <;> first | omega | (split at h <;> omega)) | exact h.elim
theorem xd_41 {i j q : Nat} (h : xDep i j 41 q) : i = 7 ∧ 8 * j ≤ q ∧ q < 8 * j + 8 := by
  unfold xDep at h
  split at h <;> first | omega | (unfold xcn at h; split at h <;> first | omega | (split at h <;> omega)) | exact h.elim
theorem xd_39 {i j q : Nat} (h : xDep i j 39 q) : False := by
  unfold xDep at h
  split at h <;> first | omega | (unfold xcn at h; split at h <;> first | omega | (split at h <;> omega)) | exact h.elim
theorem xd_11 {i j q : Nat} (h : xDep i j 11 q) : False := by
  unfold xDep at h
  split at h <;> first | omega | (unfold xcn at h; split at h <;> first | omega | (split at h <;> omega)) | exact h.elim
theorem xd_17 {i j q : Nat} (h : xDep i j 17 q) : False := by
  unfold xDep at h
  split at h <;> first | omega | (unfold xcn at h; split at h <;> first | omega | (split at h <;> omega)) | exact h.elim
theorem xd_20 {i j q : Nat} (h : xDep i j 20 q) : False := by
  unfold xDep at h
  split at h <;> first | omega | (unfold xcn at h; split at h <;> first | omega | (split at h <;> omega)) | exact h.elim
theorem xd_21 {i j q : Nat} (h : xDep i j 21 q) : False := by
  unfold xDep at h
  split at h <;> first | omega | (unfold xcn at h; split at h <;> first | omega | (split at h <;> omega)) | exact h.elim
theorem xd_22 {i j q : Nat} (h : xDep i j 22 q) : False := by
  unfold xDep at h
  split at h <;> first | omega | (unfold xcn at h; split at h <;> first | omega | (split at h <;> omega)) | exact h.elim
theorem xd_23 {i j q : Nat} (h : xDep i j 23 q) : False := by
  unfold xDep at h
  split at h <;> first | omega | (unfold xcn at h; split at h <;> first | omega | (split at h <;> omega)) | exact h.elim
theorem xd0_0 {i j : Nat} (h : xDep i j 0 0) : i = 0 ∧ j = 0 := by
  unfold xDep at h
  split at h <;> first | omega | (unfold xcn at h; split at h <;> first | omega | (split at h <;> omega)) | exact h.elim
theorem xd0_42 {i j : Nat} (h : xDep i j 0 42) : i = 0 ∧ j = 0 := by
  unfold xDep at h
  split at h <;> first | omega | (unfold xcn at h; split at h <;> first | omega | (split at h <;> omega)) | exact h.elim
theorem xd0_12 {i j : Nat} (h : xDep i j 0 12) : i = 0 ∧ j = 0 := by
  unfold xDep at h
  split at h <;> first | omega | (unfold xcn at h; split at h <;> first | omega | (split at h <;> omega)) | exact h.elim
theorem xd0_14 {i j : Nat} (h : xDep i j 0 14) : i = 0 ∧ j = 0 := by
  unfold xDep at h
  split at h <;> first | omega | (unfold xcn at h; split at h <;> first | omega | (split at h <;> omega)) | exact h.elim
theorem xd0_24 {i j : Nat} (h : xDep i j 0 24) : i = 0 ∧ j = 0 := by
  unfold xDep at h
  split at h <;> first | omega | (unfold xcn at h; split at h <;> first | omega | (split at h <;> omega)) | exact h.elim
theorem xd0_25 {i j : Nat} (h : xDep i j 0 25) : i = 0 ∧ j = 0 := by
  unfold xDep at h
  split at h <;> first | omega | (unfold xcn at h; split at h <;> first | omega | (split at h <;> omega)) | exact h.elim
theorem xd0_27 {i j : Nat} (h : xDep i j 0 27) : i = 0 ∧ j = 0 := by
  unfold xDep at h
  split at h <;> first | omega | (unfold xcn at h; split at h <;> first | omega | (split at h <;> omega)) | exact h.elim
theorem xd0_1 {i j : Nat} (h : xDep i j 0 1) : (i = 0 ∧ j = 2) ∨ (i = 1 ∧ j = 0) := by
  unfold xDep at h
  split at h <;> first | omega | (unfold xcn at h; split at h <;> first | omega | (split at h <;> omega)) | exact h.elim
theorem xd0_30 {i j : Nat} (h : xDep i j 0 30) : (i = 0 ∧ j = 17) ∨ (i = 1 ∧ j = 1) := by
  unfold xDep at h
  split at h <;> first | omega | (unfold xcn at h; split at h <;> first | omega | (split at h <;> omega)) | exact h.elim
theorem xd0_35 {i j : Nat} (h : xDep i j 0 35) : (i = 0 ∧ j = 18) ∨ (i = 1 ∧ 2 ≤ j) := by
  unfold xDep at h
  split at h <;> first | omega | (unfold xcn at h; split at h <;> first | omega | (split at h <;> omega)) | exact h.elim
theorem xd0_15 {i j : Nat} (h : xDep i j 0 15) : False := by
  unfold xDep at h
  split at h <;> first | omega | (unfold xcn at h; split at h <;> first | omega | (split at h <;> omega)) | exact h.elim
theorem xd0_16 {i j : Nat} (h : xDep i j 0 16) : False := by
  unfold xDep at h
  split at h <;> first | omega | (unfold xcn at h; split at h <;> first | omega | (split at h <;> omega)) | exact h.elim
theorem xd0_18 {i j : Nat} (h : xDep i j 0 18) : False := by
  unfold xDep at h
  split at h <;> first | omega | (unfold xcn at h; split at h <;> first | omega | (split at h <;> omega)) | exact h.elim
theorem xd0_19 {i j : Nat} (h : xDep i j 0 19) : False := by
  unfold xDep at h
  split at h <;> first | omega | (unfold xcn at h; split at h <;> first | omega | (split at h <;> omega)) | exact h.elim
theorem xd0_38 {i j : Nat} (h : xDep i j 0 38) : False := by
  unfold xDep at h
  split at h <;> first | omega | (unfold xcn at h; split at h <;> first | omega | (split at h <;> omega)) | exact h.elim
section XV
variable {D : xD} {st st' : mS} {g g' : xG} {V V' : xV}
/-- writes at the roles L, addresses as they were -/
theorem xR.w0 (h : xR D st g V) (hI : mI st) (L : List (Nat × Nat)) (hval : ∀ i j, xVal st' i j → xVal st i j) (hL : ∀ r ∈ L, xVal st r.1 r.2 ∧ (r.1 = 1 → g r.1 r.2 ≠ D.1.2.1)) (hV : ∀ b, (∀ r ∈ L, b ≠ g r.1 r.2) → V' b = V b)
    (hd : ∀ i j k q, xVal st' i j → (i, j) ∉ L → xDep i j k q → st' k q = st k q) (hnew : ∀ r ∈ L, xVal st' r.1 r.2 → ∃ e, V' (g r.1 r.2) = some e ∧ xSh D st' g r.1 r.2 e) (hor : xOr st' g) : xR D st' g V' :=
  h.keep L (fun _ _ _ => rfl) hval hL hV (fun i j e hv hn hs => xSh.same hv hI.2.2.2.2.1 (fun k q hq => hd i j k q hv hn hq) (fun _ _ _ => rfl) (fun _ => rfl) (fun _ _ _ => rfl) hs) hnew hor
theorem xF.of (h : xR D st' g V') : xF D g st' V' := ⟨g, rfl, h⟩
/-- nothing but the component itself shows what changed -/
def xkeep (st st' : mS) : Prop := (∀ k q, k ≠ 0 → k ≠ 11 → k ≠ 17 → k ≠ 20 → k ≠ 21 → k ≠ 22 → k ≠ 23 → st' k q = st k q) ∧ st' 0 1 = st 0 1 ∧ st' 0 30 = st 0 30 ∧ st' 0 35 = st 0 35 ∧ st' 0 38 = st 0 38
theorem xkeep.rf (st : mS) : xkeep st st := ⟨fun _ _ _ _ _ _ _ _ _ => rfl, rfl, rfl, rfl, rfl⟩
theorem xkeep.tr {u : mS} (h1 : xkeep st st') (h2 : xkeep st' u) : xkeep st u := ⟨fun k q a b c d e f g => (h2.1 k q a b c d e f g).trans (h1.1 k q a b c d e f g), h2.2.1.trans h1.2.1, h2.2.2.1.trans h1.2.2.1, h2.2.2.2.1.trans h1.2.2.2.1, h2.2.2.2.2.trans h1.2.2.2.2⟩
theorem xkeep.fault (st : mS) (v : Int32) : xkeep st (mu st 0 0 v) := ⟨fun _ _ h _ _ _ _ _ _ => mu_r h _, rfl, rfl, rfl, rfl⟩
theorem xkeep.tr1 (st : mS) (v : Int32) : xkeep st (tr1 st v) := ⟨fun _ _ h _ _ _ _ _ _ => mu_r h _, rfl, rfl, rfl, rfl⟩
theorem xkeep.val (hk : xkeep st st') {i j : Nat} (h : xVal st' i j) : xVal st i j := by
  obtain ⟨h0, h1, h2, h3, h4⟩ := hk
  unfold xVal cnt at h ⊢
  rw [h1, h2, h3, h0 8 j (by decide) (by decide) (by decide) (by decide) (by decide) (by decide) (by decide)] at h
  exact h
theorem xR.x0 (h : xR D st g V) (hI : mI st) (hk : xkeep st st') {b7 : Int32} {b8 : Int64} {b9 : Int32} (hV : V' = xu V (g 0 0) (xXE st' g b7 b8 b9)) : xR D st' g V' := by
  refine h.w0 hI [(0, 0)] (fun i j => hk.val) ?_ ?_ ?_ ?_ ?_
  · intro r hr
    simp only [List.mem_cons, List.not_mem_nil, or_false] at hr
    subst hr
    exact ⟨Or.inl ⟨rfl, Or.inl rfl⟩, fun h => absurd (show (0 : Nat) = 1 from h) (by decide)⟩
  · intro b hb
    rw [hV, xu_n (hb (0, 0) (by simp))]
  · intro i j k q hv hn hq
    simp only [List.mem_cons, List.not_mem_nil, or_false, Prod.mk.injEq] at hn
    obtain ⟨h0, h1, h2, h3, h4⟩ := hk
    by_cases hk0 : k = 0
    · subst hk0
      have hq2 : q = 1 ∨ q = 30 ∨ q = 35 := by
        unfold xDep at hq
        split at hq <;> first | omega | (unfold xcn at hq; split at hq <;> first | omega | (split at hq <;> omega)) | exact hq.elim
      rcases hq2 with rfl | rfl | rfl
      · exact h1
      · exact h2
      · exact h3
    · have hne : k ≠ 11 ∧ k ≠ 17 ∧ k ≠ 20 ∧ k ≠ 21 ∧ k ≠ 22 ∧ k ≠ 23 := by
        refine ⟨?_, ?_, ?_, ?_, ?_, ?_⟩ <;> rintro rfl
        · exact xd_11 hq
        · exact xd_17 hq
        · exact xd_20 hq
        · exact xd_21 hq
        · exact xd_22 hq
        · exact xd_23 hq
      exact h0 k q hk0 hne.1 hne.2.1 hne.2.2.1 hne.2.2.2.1 hne.2.2.2.2.1 hne.2.2.2.2.2
  · intro r hr hv
    simp only [List.mem_cons, List.not_mem_nil, or_false] at hr
    subst hr
    exact ⟨_, by rw [hV]; exact xu_s _ _ _, b7, b8, b9, rfl⟩
  · intro j hj
    obtain ⟨h0, h1, h2, h3, h4⟩ := hk
    have e39 : ∀ q, st' 39 q = st 39 q := fun q => h0 39 q (by decide) (by decide) (by decide) (by decide) (by decide) (by decide) (by decide)
    have e35 : cnt st' 35 = cnt st 35 := by unfold cnt; rw [h3]
    have e38 : cnt st' 38 = cnt st 38 := by unfold cnt; rw [h4]
    have := h.2.2 j (by rw [← e35]; exact hj)
    simp only [e39, e38]
    exact this
end XV
