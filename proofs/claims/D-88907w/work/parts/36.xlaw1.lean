/-! plain laws: bounds of an error, what it costs -/
theorem i64_div {a b : Int64} (hb : 0 ≤ b.toInt) : (a / b).toInt = a.toInt.tdiv b.toInt := by
  have h1 := Int64.le_toInt a
  have h2 := Int64.toInt_lt a
  by_cases h : b = -1
  · rw [h] at hb; exact absurd hb (by decide)
  · exact Int64.toInt_div_of_ne_right a b h
theorem i64_div_b {a b : Int64} {M : Int} (hb : 0 ≤ b.toInt) (h1 : -M ≤ a.toInt) (h2 : a.toInt ≤ M) : -M ≤ (a / b).toInt ∧ (a / b).toInt ≤ M := by
  rw [i64_div hb]
  rcases Int.lt_or_le a.toInt 0 with h | h
  · have e : a.toInt.tdiv b.toInt = -((-a.toInt).tdiv b.toInt) := by rw [Int.neg_tdiv]; omega
    have q1 : 0 ≤ (-a.toInt).tdiv b.toInt := Int.tdiv_nonneg (by omega) hb
    have q2 : (-a.toInt).tdiv b.toInt ≤ -a.toInt := Int.tdiv_le_self _ (by omega)
    omega
  · have q1 : 0 ≤ a.toInt.tdiv b.toInt := Int.tdiv_nonneg h hb
    have q2 : a.toInt.tdiv b.toInt ≤ a.toInt := Int.tdiv_le_self _ h
    omega
theorem i64_div_p {a b : Int64} {M : Int} (hb : 0 ≤ b.toInt) (h1 : 0 ≤ a.toInt) (h2 : a.toInt ≤ M) : 0 ≤ (a / b).toInt ∧ (a / b).toInt ≤ M := by
  rw [i64_div hb]
  have q1 : 0 ≤ a.toInt.tdiv b.toInt := Int.tdiv_nonneg h1 hb
  have q2 : a.toInt.tdiv b.toInt ≤ a.toInt := Int.tdiv_le_self _ h1
  omega
theorem mul_b {x y M N : Int} (h1 : -M ≤ x) (h2 : x ≤ M) (h3 : 0 ≤ y) (h4 : y ≤ N) (hM : 0 ≤ M) : -(M * N) ≤ x * y ∧ x * y ≤ M * N := by
  have a1 : x * y ≤ M * y := Int.mul_le_mul_of_nonneg_right h2 h3
  have a2 : M * y ≤ M * N := Int.mul_le_mul_of_nonneg_left h4 hM
  have a3 : -M * y ≤ x * y := Int.mul_le_mul_of_nonneg_right h1 h3
  have a4 : -M * y = -(M * y) := Int.neg_mul _ _
  omega
theorem rgt_b {st : mS} (hI : mI st) {c : Nat} (hc : c < 8) {t : Int64} (h1 : 0 ≤ t.toInt) (h2 : t.toInt ≤ 1000000) : -1000001000000 ≤ (rgt st c t).toInt ∧ (rgt st c t).toInt ≤ 1000001000000 := by
  unfold rgt
  by_cases h0 : st 33 c = 0
  · rw [if_pos h0]; omega
  · rw [if_neg h0]
    obtain ⟨-, -, h3⟩ := hI.2.2.1.2.2.2.2.1 c hc
    obtain ⟨g1, g2, g3⟩ := h3 h0
    have b0 : 0 ≤ (st 34 (4 * c)).toInt ∧ (st 34 (4 * c)).toInt ≤ 1000000 := g3 0 (by decide)
    have b1 := g3 1 (by decide)
    have b2 := g3 2 (by decide)
    have b3 := g3 3 (by decide)
    have e1 : (t - (st 34 (4 * c + 2)).toInt64).toInt = t.toInt - (st 34 (4 * c + 2)).toInt := by
      rw [i64_sub (by rw [Int32.toInt_toInt64]; omega) (by rw [Int32.toInt_toInt64]; omega), Int32.toInt_toInt64]
    have e2 : ((st 34 (4 * c + 1)).toInt64 - (st 34 (4 * c)).toInt64).toInt = (st 34 (4 * c + 1)).toInt - (st 34 (4 * c)).toInt := by
      rw [i64_sub (by rw [Int32.toInt_toInt64, Int32.toInt_toInt64]; omega) (by rw [Int32.toInt_toInt64, Int32.toInt_toInt64]; omega), Int32.toInt_toInt64, Int32.toInt_toInt64]
    have e3 : ((st 34 (4 * c + 3)).toInt64 - (st 34 (4 * c + 2)).toInt64).toInt = (st 34 (4 * c + 3)).toInt - (st 34 (4 * c + 2)).toInt := by
      rw [i64_sub (by rw [Int32.toInt_toInt64, Int32.toInt_toInt64]; omega) (by rw [Int32.toInt_toInt64, Int32.toInt_toInt64]; omega), Int32.toInt_toInt64, Int32.toInt_toInt64]
    have m := mul_b (x := t.toInt - (st 34 (4 * c + 2)).toInt) (y := (st 34 (4 * c + 1)).toInt - (st 34 (4 * c)).toInt) (M := 1000000) (N := 1000000) (by omega) (by omega) (by omega) (by omega) (by decide)
    have e4 : ((t - (st 34 (4 * c + 2)).toInt64) * ((st 34 (4 * c + 1)).toInt64 - (st 34 (4 * c)).toInt64)).toInt = (t.toInt - (st 34 (4 * c + 2)).toInt) * ((st 34 (4 * c + 1)).toInt - (st 34 (4 * c)).toInt) := by
      rw [i64_mul (by rw [e1, e2]; omega) (by rw [e1, e2]; omega), e1, e2]
    have d := i64_div_b (a := (t - (st 34 (4 * c + 2)).toInt64) * ((st 34 (4 * c + 1)).toInt64 - (st 34 (4 * c)).toInt64)) (b := (st 34 (4 * c + 3)).toInt64 - (st 34 (4 * c + 2)).toInt64) (M := 1000000000000) (by rw [e3]; omega) (by rw [e4]; omega) (by rw [e4]; omega)
    rw [i64_add (by rw [Int32.toInt_toInt64]; omega) (by rw [Int32.toInt_toInt64]; omega), Int32.toInt_toInt64]
    omega
theorem dun_p {st : mS} {z : Int32} : ∀ (n i : Nat) (v x : Int32), (∀ k, i ≤ k → k < i + n → 0 < (st 29 k).toInt) → 0 ≤ v.toInt → 0 ≤ (dun st z n i v x).1.toInt := by
  intro n
  induction n with
  | zero => intro i v x _ h; exact h
  | succ n ih =>
    intro i v x hp h
    refine ih (i + 1) _ _ (fun k h1 h2 => hp k (by omega) (by omega)) ?_
    split
    · have := hp i (Nat.le_refl _) (by omega); omega
    · exact h
theorem due_b {st : mS} (hI : mI st) {d : Int32} (hd : d.toInt ≤ 200000) : ∀ (f : Nat) (z : Int32) (a : Int64), 0 ≤ z.toInt → z.toInt ≤ 200000 → 0 ≤ a.toInt → a.toInt ≤ 600 * z.toInt → 0 ≤ (due st d f z a).toInt ∧ (due st d f z a).toInt ≤ 120000000 := by
  intro f
  induction f with
  | zero => intro z a h1 h2 h3 h4; exact ⟨h3, by show a.toInt ≤ _; omega⟩
  | succ f ih =>
    intro z a h1 h2 h3 h4
    simp only [due]
    by_cases hz : z.toInt < d.toInt
    · rw [if_pos hz]
      have q := dun_x (st := st) (z := z) (cnt st 27) 0 0 d hz
      have v := dun_p (st := st) (z := z) (cnt st 27) 0 0 d (fun k _ hk => (hI.2.2.1.2.2.2.1 k (by omega)).1) (by decide)
      generalize dun st z (cnt st 27) 0 0 d = w at q v
      have e1 : (w.2 - z).toInt = w.2.toInt - z.toInt := i32_sub (by omega) (by omega)
      have e600 : (600 : Int64).toInt = 600 := rfl
      have e2 : (600 * (w.2 - z).toInt64).toInt = 600 * (w.2.toInt - z.toInt) := by
        rw [i64_mul (by rw [Int32.toInt_toInt64, e1, e600]; omega) (by rw [Int32.toInt_toInt64, e1, e600]; omega), Int32.toInt_toInt64, e1, e600]
      have dv := i64_div_p (a := 600 * (w.2 - z).toInt64) (b := w.1.toInt64) (M := 600 * (w.2.toInt - z.toInt)) (by rw [Int32.toInt_toInt64]; exact v) (by rw [e2]; omega) (by rw [e2]; omega)
      have e3 : (a + 600 * (w.2 - z).toInt64 / w.1.toInt64).toInt = a.toInt + (600 * (w.2 - z).toInt64 / w.1.toInt64).toInt := i64_add (by omega) (by omega)
      exact ih w.2 _ (by omega) (by omega) (by rw [e3]; omega) (by rw [e3]; omega)
    · rw [if_neg hz]
      omega
theorem crd_b {st : mS} (hI : mI st) {a c : Nat} (ha : a < 8) : ∀ (n i : Nat) (s : Int64), i + n ≤ 8 → 0 ≤ s.toInt → s.toInt ≤ 600 * i → 0 ≤ (crd st a c n i s).toInt ∧ (crd st a c n i s).toInt ≤ 600 * (i + n : Nat) := by
  intro n
  induction n with
  | zero => intro i s _ h1 h2; exact ⟨h1, h2⟩
  | succ n ih =>
    intro i s hn h1 h2
    simp only [crd]
    have h41 := (hI.2.2.2.1.2 (8 * a + i) (by omega)).2.2.1
    have k : 0 ≤ (if (st 31 c).toInt < (st 31 i).toInt then (0 : Int64) else if (st 41 (8 * a + i)).toInt < 600 then (st 41 (8 * a + i)).toInt64 else 600).toInt ∧ (if (st 31 c).toInt < (st 31 i).toInt then (0 : Int64) else if (st 41 (8 * a + i)).toInt < 600 then (st 41 (8 * a + i)).toInt64 else 600).toInt ≤ 600 := by
      split
      · decide
      · split
        · rw [Int32.toInt_toInt64]; omega
        · decide
    generalize (if (st 31 c).toInt < (st 31 i).toInt then (0 : Int64) else if (st 41 (8 * a + i)).toInt < 600 then (st 41 (8 * a + i)).toInt64 else 600) = u at k
    have e : (s + u).toInt = s.toInt + u.toInt := i64_add (by omega) (by omega)
    have r := ih (i + 1) (s + u) (by omega) (by rw [e]; omega) (by rw [e]; omega)
    refine ⟨r.1, ?_⟩
    have := r.2
    omega
theorem crr_b {st : mS} (hI : mI st) {a c : Nat} (ha : a < 8) : 0 ≤ (crr st a c).toInt ∧ (crr st a c).toInt ≤ 1500 := by
  have h := crd_b hI (c := c) ha (cnt st 30) 0 0 (by have := hI.c8; omega) (by decide) (by decide)
  unfold crr
  split
  · omega
  · decide
theorem err_b {st : mS} (hI : mI st) {a c : Nat} (ha : a < cnt st 35) (hc : c < cnt st 30) : -2000000000000 ≤ (err st a c).toInt ∧ (err st a c).toInt ≤ 2000000000000 := by
  have k8 := hI.k8
  have c8 := hI.c8
  have t := (hI.2.2.2.1.2 (8 * a + c) (by omega)).2.1
  have s0 := (hI.2.2.2.1.1 a ha).1
  have pl := hI.2.2.1.2.2.2.2.2 c hc
  have me := hI.2.2.1.2.1
  have r := rgt_b hI (c := c) (by omega) (t := (st 40 (8 * a + c)).toInt64) (by rw [Int32.toInt_toInt64]; exact t.1) (by rw [Int32.toInt_toInt64]; exact t.2)
  have d := due_b hI (d := st 31 c) (by omega) (st 31 c).toNatClampNeg 0 0 (by decide) (by decide) (by decide) (by decide)
  have e1 : (rgt st c (st 40 (8 * a + c)).toInt64 - (st 36 a).toInt64).toInt = (rgt st c (st 40 (8 * a + c)).toInt64).toInt - (st 36 a).toInt := by
    rw [i64_sub (by rw [Int32.toInt_toInt64]; omega) (by rw [Int32.toInt_toInt64]; omega), Int32.toInt_toInt64]
  have e2 : (er0 st a c).toInt = (rgt st c (st 40 (8 * a + c)).toInt64).toInt - (st 36 a).toInt - (dueA st (st 31 c)).toInt := by
    show (_ - _ : Int64).toInt = _
    rw [i64_sub (by rw [e1]; show _ ≤ _ - (due _ _ _ _ _).toInt; omega) (by rw [e1]; show _ - (due _ _ _ _ _).toInt < _; omega), e1]
  have d2 : 0 ≤ (dueA st (st 31 c)).toInt ∧ (dueA st (st 31 c)).toInt ≤ 120000000 := d
  have cr := crr_b hI (a := a) (c := c) (by omega)
  have e3 : (er0 st a c - crr st a c).toInt = (er0 st a c).toInt - (crr st a c).toInt := i64_sub (by omega) (by omega)
  unfold err
  split
  · split
    · omega
    · decide
  · omega
theorem cs1_b {z : Int64} (h1 : -2000000000000 ≤ z.toInt) (h2 : z.toInt ≤ 2000000000000) : 0 ≤ (cs1 z).toInt ∧ (cs1 z).toInt ≤ 300 := by
  have e9 : (9 : Int64).toInt = 9 := rfl
  have e10 : (10 : Int64).toInt = 10 := rfl
  have e2 : (2 : Int64).toInt = 2 := rfl
  have k : 0 ≤ (cs0 z).toInt := by
    unfold cs0
    split
    · have a : (9 - z).toInt = 9 - z.toInt := by rw [i64_sub (by rw [e9]; omega) (by rw [e9]; omega), e9]
      have b := i64_div_p (a := 9 - z) (b := 10) (M := 9 - z.toInt) (by decide) (by rw [a]; omega) (by rw [a]; omega)
      rw [i64_mul (by rw [e2]; omega) (by rw [e2]; omega), e2]
      omega
    · have a : (z + 9).toInt = z.toInt + 9 := by rw [i64_add (by rw [e9]; omega) (by rw [e9]; omega), e9]
      exact (i64_div_p (a := z + 9) (b := 10) (M := z.toInt + 9) (by decide) (by rw [a]; omega) (by rw [a]; omega)).1
  unfold cs1
  split
  · decide
  · omega
theorem i64_i32 {x : Int64} (h1 : 0 ≤ x.toInt) (h2 : x.toInt ≤ 300) : x.toInt32.toInt = x.toInt := by
  rw [Int64.toInt_toInt32]
  exact Int.bmod_eq_of_le (by omega) (by omega)
theorem i32_div2 {x : Int32} (h : 0 ≤ x.toInt) : (x / 2).toInt = x.toInt.tdiv 2 := by
  have e : (2 : Int32).toInt = 2 := rfl
  rw [Int32.toInt_div_of_ne_right x 2 (by decide), e]
theorem co2 {z : Int64} (h1 : 0 ≤ (cs1 z).toInt) (h2 : (cs1 z).toInt ≤ 300) : (cs1 z).toInt32 / 2 = (cs1 z / 2).toInt32 := by
  have e := i64_i32 h1 h2
  have d := i64_div_p (a := cs1 z) (b := 2) (M := 300) (by decide) h1 h2
  apply Int32.toInt_inj.mp
  rw [i32_div2 (by omega), e, i64_i32 d.1 d.2, i64_div (by decide)]
  rfl
theorem co3 {z : Int64} (h1 : 0 ≤ (cs1 z).toInt) (h2 : (cs1 z).toInt ≤ 300) : (if ((cs1 z).toInt32 / 2).toInt < (50 : Int32).toInt then (cs1 z).toInt32 / 2 else (50 : Int32)) = (if 50 < (cs1 z / 2).toInt then (50 : Int64) else cs1 z / 2).toInt32 := by
  have d := i64_div_p (a := cs1 z) (b := 2) (M := 300) (by decide) h1 h2
  have e := i64_i32 d.1 d.2
  have e50 : (50 : Int32).toInt = 50 := rfl
  rw [co2 h1 h2, e, e50]
  by_cases h : (cs1 z / 2).toInt < 50
  · rw [if_pos h, if_neg (by omega)]
  · rw [if_neg h]
    by_cases h3 : 50 < (cs1 z / 2).toInt
    · rw [if_pos h3]; rfl
    · rw [if_neg h3]
      exact (Int32.toInt_inj.mp (by rw [e, e50]; omega)).symm
