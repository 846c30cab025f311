/-! what a row is worth: as the reference says -/
theorem xfr_ldr {st : mS} (hI : mI st) {j : Nat} (hj : j < cnt st 1) (x : Int32) : (xfr (st 5 j) (st 2 j) (st 3 j) (st 6 j) (st 7 j) x = -9 ↔ (ldr st j x).toInt < 0) ∧ (¬ xfr (st 5 j) (st 2 j) (st 3 j) (st 6 j) (st 7 j) x = -9 → xfr (st 5 j) (st 2 j) (st 3 j) (st 6 j) (st 7 j) x = ldr st j x) := by
  obtain ⟨h6, h7, h72, -, hh⟩ := hI.2.1 j (by have := hI.r16; omega)
  obtain ⟨hk, ha, hb, -, hab⟩ := hh hj
  have e9 : (-9 : Int32).toInt = -9 := rfl
  have na : ¬ st 2 j = -9 := fun q => by rw [q, e9] at ha; omega
  have nb : ¬ st 3 j = -9 := fun q => by rw [q, e9] at hb; omega
  have m1 : ((-1 : Int32).toInt < 0) := by decide
  have pa : ¬ (st 2 j).toInt < 0 := by omega
  have pb : ¬ (st 3 j).toInt < 0 := by omega
  unfold ldr
  by_cases c6 : st 6 j = 0
  · rw [if_pos c6]
    rcases hk with e | e | e
    · have e7 := h72 (by rw [e]; decide)
      rw [if_pos e7, e]
      simp only [xfr, if_true, if_pos c6]
      by_cases c1 : st 2 j = x
      · rw [if_pos c1, if_pos c1.symm]
        exact ⟨⟨fun q => absurd q nb, fun q => absurd q pb⟩, fun _ => rfl⟩
      · rw [if_neg c1, if_neg (fun q => c1 q.symm)]
        by_cases c2 : st 3 j = x
        · rw [if_pos c2, if_pos c2.symm, if_neg (by decide)]
          exact ⟨⟨fun q => absurd q na, fun q => absurd q pa⟩, fun _ => rfl⟩
        · rw [if_neg c2, if_neg (fun q => c2 q.symm)]
          exact ⟨⟨fun _ => m1, fun _ => rfl⟩, fun q => absurd rfl q⟩
    · have e7 := h72 (by rw [e]; decide)
      rw [if_pos e7, e]
      have x1 : xfr 1 (st 2 j) (st 3 j) (st 6 j) (st 7 j) x = if x = st 3 j then (-9) else if st 6 j = 0 then if x = st 2 j then st 3 j else if x = st 3 j then st 2 j else (-9) else (-9) := rfl
      rw [x1, if_pos c6]
      by_cases c1 : st 2 j = x
      · rw [if_pos c1, if_neg (fun q => hab (c1.trans q)), if_pos c1.symm]
        exact ⟨⟨fun q => absurd q nb, fun q => absurd q pb⟩, fun _ => rfl⟩
      · rw [if_neg c1, if_neg (fun q => c1 q.symm : ¬ x = st 2 j)]
        by_cases c2 : st 3 j = x
        · rw [if_pos c2, if_pos c2.symm, if_pos rfl]
          exact ⟨⟨fun _ => m1, fun _ => rfl⟩, fun q => absurd rfl q⟩
        · rw [if_neg c2, if_neg (fun q => c2 q.symm : ¬ x = st 3 j), if_neg (fun q => c2 q.symm : ¬ x = st 3 j)]
          exact ⟨⟨fun _ => m1, fun _ => rfl⟩, fun q => absurd rfl q⟩
    · rw [e]
      have x2 : xfr 2 (st 2 j) (st 3 j) (st 6 j) (st 7 j) x = if st 7 j = 0 ∧ st 6 j = 0 then if x = st 2 j then st 3 j else if x = st 3 j then st 2 j else (-9) else (-9) := rfl
      rw [x2]
      by_cases c7 : st 7 j = 0
      · rw [if_pos c7, if_pos ⟨c7, c6⟩]
        by_cases c1 : st 2 j = x
        · rw [if_pos c1, if_pos c1.symm]
          exact ⟨⟨fun q => absurd q nb, fun q => absurd q pb⟩, fun _ => rfl⟩
        · rw [if_neg c1, if_neg (fun q => c1 q.symm)]
          by_cases c2 : st 3 j = x
          · rw [if_pos c2, if_pos c2.symm, if_neg (by decide)]
            exact ⟨⟨fun q => absurd q na, fun q => absurd q pa⟩, fun _ => rfl⟩
          · rw [if_neg c2, if_neg (fun q => c2 q.symm)]
            exact ⟨⟨fun _ => m1, fun _ => rfl⟩, fun q => absurd rfl q⟩
      · rw [if_neg c7, if_neg (fun q => c7 q.1)]
        exact ⟨⟨fun _ => m1, fun _ => rfl⟩, fun q => absurd rfl q⟩
  · rw [if_neg c6]
    have x0 : xfr (st 5 j) (st 2 j) (st 3 j) (st 6 j) (st 7 j) x = -9 := by
      unfold xfr
      split
      · first | rfl | rw [if_neg c6]
      · split
        · split
          · rfl
          · first | rfl | rw [if_neg c6]
        · first | rfl | rw [if_neg (fun q => c6 q.2)]
    exact ⟨⟨fun _ => m1, fun _ => x0⟩, fun q => absurd x0 q⟩
theorem wah_iff {st : mS} {b x : Nat} : ∀ (n j : Nat) (w : Int32), wah st b x n j w = 0 ↔ w = 0 ∧ ∀ y, j ≤ y → y < j + n → ¬ st 10 (b + y) = st 10 (b + x) := by
  intro n
  induction n with
  | zero => intro j w; exact ⟨fun h => ⟨h, fun y h1 h2 => by omega⟩, fun h => h.1⟩
  | succ n ih =>
    intro j w
    simp only [wah]
    rw [ih]
    constructor
    · rintro ⟨h1, h2⟩
      by_cases hw : w = 0
      · rw [if_pos hw] at h1
        by_cases he : st 10 (b + j) = st 10 (b + x)
        · rw [if_pos he] at h1; exact absurd h1 (by decide)
        · refine ⟨hw, fun y q1 q2 => ?_⟩
          by_cases hy : y = j
          · rw [hy]; exact he
          · exact h2 y (by omega) (by omega)
      · rw [if_neg hw] at h1; exact absurd h1 (by decide)
    · rintro ⟨h1, h2⟩
      rw [if_pos h1, if_neg (h2 j (Nat.le_refl _) (by omega))]
      exact ⟨rfl, fun y q1 q2 => h2 y (by omega) (by omega)⟩
theorem xwo_prv {st : mS} (hI : mI st) {f : Nat → Int32} {b N : Nat} (hN : N ≤ 33) (hf : ∀ x, x < N → f x = st 10 (b + x)) : ∀ (n x : Nat) (s : Int32) (m : Nat) (u : Int32) (a : Int64), x + n = N → m ≤ cnt st 12 → (∀ r, r < 16 → (bt u r = true ↔ ∃ y, y < x ∧ f y = nI r)) → xwo st f N n x s m u a = prv st b N n x s m a := by
  intro n
  induction n with
  | zero =>
    intro x s m u a hx hm hu
    simp only [xwo, prv]
    have e : (nI N).toInt = (N : Int) := nI_toInt (by omega)
    by_cases h1 : m = cnt st 12
    · rw [if_pos h1, if_neg (show ¬ m < cnt st 12 by omega)]
      by_cases h2 : s = st 13 (cnt st 12 - 1)
      · rw [if_pos h2, if_pos h2]
        by_cases h3 : N = 0
        · rw [if_pos h3, if_neg (fun q => by have := q.1; omega)]
        · rw [if_neg h3]
          by_cases h4 : 10 < N
          · rw [if_pos h4, if_neg (fun q => by have := q.2; omega)]
          · rw [if_neg h4, if_pos ⟨by omega, by omega⟩]
      · rw [if_neg h2, if_neg h2]
        split
        · rfl
        · split <;> rfl
    · rw [if_neg h1, if_pos (show m < cnt st 12 by omega)]
      split
      · rfl
      · split <;> rfl
  | succ n ih =>
    intro x s m u a hx hm hu
    simp only [xwo, prv]
    rw [← hf x (by omega)]
    by_cases h1 : inN (f x) (st 0 1)
    · rw [if_pos h1, if_pos h1]
      have hl : (f x).toNatClampNeg < cnt st 1 := by
        have := cnt_i hI.R.1
        have := clamp_i (x := f x) h1.1
        omega
      have hn := clamp_n (x := f x) h1.1
      have h16 := hI.r16
      have hb := hu (f x).toNatClampNeg (by omega)
      have hw : wah st b x x 0 0 = 0 ↔ ¬ bt u (f x).toNatClampNeg = true := by
        rw [wah_iff, hb]
        constructor
        · rintro ⟨-, h2⟩ ⟨y, hy, e⟩
          exact h2 y (Nat.zero_le _) (by omega) (by rw [← hf y (by omega), ← hf x (by omega), e]; exact hn.symm)
        · intro h2
          refine ⟨rfl, fun y _ hy e => h2 ⟨y, by omega, ?_⟩⟩
          rw [hf y (by omega), e, ← hf x (by omega)]; exact hn
      by_cases h2 : bt u (f x).toNatClampNeg = true
      · rw [if_pos ((bit_t (by omega)).mpr h2), if_neg (fun q => hw.mp q h2)]
      · rw [if_neg (fun q => h2 ((bit_t (by omega)).mp q)), if_pos (hw.mpr h2)]
        obtain ⟨g1, g2⟩ := xfr_ldr hI hl s
        by_cases h3 : xfr (st 5 (f x).toNatClampNeg) (st 2 (f x).toNatClampNeg) (st 3 (f x).toNatClampNeg) (st 6 (f x).toNatClampNeg) (st 7 (f x).toNatClampNeg) s = -9
        · rw [if_pos h3, if_pos (g1.mp h3)]
        · rw [if_neg h3, if_neg (fun q => h3 (g1.mpr q)), g2 h3]
          refine ih (x + 1) _ _ _ _ (by omega) (xma_le hI hm) (fun r hr => ?_)
          rw [bit_s (by omega) (by omega)]
          constructor
          · intro q
            rcases Bool.or_eq_true_iff.mp q with q | q
            · obtain ⟨y, hy, e⟩ := (hu r hr).mp q
              exact ⟨y, by omega, e⟩
            · exact ⟨x, by omega, by rw [of_decide_eq_true q]; exact hn⟩
          · rintro ⟨y, hy, e⟩
            by_cases hyx : y = x
            · subst hyx
              have : r = (f y).toNatClampNeg := by rw [e, nI_clamp (by omega)]
              simp [this]
            · rw [(hu r hr).mpr ⟨y, by omega, e⟩]; rfl
    · rw [if_neg h1, if_neg h1]
theorem worth_eq {st : mS} (hI : mI st) {f : Nat → Int32} {b N : Nat} (hN : N ≤ 33) (hB1 : 1 ≤ cnt st 12) (hf : ∀ x, x < N → f x = st 10 (b + x)) : xwo st f N N 0 (st 13 0) 1 0 0 = prv st b N N 0 (st 13 0) 1 0 :=
  xwo_prv hI hN hf N 0 _ 1 0 0 (by omega) hB1 (fun r hr => by rw [show bt 0 r = false from b_0 r]; simp)
