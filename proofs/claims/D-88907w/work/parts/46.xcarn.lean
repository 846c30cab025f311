/-! a new car -/
def cgx (g : xG) (n q t o c ed : Nat) : xG := fun i j => if i = 4 ∧ j = n then q else if i = 5 ∧ j = n then t else if i = 6 ∧ j = n then o else if i = 7 ∧ j = n then c else if i = 1 ∧ j = 2 then ed else if i = 9 ∧ j = n then 0 else if i = 10 + n then 0 else g i j
def xNe (a b : Nat) : Prop := a ≠ b
theorem xNe.sy {a b : Nat} (h : xNe a b) : xNe b a := Ne.symm h
theorem cgx_o {g : xG} {n q t o c ed i j : Nat} (hi : i < 9) (h1 : ¬ ((i = 4 ∨ i = 5 ∨ i = 6 ∨ i = 7) ∧ j = n)) (h2 : ¬ (i = 1 ∧ j = 2)) : cgx g n q t o c ed i j = g i j := by
  unfold cgx
  rw [if_neg (by omega), if_neg (by omega), if_neg (by omega), if_neg (by omega), if_neg h2, if_neg (by omega), if_neg (by omega)]
theorem cgx_4 {g : xG} {n q t o c ed : Nat} : cgx g n q t o c ed 4 n = q := if_pos ⟨rfl, rfl⟩
theorem cgx_5 {g : xG} {n q t o c ed : Nat} : cgx g n q t o c ed 5 n = t := by unfold cgx; rw [if_neg (by omega), if_pos ⟨rfl, rfl⟩]
theorem cgx_6 {g : xG} {n q t o c ed : Nat} : cgx g n q t o c ed 6 n = o := by unfold cgx; rw [if_neg (by omega), if_neg (by omega), if_pos ⟨rfl, rfl⟩]
theorem cgx_7 {g : xG} {n q t o c ed : Nat} : cgx g n q t o c ed 7 n = c := by unfold cgx; rw [if_neg (by omega), if_neg (by omega), if_neg (by omega), if_pos ⟨rfl, rfl⟩]
theorem cgx_1 {g : xG} {n q t o c ed : Nat} : cgx g n q t o c ed 1 2 = ed := by unfold cgx; rw [if_neg (by omega), if_neg (by omega), if_neg (by omega), if_neg (by omega), if_pos ⟨rfl, rfl⟩]
theorem cgx_9n {g : xG} {n q t o c ed : Nat} : cgx g n q t o c ed 9 n = 0 := by unfold cgx; rw [if_neg (by omega), if_neg (by omega), if_neg (by omega), if_neg (by omega), if_neg (by omega), if_pos ⟨rfl, rfl⟩]
theorem cgx_9 {g : xG} {n q t o c ed j : Nat} (hj : j ≠ n) : cgx g n q t o c ed 9 j = g 9 j := by unfold cgx; rw [if_neg (by omega), if_neg (by omega), if_neg (by omega), if_neg (by omega), if_neg (by omega), if_neg (fun e => hj e.2), if_neg (by omega)]
theorem cgx_10n {g : xG} {n q t o c ed : Nat} (p : Nat) : cgx g n q t o c ed (10 + n) p = 0 := by unfold cgx; rw [if_neg (by omega), if_neg (by omega), if_neg (by omega), if_neg (by omega), if_neg (by omega), if_neg (by omega), if_pos rfl]
theorem cgx_10 {g : xG} {n q t o c ed j : Nat} (p : Nat) (hj : j ≠ n) : cgx g n q t o c ed (10 + j) p = g (10 + j) p := by unfold cgx; rw [if_neg (by omega), if_neg (by omega), if_neg (by omega), if_neg (by omega), if_neg (by omega), if_neg (by omega), if_neg (by omega)]
theorem car_R {D : xD} {st : mS} {g : xG} {V V2 V' : xV} {q t o c ed cap cap' : Nat} {f f' : Nat → Option Nat} {mc s0 k : Int32} {E : va_E} (h : xR D st g V) (hI : mI st) (hn : cnt st 35 < 8)
    (hq : ∀ b e, V b = some e → b ≠ q) (ht : ∀ b e, V b = some e → b ≠ t) (ho : ∀ b e, V b = some e → b ≠ o) (hc : ∀ b e, V b = some e → b ≠ c) (nqt : xNe q t) (nqo : xNe q o) (nqc : xNe q c) (nto : xNe t o) (ntc : xNe t c) (noc : xNe o c)
    (hV2 : ∀ b e, V b = some e → V2 b = some e) (vq : V2 q = some E) (vt : V2 t = some (.inl (D.2.1, 8, .inl (fun _ => 0)))) (vo : V2 o = some (.inl (D.2.1, 8, .inl (fun _ => 0)))) (vc : V2 c = some (.inl (D.2.1, 8, .inl (fun _ => 0))))
    (hpe : V (g 1 2) = some (.inl (D.2.2.2.2, cap, .inr (.inr (.inr (.inr f)))))) (hed : ed = g 1 2 ∧ cap' = cap ∨ ∀ b e, V2 b = some e → b ≠ ed) (hcp : cap' = 10 ∨ cap' = 15 ∨ cap' = 22) (hlt : cnt st 35 < cap') (hf : ∀ i, i < cnt st 35 → f' i = some (g 4 i)) (hfn : f' (cnt st 35) = some q)
    (hV : V' = xu (xu V2 ed (.inl (D.2.2.2.2, cap', .inr (.inr (.inr (.inr f')))))) (g 0 18) (.inr (8, [.int mc, .ref ed, .int (nI (cnt st 35 + 1))]))) (hE : E = xCaE k (nI (cnt st 35)) s0 t o c 0 (g 0 0)) :
    xR D (mu (mu (mu st 36 (cnt st 35) s0) 37 (cnt st 35) k) 0 35 (nI (cnt st 35 + 1))) (cgx g (cnt st 35) q t o c ed) V' := by
  generalize hnn : cnt st 35 = n at *
  have e35 : cnt (mu (mu (mu st 36 n s0) 37 n k) 0 35 (nI (n + 1))) 35 = n + 1 := by
    show (mu _ 0 35 _ 0 35).toNatClampNeg = _
    rw [mu_s]
    exact nI_clamp (by omega)
  have vl : xVal st 0 18 := Or.inl ⟨rfl, by simp⟩
  have ve : xVal st 1 2 := Or.inr (Or.inl ⟨rfl, by omega⟩)
  obtain ⟨el, hl, hls⟩ := h.1 0 18 vl
  obtain ⟨f0, hE0⟩ := h.2.1.2
  have nE : cap ≠ 0 → g 1 2 ≠ D.1.2.1 := fun hz q => by
    rw [q, hE0] at hpe
    simp at hpe
    exact hz hpe.1.symm
  have edn : ∀ b e, V b = some e → b ≠ g 1 2 → b ≠ ed := fun b e hb hne => by
    rcases hed with ⟨rfl, -⟩ | h1
    · exact hne
    · exact h1 b e (hV2 b e hb)
  have edx : ∀ z e, V2 z = some e → (∀ b e, V b = some e → b ≠ z) → z ≠ ed := fun z e hz hfz => by
    rcases hed with ⟨rfl, -⟩ | h1
    · exact fun e => hfz _ _ hpe e.symm
    · exact h1 z _ hz
  have edq : xNe (q) ed := edx q _ vq hq
  have edt : xNe (t) ed := edx t _ vt ht
  have edo : xNe (o) ed := edx o _ vo ho
  have edc : xNe (c) ed := edx c _ vc hc
  have edl : xNe (g 0 18) ed := edn _ _ hl (h.ne vl ve (by omega) (by omega))
  have edE : xNe (D.1.2.1) ed := by
    rcases hed with ⟨rfl, e2⟩ | h1
    · exact Ne.symm (nE (by omega))
    · exact h1 _ _ (hV2 _ _ hE0)
  have G : ∀ i j, i < 9 → ¬ ((i = 4 ∨ i = 5 ∨ i = 6 ∨ i = 7) ∧ j = n) → ¬ (i = 1 ∧ j = 2) → cgx g n q t o c ed i j = g i j := fun i j a b c => cgx_o a b c
  have G4 : cgx g n q t o c ed 4 n = q := cgx_4
  have G5 : cgx g n q t o c ed 5 n = t := cgx_5
  have G6 : cgx g n q t o c ed 6 n = o := cgx_6
  have G7 : cgx g n q t o c ed 7 n = c := cgx_7
  have G1 : cgx g n q t o c ed 1 2 = ed := cgx_1
  have G0 : cgx g n q t o c ed 0 18 = g 0 18 := cgx_o (by decide) (by omega) (by decide)
  have G9n : cgx g n q t o c ed 9 n = 0 := cgx_9n
  have G9 : ∀ j, j ≠ n → cgx g n q t o c ed 9 j = g 9 j := fun j hj => cgx_9 hj
  have G10n : ∀ p, cgx g n q t o c ed (10 + n) p = 0 := fun p => cgx_10n p
  have G10 : ∀ j p, j ≠ n → cgx g n q t o c ed (10 + j) p = g (10 + j) p := fun j p hj => cgx_10 p hj
  have hvo : ∀ i j, xVal (mu (mu (mu st 36 n s0) 37 n k) 0 35 (nI (n + 1))) i j → ¬ ((i = 4 ∨ i = 5 ∨ i = 6 ∨ i = 7) ∧ j = n) → xVal st i j := fun i j hv h1 => by
    have hv : (i = 0 ∧ (j = 0 ∨ j = 2 ∨ j = 3 ∨ j = 5 ∨ j = 6 ∨ j = 11 ∨ j = 14 ∨ j = 15 ∨ j = 17 ∨ j = 18 ∨ j = 19)) ∨ (i = 1 ∧ j < 3) ∨ (i = 2 ∧ j < cnt st 1) ∨ (i = 3 ∧ j < cnt st 30) ∨ ((i = 4 ∨ i = 5 ∨ i = 6 ∨ i = 7) ∧ j < cnt (mu (mu (mu st 36 n s0) 37 n k) 0 35 (nI (n + 1))) 35) ∨ (i = 8 ∧ j < 4 ∧ 0 ≤ (st 8 j).toInt) := hv
    rw [e35] at hv
    unfold xVal
    rw [hnn]
    omega
  have hxne : ∀ z, z = q ∨ z = t ∨ z = o ∨ z = c → ∀ b e, V b = some e → b ≠ z := fun z hz => by
    rcases hz with rfl | rfl | rfl | rfl <;> assumption
  refine h.gen [(4, n), (5, n), (6, n), (7, n), (1, 2), (0, 18)] ?_ ?_ ?_ ?_ ?_ ?_
  · intro i j hv hn2
    simp only [List.mem_cons, List.not_mem_nil, or_false, Prod.mk.injEq, not_or] at hn2
    obtain ⟨a1, a2, a3, a4, a5, a6⟩ := hn2
    have a0 : ¬ ((i = 4 ∨ i = 5 ∨ i = 6 ∨ i = 7) ∧ j = n) := by omega
    have hv0 := hvo i j hv a0
    obtain ⟨e, he, hs⟩ := h.1 i j hv0
    refine ⟨hv0, G i j hv0.lt9 a0 a5, ?_, fun e hs => ?_⟩
    · have n1 : xNe (g i j) (g 0 18) := h.ne hv0 vl a6 (by omega)
      have n2 : xNe (g i j) ed := by
        by_cases hee : g i j = g 1 2
        · rcases h.2.1.1 i j 1 2 hv0 ve hee with q | ⟨q1, q2, q3⟩
          · exact absurd q a5
          · rw [q3]; exact edE
        · exact edn _ _ he hee
      rw [hV, xu_n n1, xu_n n2, hV2 _ _ he, he]
    · have hi9 := hv0.lt9
      refine xSh.sameG (fun e8 => ?_) hI.2.2.2.2.1 (fun k p hd => ?_) (fun i' j' hd => ?_) (fun e4 => G9 j (fun e => a1 ⟨e4, e⟩)) (fun e6 p _ => G10 j p (fun e => a3 ⟨e6, e⟩)) hs
      · rcases hv0 with ⟨q, -⟩ | ⟨q, -⟩ | ⟨q, -⟩ | ⟨q, -⟩ | ⟨q, -⟩ | ⟨-, q, -⟩ <;> omega
      · rw [mu_k (fun e => by obtain ⟨e1, e2⟩ := e; subst e1; subst e2; have := xd0_35 hd; have hj3 : i = 1 → j < 3 := (by intro e1; rcases hv0 with ⟨q, -⟩ | ⟨-, q⟩ | ⟨q, -⟩ | ⟨q, -⟩ | ⟨q, -⟩ | ⟨q, -⟩ <;> omega); omega), mu_k (fun e => by obtain ⟨e1, e2⟩ := e; subst e1; exact absurd (xd_37 hd) (by omega)), mu_k (fun e => by obtain ⟨e1, e2⟩ := e; subst e1; exact absurd (xd_36 hd) (by omega))]
      · unfold xDg at hd
        split at hd
        · exact G i' j' (by omega) (by omega) (by omega)
        · have hj3 : j < 3 := by rcases hv0 with ⟨q, -⟩ | ⟨-, q⟩ | ⟨q, -⟩ | ⟨q, -⟩ | ⟨q, -⟩ | ⟨q, -⟩ <;> omega
          exact G i' j' (by omega) (by omega) (by omega)
        · exact G i' j' (by omega) (by omega) (by omega)
        · exact G i' j' (by omega) (by omega) (by omega)
        · exact hd.elim
  · intro r hr
    simp only [List.mem_cons, List.not_mem_nil, or_false] at hr
    have h0 : ∀ p, p < 8 → st 39 (8 * n + p) = 0 ∧ st 40 (8 * n + p) = 0 ∧ st 41 (8 * n + p) = 0 := fun p hp => (hI.2.2.2.1.2 (8 * n + p) (by omega)).2.2.2 (by omega)
    rcases hr with rfl | rfl | rfl | rfl | rfl | rfl
    · refine ⟨E, ?_, ?_⟩
      · show V' (cgx g n q t o c ed 4 n) = _
        rw [G4, hV, xu_n (Ne.symm (hq _ _ hl)), xu_n edq, vq]
      · show E = xCaE _ _ _ _ _ _ _ _
        show E = xCaE _ _ _ (cgx g n q t o c ed 5 n) (cgx g n q t o c ed 6 n) (cgx g n q t o c ed 7 n) (cgx g n q t o c ed 9 n) (cgx g n q t o c ed 0 0)
        rw [G5, G6, G7, G9n, G 0 0 (by omega) (by omega) (by omega), hE]
        simp [mu]
    · refine ⟨_, ?_, fun _ => 0, rfl, fun p hp => ?_⟩
      · show V' (cgx g n q t o c ed 5 n) = _
        rw [G5, hV, xu_n (Ne.symm (ht _ _ hl)), xu_n edt, vt]
      · show 0 = mu _ 0 35 _ 40 (8 * n + p)
        rw [mu_r (by decide), mu_r (by decide), mu_r (by decide), (h0 p hp).2.1]
    · refine ⟨_, ?_, fun _ => 0, rfl, fun p hp => ?_⟩
      · show V' (cgx g n q t o c ed 6 n) = _
        rw [G6, hV, xu_n (Ne.symm (ho _ _ hl)), xu_n edo, vo]
      · show 0 = nI (cgx g n q t o c ed (10 + n) p)
        rw [G10n]; rfl
    · refine ⟨_, ?_, fun _ => 0, rfl, fun p hp => ?_⟩
      · show V' (cgx g n q t o c ed 7 n) = _
        rw [G7, hV, xu_n (Ne.symm (hc _ _ hl)), xu_n edc, vc]
      · show 0 = mu _ 0 35 _ 41 (8 * n + p)
        rw [mu_r (by decide), mu_r (by decide), mu_r (by decide), (h0 p hp).2.2]
    · refine ⟨_, ?_, cap', f', rfl, Or.inr hcp, by show cnt _ 35 ≤ _; rw [e35]; exact hlt, fun p hp => ?_⟩
      · show V' (cgx g n q t o c ed 1 2) = _
        rw [G1, hV, xu_n (Ne.symm edl), xu_s]
      · have hp : p < cnt (mu (mu (mu st 36 n s0) 37 n k) 0 35 (nI (n + 1))) 35 := hp
        rw [e35] at hp
        show f' p = some (cgx g n q t o c ed 4 p)
        rcases Nat.lt_or_ge p n with q | q
        · rw [hf p q, G 4 p (by omega) (by omega) (by omega)]
        · have : p = n := by omega
          rw [this, hfn, G4]
    · refine ⟨.inr (8, [.int mc, .ref ed, .int (nI (n + 1))]), ?_, mc, ?_⟩
      · show V' (cgx g n q t o c ed 0 18) = _
        rw [G0, hV, xu_s]
      · rw [G1, e35]
  · intro r hr i j hv hn2 e
    simp only [List.mem_cons, List.not_mem_nil, or_false, Prod.mk.injEq, not_or] at hn2 hr
    obtain ⟨a1, a2, a3, a4, a5, a6⟩ := hn2
    have hv0 := hvo i j hv (by omega)
    obtain ⟨e1, he, hs⟩ := h.1 i j hv0
    exfalso
    rcases hr with rfl | rfl | rfl | rfl | rfl | rfl
    · exact hq _ _ he (G4.symm.trans e).symm
    · exact ht _ _ he (G5.symm.trans e).symm
    · exact ho _ _ he (G6.symm.trans e).symm
    · exact hc _ _ he (G7.symm.trans e).symm
    · have e := G1.symm.trans e
      by_cases hee : g i j = g 1 2
      · rcases h.2.1.1 i j 1 2 hv0 ve hee with q | ⟨q1, q2, q3⟩
        · exact a5 q
        · rw [q3] at e; exact edE e.symm
      · exact edn _ _ he hee e.symm
    · exact h.ne hv0 vl a6 (by omega) (G0.symm.trans e).symm
  · intro r hr r2 hr2 e
    simp only [List.mem_cons, List.not_mem_nil, or_false] at hr hr2
    have l1 : xNe (g 0 18) q := hq _ _ hl
    have l2 : xNe (g 0 18) t := ht _ _ hl
    have l3 : xNe (g 0 18) o := ho _ _ hl
    have l4 : xNe (g 0 18) c := hc _ _ hl
    rcases hr with rfl | rfl | rfl | rfl | rfl | rfl <;> rcases hr2 with rfl | rfl | rfl | rfl | rfl | rfl <;> first | rfl | (exfalso; simp only [G4, G5, G6, G7, G1, G0] at e; first | exact nqt e | exact nqo e | exact nqc e | exact nto e | exact ntc e | exact noc e | exact edq e | exact edt e | exact edo e | exact edc e | exact l1 e | exact l2 e | exact l3 e | exact l4 e | exact edl e | exact nqt e.symm | exact nqo e.symm | exact nqc e.symm | exact nto e.symm | exact ntc e.symm | exact noc e.symm | exact edq e.symm | exact edt e.symm | exact edo e.symm | exact edc e.symm | exact l1 e.symm | exact l2 e.symm | exact l3 e.symm | exact l4 e.symm | exact edl e.symm)
  · rw [hV, xu_n (Ne.symm (h.noE vl (by decide))), xu_n edE, hV2 _ _ hE0, hE0]
  · intro j hj
    rw [e35] at hj
    have c38 : cnt (mu (mu (mu st 36 n s0) 37 n k) 0 35 (nI (n + 1))) 38 = cnt st 38 := rfl
    have m39 : ∀ p, mu (mu (mu st 36 n s0) 37 n k) 0 35 (nI (n + 1)) 39 p = st 39 p := fun p => rfl
    simp only [c38, m39]
    rcases Nat.lt_or_ge j n with hjn | hjn
    · have := h.2.2 j (by omega)
      simp only [G9 j (by omega), G10 j _ (show j ≠ n by omega)]
      exact this
    · have : j = n := by omega
      subst this
      rw [G9n]
      refine ⟨Nat.zero_le _, fun p hp => ?_⟩
      have z1 := ((hI.2.2.2.1.2 (8 * j + p) (by omega)).2.2.2 (by omega)).1
      refine ⟨by rw [G10n, z1]; exact ⟨fun _ => rfl, fun _ => rfl⟩, by rw [G10n]; exact Nat.le_refl _, fun d hd => ?_⟩
      have z2 := ((hI.2.2.2.1.2 (8 * j + d) (by omega)).2.2.2 (by omega)).1
      rw [G10n, G10n, z1, z2]
      exact ⟨fun q => absurd q (Nat.lt_irrefl _), fun q => absurd q (Int.lt_irrefl _)⟩
