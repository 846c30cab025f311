/-! a list grows -/
def lgx (g : xG) (jl n q ed : Nat) : xG := fun i j => if i = 2 + jl ∧ j = n then q else if i = 1 ∧ j = jl then ed else g i j
def xlr (jl : Nat) : Nat := if jl = 0 then 2 else if jl = 1 then 17 else 18
theorem list_R {D : xD} {st st' : mS} {g : xG} {V V' : xV} {jl n q ed cap cap' : Nat} {f f' : Nat → Option Nat} {mc : Int32} {E : va_E} (h : xR D st g V) (hI : mI st) (hjl : jl < 2) (hn : n = cnt st (xcn jl)) (hn' : cnt st' (xcn jl) = n + 1) (ho : ∀ c, c = 1 ∨ c = 30 ∨ c = 35 → c ≠ xcn jl → cnt st' c = cnt st c) (h8 : ∀ j, st' 8 j = st 8 j)
    (hq : ∀ b e, V b = some e → b ≠ q) (hpe : V (g 1 jl) = some (.inl (D.2.2.2.2, cap, .inr (.inr (.inr (.inr f)))))) (hed : ed = g 1 jl ∧ cap' = cap ∨ ∀ b e, xu V q E b = some e → b ≠ ed) (hc : cap' = 10 ∨ cap' = 15 ∨ cap' = 22) (hlt : n < cap') (hf : ∀ i, i < n → f' i = some (g (2 + jl) i)) (hfn : f' n = some q)
    (hV : V' = xu (xu (xu V q E) ed (.inl (D.2.2.2.2, cap', .inr (.inr (.inr (.inr f')))))) (g 0 (xlr jl)) (.inr (8, [.int mc, .ref ed, .int (nI (n + 1))])))
    (hdep : ∀ i j k p, ¬ (i = 2 + jl ∧ j = n) → ¬ (i = 1 ∧ j = jl) → ¬ (i = 0 ∧ j = xlr jl) → xVal st i j → xDep i j k p → st' k p = st k p) (hE : xSh D st' (lgx g jl n q ed) (2 + jl) n E) (hor : xOr st' (lgx g jl n q ed)) : xR D st' (lgx g jl n q ed) V' := by
  have vl : xVal st 0 (xlr jl) := by
    refine Or.inl ⟨rfl, ?_⟩
    unfold xlr
    split
    · simp
    · split <;> simp
  have ve : xVal st 1 jl := Or.inr (Or.inl ⟨rfl, by omega⟩)
  obtain ⟨el, hl, hls⟩ := h.1 0 _ vl
  obtain ⟨f0, hE0⟩ := h.2.1.2
  have nE : cap ≠ 0 → g 1 jl ≠ D.1.2.1 := fun hz q => by
    rw [q, hE0] at hpe
    simp at hpe
    exact hz hpe.1.symm
  have edn : ∀ b e, V b = some e → b ≠ g 1 jl → b ≠ ed := fun b e hb hne => by
    rcases hed with ⟨rfl, -⟩ | h1
    · exact hne
    · exact h1 b e (by rw [xu_n (hq b e hb)]; exact hb)
  have edq : q ≠ ed := by
    rcases hed with ⟨rfl, -⟩ | h1
    · exact fun e => hq _ _ hpe e.symm
    · exact h1 q E (xu_s _ _ _)
  have edl : g 0 (xlr jl) ≠ ed := edn _ _ hl (h.ne vl ve (by omega) (by omega))
  have ql : g 0 (xlr jl) ≠ q := hq _ _ hl
  have edE : D.1.2.1 ≠ ed := by
    rcases hed with ⟨rfl, e2⟩ | h1
    · exact (nE (by omega)).symm
    · exact h1 _ _ (by rw [xu_n (hq _ _ hE0)]; exact hE0)
  have g1 : lgx g jl n q ed (2 + jl) n = q := if_pos ⟨rfl, rfl⟩
  have g2 : lgx g jl n q ed 1 jl = ed := by
    unfold lgx
    rw [if_neg (by omega), if_pos ⟨rfl, rfl⟩]
  have g0 : ∀ i j, ¬ (i = 2 + jl ∧ j = n) → ¬ (i = 1 ∧ j = jl) → lgx g jl n q ed i j = g i j := fun i j a b => by
    unfold lgx
    rw [if_neg a, if_neg b]
  have gl : lgx g jl n q ed 0 (xlr jl) = g 0 (xlr jl) := g0 _ _ (by omega) (by omega)
  have hvo : ∀ i j, xVal st' i j → ¬ (i = 2 + jl ∧ j = n) → xVal st i j := fun i j hv h1 => by
    have c1 : cnt st' 1 = cnt st 1 ∨ (jl = 0 ∧ cnt st' 1 = n + 1 ∧ n = cnt st 1) := by
      by_cases h0 : jl = 0
      · subst h0; exact Or.inr ⟨rfl, hn', hn⟩
      · exact Or.inl (ho 1 (by simp) (by unfold xcn; rw [if_neg h0]; split <;> decide))
    have c2 : cnt st' 30 = cnt st 30 ∨ (jl = 1 ∧ cnt st' 30 = n + 1 ∧ n = cnt st 30) := by
      by_cases h0 : jl = 1
      · subst h0; exact Or.inr ⟨rfl, hn', hn⟩
      · exact Or.inl (ho 30 (by simp) (by unfold xcn; split; decide; first | decide | (rw [if_neg h0]; decide)))
    have c3 : cnt st' 35 = cnt st 35 := ho 35 (by simp) (by unfold xcn; split; decide; first | decide | (rw [if_pos (by omega)]; decide))
    unfold xVal at hv ⊢
    rw [h8 j, c3] at hv
    rcases hv with hv | hv | hv | hv | hv | hv
    · exact Or.inl hv
    · exact Or.inr (Or.inl hv)
    · refine Or.inr (Or.inr (Or.inl ⟨hv.1, ?_⟩))
      rcases c1 with c1 | ⟨a1, a2, a3⟩ <;> omega
    · refine Or.inr (Or.inr (Or.inr (Or.inl ⟨hv.1, ?_⟩)))
      rcases c2 with c2 | ⟨a1, a2, a3⟩ <;> omega
    · exact Or.inr (Or.inr (Or.inr (Or.inr (Or.inl hv))))
    · exact Or.inr (Or.inr (Or.inr (Or.inr (Or.inr hv))))
  refine h.gen [(2 + jl, n), (1, jl), (0, xlr jl)] ?_ ?_ ?_ ?_ ?_ hor
  · intro i j hv hn2
    simp only [List.mem_cons, List.not_mem_nil, or_false, Prod.mk.injEq, not_or] at hn2
    obtain ⟨a1, a2, a3⟩ := hn2
    have hv0 := hvo i j hv a1
    obtain ⟨e, he, hs⟩ := h.1 i j hv0
    refine ⟨hv0, g0 i j a1 a2, ?_, fun e hs => ?_⟩
    · have n1 : g i j ≠ g 0 (xlr jl) := h.ne hv0 vl a3 (by omega)
      have n2 : g i j ≠ ed := by
        by_cases hee : g i j = g 1 jl
        · rcases h.2.1.1 i j 1 jl hv0 ve hee with q | ⟨q1, q2, q3⟩
          · exact absurd q a2
          · rw [q3]; exact edE
        · exact edn _ _ he hee
      rw [hV, xu_n n1, xu_n n2, xu_n (hq _ _ he)]
    · refine xSh.sameG (fun e8 => ?_) hI.2.2.2.2.1 (fun k p hd => hdep i j k p a1 a2 a3 hv0 hd) (fun i' j' hd => g0 i' j' ?_ ?_) (fun _ => g0 _ _ (by omega) (by omega)) (fun _ c _ => g0 _ _ (by omega) (by omega)) hs
      · rcases hv0 with ⟨q, -⟩ | ⟨q, -⟩ | ⟨q, -⟩ | ⟨q, -⟩ | ⟨q, -⟩ | ⟨-, q, -⟩ <;> omega
      · unfold xDg at hd
        split at hd
        · omega
        · rintro ⟨b1, b2⟩
          rcases hd with hd | hd
          · omega
          · have : jl = j := by omega
            subst this
            exact a2 ⟨rfl, rfl⟩
        · omega
        · omega
        · exact hd.elim
      · unfold xDg at hd
        split at hd
        · rintro ⟨b1, b2⟩
          unfold xlr at a3
          rcases hd with hd | hd | hd | hd | hd
          · omega
          · have : jl = 0 := by omega
            subst this
            exact a3 ⟨rfl, hd.1⟩
          · have : jl = 1 := by omega
            subst this
            exact a3 ⟨rfl, hd.1⟩
          · omega
          · omega
        · rintro ⟨b1, b2⟩
          rcases hd with hd | hd
          · exact a2 ⟨rfl, by omega⟩
          · omega
        · omega
        · omega
        · exact hd.elim
  · intro r hr
    simp only [List.mem_cons, List.not_mem_nil, or_false] at hr
    rcases hr with rfl | rfl | rfl
    · refine ⟨E, ?_, hE⟩
      show V' (lgx g jl n q ed (2 + jl) n) = _
      rw [g1, hV, xu_n (Ne.symm ql), xu_n edq, xu_s]
    · refine ⟨_, ?_, cap', f', rfl, Or.inr hc, by rw [hn']; exact hlt, fun p hp => ?_⟩
      · show V' (lgx g jl n q ed 1 jl) = _
        rw [g2, hV, xu_n (Ne.symm edl), xu_s]
      · rw [hn'] at hp
        rcases Nat.lt_or_ge p n with q | q
        · rw [hf p q, g0 _ _ (by omega) (by omega)]
        · have : p = n := by omega
          rw [this, hfn, g1]
    · refine ⟨.inr (8, [.int mc, .ref ed, .int (nI (n + 1))]), ?_, ?_⟩
      · show V' (lgx g jl n q ed 0 (xlr jl)) = _
        rw [gl, hV, xu_s]
      · show xSh0 D st' (lgx g jl n q ed) (xlr jl) _
        rcases (show jl = 0 ∨ jl = 1 by omega) with rfl | rfl
        · exact ⟨mc, by rw [g2]; have e : cnt st' 1 = n + 1 := hn'; rw [e]⟩
        · exact ⟨mc, by rw [g2]; have e : cnt st' 30 = n + 1 := hn'; rw [e]⟩
  · intro r hr i j hv hn2 e
    simp only [List.mem_cons, List.not_mem_nil, or_false, Prod.mk.injEq, not_or] at hn2 hr
    obtain ⟨a1, a2, a3⟩ := hn2
    have hv0 := hvo i j hv a1
    obtain ⟨e1, he, hs⟩ := h.1 i j hv0
    exfalso
    rcases hr with rfl | rfl | rfl
    · rw [show lgx g jl n q ed (2 + jl, n).1 (2 + jl, n).2 = q from g1] at e
      exact hq _ _ he e.symm
    · rw [show lgx g jl n q ed (1, jl).1 (1, jl).2 = ed from g2] at e
      by_cases hee : g i j = g 1 jl
      · rcases h.2.1.1 i j 1 jl hv0 ve hee with q | ⟨q1, q2, q3⟩
        · exact a2 q
        · rw [q3] at e; exact edE e.symm
      · exact edn _ _ he hee e.symm
    · rw [show lgx g jl n q ed (0, xlr jl).1 (0, xlr jl).2 = g 0 (xlr jl) from gl] at e
      exact h.ne hv0 vl a3 (by omega) e.symm
  · intro r hr r2 hr2 e
    simp only [List.mem_cons, List.not_mem_nil, or_false] at hr hr2
    rcases hr with rfl | rfl | rfl <;> rcases hr2 with rfl | rfl | rfl
    · rfl
    · exact absurd (g1.symm.trans (e.trans g2)) edq
    · exact absurd (g1.symm.trans (e.trans gl)) (Ne.symm ql)
    · exact absurd (g2.symm.trans (e.trans g1)) (Ne.symm edq)
    · rfl
    · exact absurd (g2.symm.trans (e.trans gl)) (Ne.symm edl)
    · exact absurd (gl.symm.trans (e.trans g1)) ql
    · exact absurd (gl.symm.trans (e.trans g2)) edl
    · rfl
  · rw [hV, xu_n (Ne.symm (h.noE vl (by decide))), xu_n edE, xu_n (hq _ _ hE0)]
theorem road_obj {D : xD} {st : mS} {g : xG} {V : xV} (h : xR D st g V) {j : Nat} (hj : j < cnt st 1) : ∃ ci fs C T N, V (g 2 j) = some (.inr (ci, fs)) ∧ xCl[ci]? = some (C, T, N) ∧ Cond.castable C "java/lang/Object" ∈ lw_tbl := by
  have q := h.road hj
  unfold xRoE at q
  split at q
  · exact ⟨1, _, RX2, TX2, 5, q, rfl, q1507⟩
  · split at q
    · exact ⟨2, _, RX3, TX3, 6, q, rfl, q1508⟩
    · exact ⟨3, _, RX4, TX4, 7, q, rfl, q1509⟩
theorem ctl_obj {D : xD} {st : mS} {g : xG} {V : xV} (h : xR D st g V) {j : Nat} (hj : j < cnt st 30) : ∃ ci fs C T N, V (g 3 j) = some (.inr (ci, fs)) ∧ xCl[ci]? = some (C, T, N) ∧ Cond.castable C "java/lang/Object" ∈ lw_tbl := by
  obtain ⟨a, b, c, d, q, -⟩ := h.ctl hj
  exact ⟨4, _, RX6, TX6, 7, q, rfl, q1515⟩
theorem car_obj {D : xD} {st : mS} {g : xG} {V : xV} (h : xR D st g V) {j : Nat} (hj : j < cnt st 35) : ∃ ci fs C T N, V (g 4 j) = some (.inr (ci, fs)) ∧ xCl[ci]? = some (C, T, N) ∧ Cond.castable C "java/lang/Object" ∈ lw_tbl := by
  have q := h.car hj
  unfold xCaE at q
  split at q
  · exact ⟨5, _, RX7, TX7, 7, q, rfl, q1516⟩
  · split at q
    · exact ⟨6, _, RX8, TX8, 8, q, rfl, q1517⟩
    · exact ⟨7, _, RX9, TX9, 9, q, rfl, q1518⟩
