/-! the reference's methods, fourth part: speeds, controls, cars -/
theorem i64_ne {v : Int32} (h : ¬ v = 0) : ¬ v.toInt64 = 0 := fun q => h (Int32.toInt_inj.mp (by rw [← Int32.toInt_toInt64, q]; rfl))
theorem i64_sne {a b : Int32} (h : a.toInt < b.toInt) : ¬ b.toInt64 - a.toInt64 = 0 := fun q => by
  have h1 := i32_lo a
  have h2 := i32_hi a
  have h3 := i32_lo b
  have h4 := i32_hi b
  have e : (b.toInt64 - a.toInt64).toInt = b.toInt - a.toInt := by
    rw [i64_sub (by rw [Int32.toInt_toInt64, Int32.toInt_toInt64]; omega) (by rw [Int32.toInt_toInt64, Int32.toInt_toInt64]; omega), Int32.toInt_toInt64, Int32.toInt_toInt64]
  rw [q] at e
  have e0 : (0 : Int64).toInt = 0 := rfl
  omega
def sp_speed (st : mS) (d v : Int32) : Int32 × mS :=
  if inB v 1 3000 then if cnt st 24 = 0 then (-3, st) else if inB d 0 (st 0 25).toInt then if cnt st 27 = 8 then (-4, st) else (nI (cnt st 27 + 1), mu (mu (mu st 28 (cnt st 27) d) 29 (cnt st 27) v) 0 27 (nI (cnt st 27 + 1))) else (-2, st) else (-2, st)
def hdu (st : mS) : Nat → Nat → Int32 → Int32
  | 0, _, h => h
  | n + 1, i, h => hdu st n (i + 1) (if h = 0 then if st 28 i = 0 then 1 else 0 else 1)
def hasD (st : mS) : Prop := ¬ hdu st (cnt st 27) 0 0 = 0 ∧ 0 < cnt st 24
def dun (st : mS) (z : Int32) : Nat → Nat → Int32 → Int32 → Int32 × Int32
  | 0, _, v, x => (v, x)
  | n + 1, i, v, x => dun st z n (i + 1) (if st 28 i = z then st 29 i else v) (if z.toInt < (st 28 i).toInt then if (st 28 i).toInt < x.toInt then st 28 i else x else x)
def due (st : mS) (d : Int32) : Nat → Int32 → Int64 → Int64
  | 0, _, a => a
  | f + 1, z, a => if z.toInt < d.toInt then due st d f (dun st z (cnt st 27) 0 0 d).2 (a + (600 * ((dun st z (cnt st 27) 0 0 d).2 - z).toInt64) / (dun st z (cnt st 27) 0 0 d).1.toInt64) else a
def dueA (st : mS) (d : Int32) : Int64 := due st d d.toNatClampNeg 0 0
noncomputable def sp_due (st : mS) (d : Int32) : Int64 := @ite _ (hasD st) (Classical.propDecidable _) (if inB d 0 (st 0 25).toInt then dueA st d else LOST) LOST
theorem hdu_ex {st : mS} : ∀ (n i : Nat) (h : Int32), ¬ hdu st n i h = 0 → ¬ h = 0 ∨ ∃ k, i ≤ k ∧ k < i + n ∧ st 28 k = 0 := by
  intro n
  induction n with
  | zero => intro i h q; exact Or.inl q
  | succ n ih =>
    intro i h q
    rcases ih (i + 1) _ q with q1 | ⟨k, h1, h2, h3⟩
    · by_cases h0 : h = 0
      · rw [if_pos h0] at q1
        by_cases h4 : st 28 i = 0
        · exact Or.inr ⟨i, Nat.le_refl _, by omega, h4⟩
        · rw [if_neg h4] at q1; exact absurd rfl q1
      · exact Or.inl h0
    · exact Or.inr ⟨k, by omega, by omega, h3⟩
theorem dun_x {st : mS} {z : Int32} : ∀ (n i : Nat) (v x : Int32), z.toInt < x.toInt → z.toInt < (dun st z n i v x).2.toInt ∧ (dun st z n i v x).2.toInt ≤ x.toInt ∧ ((dun st z n i v x).2 = x ∨ ∃ k, i ≤ k ∧ k < i + n ∧ (dun st z n i v x).2 = st 28 k) := by
  intro n
  induction n with
  | zero => intro i v x h; exact ⟨h, Int.le_refl _, Or.inl rfl⟩
  | succ n ih =>
    intro i v x h
    by_cases h1 : z.toInt < (st 28 i).toInt
    · by_cases h2 : (st 28 i).toInt < x.toInt
      · have e : dun st z (n + 1) i v x = dun st z n (i + 1) (if st 28 i = z then st 29 i else v) (st 28 i) := by simp only [dun, if_pos h1, if_pos h2]
        rw [e]
        obtain ⟨a, b, c⟩ := ih (i + 1) (if st 28 i = z then st 29 i else v) (st 28 i) h1
        refine ⟨a, by omega, ?_⟩
        rcases c with c | ⟨k, c1, c2, c3⟩
        · exact Or.inr ⟨i, Nat.le_refl _, by omega, c⟩
        · exact Or.inr ⟨k, by omega, by omega, c3⟩
      · have e : dun st z (n + 1) i v x = dun st z n (i + 1) (if st 28 i = z then st 29 i else v) x := by simp only [dun, if_pos h1, if_neg h2]
        rw [e]
        obtain ⟨a, b, c⟩ := ih (i + 1) (if st 28 i = z then st 29 i else v) x h
        refine ⟨a, b, ?_⟩
        rcases c with c | ⟨k, c1, c2, c3⟩
        · exact Or.inl c
        · exact Or.inr ⟨k, by omega, by omega, c3⟩
    · have e : dun st z (n + 1) i v x = dun st z n (i + 1) (if st 28 i = z then st 29 i else v) x := by simp only [dun, if_neg h1]
      rw [e]
      obtain ⟨a, b, c⟩ := ih (i + 1) (if st 28 i = z then st 29 i else v) x h
      refine ⟨a, b, ?_⟩
      rcases c with c | ⟨k, c1, c2, c3⟩
      · exact Or.inl c
      · exact Or.inr ⟨k, by omega, by omega, c3⟩
theorem dun_v {st : mS} {z : Int32} : ∀ (n i : Nat) (v x : Int32), (∀ k, i ≤ k → k < i + n → ¬ st 29 k = 0) → (¬ v = 0 ∨ ∃ k, i ≤ k ∧ k < i + n ∧ st 28 k = z) → ¬ (dun st z n i v x).1 = 0 := by
  intro n
  induction n with
  | zero =>
    intro i v x _ h
    rcases h with h | ⟨k, h1, h2, _⟩
    · exact h
    · omega
  | succ n ih =>
    intro i v x hp h
    refine ih (i + 1) _ _ (fun k h1 h2 => hp k (by omega) (by omega)) ?_
    by_cases h1 : st 28 i = z
    · rw [if_pos h1]; exact Or.inl (hp i (Nat.le_refl _) (by omega))
    · rw [if_neg h1]
      rcases h with h | ⟨k, h2, h3, h4⟩
      · exact Or.inl h
      · refine Or.inr ⟨k, ?_, by omega, h4⟩
        rcases Nat.lt_or_ge i k with q | q
        · exact q
        · exact absurd (by rw [show i = k by omega]; exact h4) h1
/-- the road at the place d: i roads gone, e metres -/
def rdt (st : mS) (d : Int32) : Nat → Nat → Int32 → Int32
  | 0, _, _ => st 26 (cnt st 24 - 1)
  | n + 1, i, e => if d.toInt < (e + st 4 (st 26 i).toNatClampNeg).toInt then st 26 i else rdt st d n (i + 1) (e + st 4 (st 26 i).toNatClampNeg)
def sp_roadAt (st : mS) (d : Int32) : Int32 := if cnt st 24 = 0 then -3 else if inB d 0 (st 0 25).toInt then rdt st d (cnt st 24) 0 0 else -2
def ctl (st : mS) (d : Int32) : Nat → Nat → Int32 × mS
  | 0, _ => if cnt st 30 = 8 then (-4, st) else (nI (cnt st 30), mu (mu (mu (mu st 31 (cnt st 30) d) 32 (cnt st 30) 0) 33 (cnt st 30) 0) 0 30 (nI (cnt st 30 + 1)))
  | n + 1, i => if st 31 i = d then (-3, st) else ctl st d n (i + 1)
def sp_control (st : mS) (d : Int32) : Int32 × mS := if cnt st 24 = 0 then (-3, st) else if inB d 1 (st 0 25).toInt then ctl st d (cnt st 30) 0 else (-2, st)
def sp_watch (st : mS) (c a b x y : Int32) : Int32 × mS :=
  if inN c (st 0 30) then if inB a 0 1000000 then if inB b 0 1000000 then if inB x 0 1000000 then if inB y 0 1000000 then if a.toInt < b.toInt then if x.toInt < y.toInt then (1, mu (mu (mu (mu (mu st 33 c.toNatClampNeg 1) 34 (4 * c.toNatClampNeg) a) 34 (4 * c.toNatClampNeg + 1) b) 34 (4 * c.toNatClampNeg + 2) x) 34 (4 * c.toNatClampNeg + 3) y) else (-2, st) else (-2, st) else (-2, st) else (-2, st) else (-2, st) else (-2, st) else (-1, st)
def rgt (st : mS) (c : Nat) (t : Int64) : Int64 :=
  if st 33 c = 0 then t else (st 34 (4 * c)).toInt64 + ((t - (st 34 (4 * c + 2)).toInt64) * ((st 34 (4 * c + 1)).toInt64 - (st 34 (4 * c)).toInt64)) / ((st 34 (4 * c + 3)).toInt64 - (st 34 (4 * c + 2)).toInt64)
def sp_right (st : mS) (c t : Int32) : Int64 := if inN c (st 0 30) then if inB t 0 1000000 then rgt st c.toNatClampNeg t.toInt64 else LOST else LOST
def sp_strike (st : mS) (c is : Int32) : Int32 × mS :=
  if inN c (st 0 30) then (if st 32 c.toNatClampNeg = is then 0 else 1, mu st 32 c.toNatClampNeg is) else (-1, st)
def sp_car (st : mS) (t k : Int32) : Int32 × mS :=
  if inB t 0 500000 then if inB k 0 2 then if cnt st 35 = 8 then (-4, st) else (nI (cnt st 35), mu (mu (mu st 36 (cnt st 35) t) 37 (cnt st 35) k) 0 35 (nI (cnt st 35 + 1))) else (-2, st) else (-2, st)
def sp_clock (st : mS) (a c t : Int32) : Int32 × mS :=
  if inN a (st 0 35) then if inN c (st 0 30) then if inB t 0 1000000 then if 0 < (st 39 (8 * a.toNatClampNeg + c.toNatClampNeg)).toInt then (-3, st) else (1, mu (mu (mu st 0 38 (nI (cnt st 38 + 1))) 39 (8 * a.toNatClampNeg + c.toNatClampNeg) (nI (cnt st 38 + 1))) 40 (8 * a.toNatClampNeg + c.toNatClampNeg) t) else (-2, st) else (-1, st) else (-1, st)
def sp_allow (st : mS) (a c t : Int32) : Int32 × mS :=
  if inN a (st 0 35) then if inN c (st 0 30) then if inB t 0 3000 then (st 41 (8 * a.toNatClampNeg + c.toNatClampNeg), mu st 41 (8 * a.toNatClampNeg + c.toNatClampNeg) t) else (-2, st) else (-1, st) else (-1, st)
set_option maxHeartbeats 4000000 in
set_option maxRecDepth 100000 in
theorem mt_speed (l : Launch) (G : mG) (st : mS) (d : Int32) (v : Int32)  (hL : 0 ≤ (st 0 24).toInt ∧ (st 0 24).toInt ≤ 10) (hV : 0 ≤ (st 0 27).toInt ∧ (st 0 27).toInt ≤ 8) : Met l yX1_speed (ws_ yX1_speed cX1_speed 3 (some .int)) (mR 2) (mP G [.int d, .int v] st) (mQ G (some (.int (sp_speed st d v).1)) ((sp_speed st d v).2)) 0 0 (mA G) := by
  refine m_head (As := [.int d, .int v]) (bytes := cX1_speed) (maxL := 3) (ret := (some .int)) (by decide) rfl (Nat.le_of_ble_eq_true rfl) ?_
  intro p e s m below meth c E hml hr hlk hw ls hl
  have hx := E.1
  have hb := E.2.1
  have hts := E.2.2.1
  have hown := E.2.2.2.1
  have hl : lv_has ls 3 [(0, .ref G.1), (1, .int d), (2, .int v)] := hl
  have hLn := cnt_n hL.1
  have hLi := cnt_i hL.1
  have hVn := cnt_n hV.1
  have hVi := cnt_i hV.1
  refine lv_iload_n (pc := 0) hx hb dX1_speed_0 rfl (lv_at hl 2 rfl) ?_
  refine lv_i2l (pc := 1) (v := v.toInt64) hx hb dX1_speed_1 rfl ?_
  refine lv_lconst (pc := 2) (v := 1) hx hb dX1_speed_2 (by decide) ?_
  refine lv_ldc2 (pc := 3) hx hb hown (hts _ q1359) dX1_speed_3 ?_
  refine m_cS (pc := 6) (As := [.long v.toInt64, .long 1, .long 3000]) (rest := []) E hml hl.1 (mt_inB l v 1 3000 1 3000 rfl rfl) q1231 q1232 q1233 hdX1_in ⟨Nat.le_of_ble_eq_true rfl, Nat.le_of_ble_eq_true rfl⟩ rfl rfl rfl (Nat.le_of_ble_eq_true rfl) dX1_speed_6 ?_
  refine lb_ne (pc := 9) (tgt := 15) hx hb dX1_speed_9 (by decide) (fun c_1 => ?_) (fun c_1 => ?_)
  · refine lv_aload_n (pc := 15) hx hb dX1_speed_15 rfl (lv_at hl 0 rfl) ?_
    refine m_getv (pc := 16) (v := (nI (cnt st 24))) E hw 24 (by decide) rfl hLn q1116 dX1_speed_16 ?_
    refine li_if_neN (pc := 19) (tgt := 25) hx hb (by omega) dX1_speed_19 (by decide) (fun c_2 => ?_) (fun c_2 => ?_)
    · refine lv_iload_n (pc := 25) hx hb dX1_speed_25 rfl (lv_at hl 1 rfl) ?_
      refine lv_i2l (pc := 26) (v := d.toInt64) hx hb dX1_speed_26 rfl ?_
      refine lv_lconst (pc := 27) (v := 0) hx hb dX1_speed_27 (by decide) ?_
      refine lv_aload_n (pc := 28) hx hb dX1_speed_28 rfl (lv_at hl 0 rfl) ?_
      refine m_getv (pc := 29) (v := (st 0 25)) E hw 25 (by decide) rfl rfl q1117 dX1_speed_29 ?_
      refine lv_i2l (pc := 32) (v := (st 0 25).toInt64) hx hb dX1_speed_32 rfl ?_
      refine m_cS (pc := 33) (As := [.long d.toInt64, .long 0, .long (st 0 25).toInt64]) (rest := []) E hml hl.1 (mt_inB l d 0 (st 0 25).toInt64 0 ((st 0 25).toInt) rfl (Int32.toInt_toInt64 _)) q1231 q1232 q1233 hdX1_in ⟨Nat.le_of_ble_eq_true rfl, Nat.le_of_ble_eq_true rfl⟩ rfl rfl rfl (Nat.le_of_ble_eq_true rfl) dX1_speed_33 ?_
      refine lb_ne (pc := 36) (tgt := 42) hx hb dX1_speed_36 (by decide) (fun c_3 => ?_) (fun c_3 => ?_)
      · refine lv_aload_n (pc := 42) hx hb dX1_speed_42 rfl (lv_at hl 0 rfl) ?_
        refine m_getv (pc := 43) (v := (nI (cnt st 27))) E hw 27 (by decide) rfl hVn q1119 dX1_speed_43 ?_
        refine lv_bipush (pc := 46) (v := 8) hx hb dX1_speed_46 (by decide) ?_
        refine li_icmp_neN (pc := 48) (a := cnt st 27) (b := 8) (tgt := 54) hx hb (by omega) (by omega) dX1_speed_48 (by decide) (fun c_4 => ?_) (fun c_4 => ?_)
        · refine lv_aload_n (pc := 54) hx hb dX1_speed_54 rfl (lv_at hl 0 rfl) ?_
          refine m_geta (pc := 55) E hw 28 (by decide) (by decide) q1120 dX1_speed_55 ?_
          refine lv_aload_n (pc := 58) hx hb dX1_speed_58 rfl (lv_at hl 0 rfl) ?_
          refine m_getv (pc := 59) (v := (nI (cnt st 27))) E hw 27 (by decide) rfl hVn q1119 dX1_speed_59 ?_
          refine lv_iload_n (pc := 62) hx hb dX1_speed_62 rfl (lv_at hl 1 rfl) ?_
          refine m_astN (pc := 63) (v := d) E hw 28 (cnt st 27) (by decide) rfl (show cnt st 27 < 8 from (by omega)) (by decide) dX1_speed_63 (fun H locs hw => ?_)
          refine lv_aload_n (pc := 64) hx hb dX1_speed_64 rfl (lv_at hl 0 rfl) ?_
          refine m_geta (pc := 65) E hw 29 (by decide) (by decide) q1121 dX1_speed_65 ?_
          refine lv_aload_n (pc := 68) hx hb dX1_speed_68 rfl (lv_at hl 0 rfl) ?_
          refine m_getv (pc := 69) (v := (nI (cnt st 27))) E hw 27 (by decide) rfl hVn q1119 dX1_speed_69 ?_
          refine lv_iload_n (pc := 72) hx hb dX1_speed_72 rfl (lv_at hl 2 rfl) ?_
          refine m_astN (pc := 73) (v := v) E hw 29 (cnt st 27) (by decide) rfl (show cnt st 27 < 8 from (by omega)) (by decide) dX1_speed_73 (fun H locs hw => ?_)
          refine lv_aload_n (pc := 74) hx hb dX1_speed_74 rfl (lv_at hl 0 rfl) ?_
          refine lv_dup (pc := 75) hx hb dX1_speed_75 rfl ?_
          refine m_getv (pc := 76) (v := (nI (cnt st 27))) E hw 27 (by decide) rfl hVn q1119 dX1_speed_76 ?_
          refine lv_iconst (pc := 79) (v := 1) hx hb dX1_speed_79 (by decide) ?_
          refine li_addN (pc := 80) (a := cnt st 27) (b := 1) hx hb dX1_speed_80 ?_
          refine m_put (pc := 81) (v := (nI ((cnt st 27) + 1))) E hw 27 (by decide) rfl rfl rfl q1119 dX1_speed_81 (fun H locs hw => ?_)
          refine lv_aload_n (pc := 84) hx hb dX1_speed_84 rfl (lv_at hl 0 rfl) ?_
          refine m_getv (pc := 85) (v := (nI ((cnt st 27) + 1))) E hw 27 (by decide) rfl rfl q1119 dX1_speed_85 ?_
          exact m_iret E hr hlk hw dX1_speed_88 (by first | (simp only [sp_speed, if_pos c_1, if_neg c_2, if_pos c_3, if_neg c_4]; done) | contradiction | (simp only [sp_speed, c_1, c_2, c_3, c_4, if_true, if_false]; done)) (by first | (simp only [sp_speed, if_pos c_1, if_neg c_2, if_pos c_3, if_neg c_4]; done) | contradiction | (simp only [sp_speed, c_1, c_2, c_3, c_4, if_true, if_false]; done))
        · refine lv_bipush (pc := 51) (v := (-4)) hx hb dX1_speed_51 (by decide) ?_
          exact m_iret E hr hlk hw dX1_speed_53 (by first | (simp only [sp_speed, if_pos c_1, if_neg c_2, if_pos c_3, if_pos c_4]; done) | contradiction | (simp only [sp_speed, c_1, c_2, c_3, c_4, if_true, if_false]; done)) (by first | (simp only [sp_speed, if_pos c_1, if_neg c_2, if_pos c_3, if_pos c_4]; done) | contradiction | (simp only [sp_speed, c_1, c_2, c_3, c_4, if_true, if_false]; done))
      · refine lv_bipush (pc := 39) (v := (-2)) hx hb dX1_speed_39 (by decide) ?_
        exact m_iret E hr hlk hw dX1_speed_41 (by first | (simp only [sp_speed, if_pos c_1, if_neg c_2, if_neg c_3]; done) | contradiction | (simp only [sp_speed, c_1, c_2, c_3, if_true, if_false]; done)) (by first | (simp only [sp_speed, if_pos c_1, if_neg c_2, if_neg c_3]; done) | contradiction | (simp only [sp_speed, c_1, c_2, c_3, if_true, if_false]; done))
    · refine lv_bipush (pc := 22) (v := (-3)) hx hb dX1_speed_22 (by decide) ?_
      exact m_iret E hr hlk hw dX1_speed_24 (by first | (simp only [sp_speed, if_pos c_1, if_pos c_2]; done) | contradiction | (simp only [sp_speed, c_1, c_2, if_true, if_false]; done)) (by first | (simp only [sp_speed, if_pos c_1, if_pos c_2]; done) | contradiction | (simp only [sp_speed, c_1, c_2, if_true, if_false]; done))
  · refine lv_bipush (pc := 12) (v := (-2)) hx hb dX1_speed_12 (by decide) ?_
    exact m_iret E hr hlk hw dX1_speed_14 (by first | (simp only [sp_speed, if_neg c_1]; done) | contradiction | (simp only [sp_speed, c_1, if_true, if_false]; done)) (by first | (simp only [sp_speed, if_neg c_1]; done) | contradiction | (simp only [sp_speed, c_1, if_true, if_false]; done))
set_option maxHeartbeats 4000000 in
set_option maxRecDepth 100000 in
theorem mt_hasDue (l : Launch) (G : mG) (st : mS)   (hL : 0 ≤ (st 0 24).toInt ∧ (st 0 24).toInt ≤ 10) (hV : 0 ≤ (st 0 27).toInt ∧ (st 0 27).toInt ≤ 8) : Met l yX1_hasDue (ws_ yX1_hasDue cX1_hasDue 3 (some .boolean)) (mR 0) (mP G [] st) (mQ G (some (.int (bI (hasD st)))) (st)) 0 0 (mA G) := by
  refine m_head (As := []) (bytes := cX1_hasDue) (maxL := 3) (ret := (some .boolean)) (by decide) rfl (Nat.le_of_ble_eq_true rfl) ?_
  intro p e s m below meth c E hml hr hlk hw ls hl
  have hx := E.1
  have hb := E.2.1
  have hts := E.2.2.1
  have hown := E.2.2.2.1
  have hl : lv_has ls 3 [(0, .ref G.1)] := hl
  have hLn := cnt_n hL.1
  have hLi := cnt_i hL.1
  have hVn := cnt_n hV.1
  have hVi := cnt_i hV.1
  refine lv_iconst (pc := 0) (v := 0) hx hb dX1_hasDue_0 (by decide) ?_
  refine lv_istore_n (pc := 1) (lv' := [(1, .int 0), (0, .ref G.1)]) hx hb dX1_hasDue_1 rfl hl (by decide) rfl (fun ls hl => ?_)
  refine lv_iconst (pc := 2) (v := 0) hx hb dX1_hasDue_2 (by decide) ?_
  refine lv_istore_n (pc := 3) (lv' := [(2, .int 0), (1, .int 0), (0, .ref G.1)]) hx hb dX1_hasDue_3 rfl hl (by decide) rfl (fun ls hl => ?_)
  have loop : ∀ (n : Nat) (i : Nat) (h : Int32), i + n = cnt st 27 → ∀ (H : Heap) (locs : List Loc), mWd G s.heap st H locs → ∀ ls : Array Slot, lv_has ls 3 [(0, .ref G.1), (1, .int h), (2, .int (nI i))] → W p l e (mR 0) s m (Value.ref G.1 :: [] : List Value).toArray below meth c H locs 0 0 (MQ below (mQ G (some (.int (bI (¬ hdu st n i h = 0 ∧ 0 < cnt st 24)))) (st)) (Value.ref G.1 :: [] : List Value).toArray s 0 0 (mA G)) (F0 m 4 ls []) := by
    intro n
    induction n with
    | zero =>
      intro i h hi H locs hw ls hl
      refine lv_iload_n (pc := 4) hx hb dX1_hasDue_4 rfl (lv_at hl 2 rfl) ?_
      refine lv_aload_n (pc := 5) hx hb dX1_hasDue_5 rfl (lv_at hl 0 rfl) ?_
      refine m_getv (pc := 6) (v := (nI (cnt st 27))) E hw 27 (by decide) rfl hVn q1119 dX1_hasDue_6 ?_
      refine li_icmp_geN (pc := 9) (a := i) (b := cnt st 27) (tgt := 37) hx hb (by omega) (by omega) dX1_hasDue_9 (by decide) (fun c_1 => ?_) (fun c_1 => absurd c_1 (by omega))
      refine lv_iload_n (pc := 37) hx hb dX1_hasDue_37 rfl (lv_at hl 1 rfl) ?_
      refine lv_if_eq (pc := 38) (tgt := 52) hx hb dX1_hasDue_38 (by decide) (fun c_2 => ?_) (fun c_2 => ?_)
      · refine lv_iconst (pc := 52) (v := 0) hx hb dX1_hasDue_52 (by decide) ?_
        exact m_zret E hr hlk hw dX1_hasDue_53 rfl (bI_f (fun q => q.1 c_2)).symm rfl
      · refine lv_aload_n (pc := 41) hx hb dX1_hasDue_41 rfl (lv_at hl 0 rfl) ?_
        refine m_getv (pc := 42) (v := (nI (cnt st 24))) E hw 24 (by decide) rfl hLn q1116 dX1_hasDue_42 ?_
        refine li_if_leN (pc := 45) (tgt := 52) hx hb (by omega) dX1_hasDue_45 (by decide) (fun c_3 => ?_) (fun c_3 => ?_)
        · refine lv_iconst (pc := 52) (v := 0) hx hb dX1_hasDue_52 (by decide) ?_
          exact m_zret E hr hlk hw dX1_hasDue_53 rfl (bI_f (fun q => c_3 q.2)).symm rfl
        · refine lv_iconst (pc := 48) (v := 1) hx hb dX1_hasDue_48 (by decide) ?_
          refine lv_goto (pc := 49) (tgt := 53) hx hb dX1_hasDue_49 (by decide) ?_
          exact m_zret E hr hlk hw dX1_hasDue_53 rfl (bI_t ⟨c_2, c_3⟩).symm rfl
    | succ n ih_loop =>
      intro i h hi H locs hw ls hl
      refine lv_iload_n (pc := 4) hx hb dX1_hasDue_4 rfl (lv_at hl 2 rfl) ?_
      refine lv_aload_n (pc := 5) hx hb dX1_hasDue_5 rfl (lv_at hl 0 rfl) ?_
      refine m_getv (pc := 6) (v := (nI (cnt st 27))) E hw 27 (by decide) rfl hVn q1119 dX1_hasDue_6 ?_
      refine li_icmp_geN (pc := 9) (a := i) (b := cnt st 27) (tgt := 37) hx hb (by omega) (by omega) dX1_hasDue_9 (by decide) (fun c_4 => absurd c_4 (by omega)) (fun c_4 => ?_)
      refine lv_iload_n (pc := 12) hx hb dX1_hasDue_12 rfl (lv_at hl 1 rfl) ?_
      refine li_ne (pc := 13) (tgt := 25) hx hb dX1_hasDue_13 (by decide) (fun c_5 => ?_) (fun c_5 => ?_)
      · refine lv_iconst (pc := 25) (v := 1) hx hb dX1_hasDue_25 (by decide) ?_
        refine lv_goto (pc := 26) (tgt := 30) hx hb dX1_hasDue_26 (by decide) ?_
        refine lv_istore_n (pc := 30) (lv' := [(1, .int 1), (0, .ref G.1), (2, .int (nI i))]) hx hb dX1_hasDue_30 rfl hl (by decide) rfl (fun ls hl => ?_)
        refine lv_iinc (pc := 31) (v := (nI (i + 1))) (lv' := [(2, .int (nI (i + 1))), (1, .int 1), (0, .ref G.1)]) hx hb dX1_hasDue_31 hl (k := 2) rfl (nI_1 _) (by decide) rfl (fun ls hl => ?_)
        refine lv_goto (pc := 34) (tgt := 4) hx hb dX1_hasDue_34 (by decide) ?_
        exact m_to (by simp only [hdu, if_pos c_4, if_neg c_5]) rfl (ih_loop (i + 1) 1 (by omega) _ _ hw _ (lv_sub hl [2, 1, 0] rfl))
      · refine lv_aload_n (pc := 16) hx hb dX1_hasDue_16 rfl (lv_at hl 0 rfl) ?_
        refine m_geta (pc := 17) E hw 28 (by decide) (by decide) q1120 dX1_hasDue_17 ?_
        refine lv_iload_n (pc := 20) hx hb dX1_hasDue_20 rfl (lv_at hl 2 rfl) ?_
        refine m_aldN (pc := 21) (v := (st 28 i)) E hw 28 (i) (by decide) rfl (show i < 8 from (by omega)) (by decide) rfl dX1_hasDue_21 ?_
        refine li_ne (pc := 22) (tgt := 29) hx hb dX1_hasDue_22 (by decide) (fun c_6 => ?_) (fun c_6 => ?_)
        · refine lv_iconst (pc := 29) (v := 0) hx hb dX1_hasDue_29 (by decide) ?_
          refine lv_istore_n (pc := 30) (lv' := [(1, .int 0), (0, .ref G.1), (2, .int (nI i))]) hx hb dX1_hasDue_30 rfl hl (by decide) rfl (fun ls hl => ?_)
          refine lv_iinc (pc := 31) (v := (nI (i + 1))) (lv' := [(2, .int (nI (i + 1))), (1, .int 0), (0, .ref G.1)]) hx hb dX1_hasDue_31 hl (k := 2) rfl (nI_1 _) (by decide) rfl (fun ls hl => ?_)
          refine lv_goto (pc := 34) (tgt := 4) hx hb dX1_hasDue_34 (by decide) ?_
          exact m_to (by simp only [hdu, if_pos c_4, if_pos c_5, if_neg c_6]) rfl (ih_loop (i + 1) 0 (by omega) _ _ hw _ (lv_sub hl [2, 1, 0] rfl))
        · refine lv_iconst (pc := 25) (v := 1) hx hb dX1_hasDue_25 (by decide) ?_
          refine lv_goto (pc := 26) (tgt := 30) hx hb dX1_hasDue_26 (by decide) ?_
          refine lv_istore_n (pc := 30) (lv' := [(1, .int 1), (0, .ref G.1), (2, .int (nI i))]) hx hb dX1_hasDue_30 rfl hl (by decide) rfl (fun ls hl => ?_)
          refine lv_iinc (pc := 31) (v := (nI (i + 1))) (lv' := [(2, .int (nI (i + 1))), (1, .int 1), (0, .ref G.1)]) hx hb dX1_hasDue_31 hl (k := 2) rfl (nI_1 _) (by decide) rfl (fun ls hl => ?_)
          refine lv_goto (pc := 34) (tgt := 4) hx hb dX1_hasDue_34 (by decide) ?_
          exact m_to (by simp only [hdu, if_pos c_4, if_pos c_5, if_pos c_6]) rfl (ih_loop (i + 1) 1 (by omega) _ _ hw _ (lv_sub hl [2, 1, 0] rfl))
  exact m_to rfl rfl (loop (cnt st 27) 0 0 (by omega) _ _ hw _ (lv_sub hl [2, 1, 0] rfl))
set_option maxHeartbeats 4000000 in
set_option maxRecDepth 100000 in
theorem mt_dueAt (l : Launch) (G : mG) (st : mS) (d : Int32)  (hd0 : 0 ≤ d.toInt) (hV : 0 ≤ (st 0 27).toInt ∧ (st 0 27).toInt ≤ 8) (hP : ∀ k, k < cnt st 27 → 0 < (st 29 k).toInt) (hD : hasD st) : Met l yX1_dueAt (ws_ yX1_dueAt cX1_dueAt 8 (some .long)) (mR 0) (mP G [.int d] st) (mQ G (some (.long (dueA st d))) (st)) 0 0 (mA G) := by
  refine m_head (As := [.int d]) (bytes := cX1_dueAt) (maxL := 8) (ret := (some .long)) (by decide) rfl (Nat.le_of_ble_eq_true rfl) ?_
  intro p e s m below meth c E hml hr hlk hw ls hl
  have hx := E.1
  have hb := E.2.1
  have hts := E.2.2.1
  have hown := E.2.2.2.1
  have hl : lv_has ls 8 [(0, .ref G.1), (1, .int d)] := hl
  have hVn := cnt_n hV.1
  have hVi := cnt_i hV.1
  have hdi := clamp_i hd0
  refine lv_lconst (pc := 0) (v := 0) hx hb dX1_dueAt_0 (by decide) ?_
  refine lv_lstore_n (pc := 1) (lv' := [(2, .long 0), (0, .ref G.1), (1, .int d)]) hx hb dX1_dueAt_1 rfl hl (by decide) rfl (fun ls hl => ?_)
  refine lv_iconst (pc := 2) (v := 0) hx hb dX1_dueAt_2 (by decide) ?_
  refine lv_istore (pc := 3) (lv' := [(4, .int 0), (2, .long 0), (0, .ref G.1), (1, .int d)]) hx hb dX1_dueAt_3 hl (by decide) rfl (fun ls hl => ?_)
  have outer : ∀ (f : Nat) (z : Int32) (a : Int64), d.toInt - z.toInt ≤ f → 0 ≤ z.toInt → (∃ k, k < cnt st 27 ∧ st 28 k = z) ∨ ¬ z.toInt < d.toInt → ∀ (H : Heap) (locs : List Loc), mWd G s.heap st H locs → ∀ ls : Array Slot, lv_has ls 8 [(0, .ref G.1), (1, .int d), (2, .long a), (4, .int z)] → W p l e (mR 0) s m (Value.ref G.1 :: [.int d] : List Value).toArray below meth c H locs 0 0 (MQ below (mQ G (some (.long (due st d f z a))) (st)) (Value.ref G.1 :: [.int d] : List Value).toArray s 0 0 (mA G)) (F0 m 5 ls []) := by
    intro f
    induction f with
    | zero =>
      intro z a hf hz ha H locs hw ls hl
      refine lv_iload (pc := 5) hx hb dX1_dueAt_5 (lv_at hl 3 rfl) ?_
      refine lv_iload_n (pc := 7) hx hb dX1_dueAt_7 rfl (lv_at hl 1 rfl) ?_
      refine li_icmp_ge (pc := 8) (tgt := 123) hx hb dX1_dueAt_8 (by decide) (fun c_1 => ?_) (fun c_1 => absurd c_1 (by omega))
      refine lv_lload_n (pc := 123) hx hb dX1_dueAt_123 rfl (lv_at hl 2 rfl) ?_
      exact m_lret E hr hlk hw dX1_dueAt_124 (by first | rfl | simp only [due, if_neg c_1]) rfl
    | succ f ih_outer =>
      intro z a hf hz ha H locs hw ls hl
      refine lv_iload (pc := 5) hx hb dX1_dueAt_5 (lv_at hl 3 rfl) ?_
      refine lv_iload_n (pc := 7) hx hb dX1_dueAt_7 rfl (lv_at hl 1 rfl) ?_
      refine li_icmp_ge (pc := 8) (tgt := 123) hx hb dX1_dueAt_8 (by decide) (fun c_2 => ?_) (fun c_2 => ?_)
      · refine lv_lload_n (pc := 123) hx hb dX1_dueAt_123 rfl (lv_at hl 2 rfl) ?_
        exact m_lret E hr hlk hw dX1_dueAt_124 (by first | rfl | simp only [due, if_neg c_2]) rfl
      · have c_hz := c_2
        refine lv_iconst (pc := 11) (v := 0) hx hb dX1_dueAt_11 (by decide) ?_
        refine lv_istore (pc := 12) (lv' := [(5, .int 0), (0, .ref G.1), (1, .int d), (2, .long a), (4, .int z)]) hx hb dX1_dueAt_12 hl (by decide) rfl (fun ls hl => ?_)
        refine lv_iload_n (pc := 14) hx hb dX1_dueAt_14 rfl (lv_at hl 2 rfl) ?_
        refine lv_istore (pc := 15) (lv' := [(6, .int d), (5, .int 0), (0, .ref G.1), (1, .int d), (2, .long a), (4, .int z)]) hx hb dX1_dueAt_15 hl (by decide) rfl (fun ls hl => ?_)
        refine lv_iconst (pc := 17) (v := 0) hx hb dX1_dueAt_17 (by decide) ?_
        refine lv_istore (pc := 18) (lv' := [(7, .int 0), (6, .int d), (5, .int 0), (0, .ref G.1), (1, .int d), (2, .long a), (4, .int z)]) hx hb dX1_dueAt_18 hl (by decide) rfl (fun ls hl => ?_)
        have inner : ∀ (n : Nat) (i : Nat) (v : Int32) (x : Int32), i + n = cnt st 27 → dun st z n i v x = (dun st z (cnt st 27) 0 0 d) → ∀ (H : Heap) (locs : List Loc), mWd G s.heap st H locs → ∀ ls : Array Slot, lv_has ls 8 [(0, .ref G.1), (1, .int d), (2, .long a), (4, .int z), (5, .int v), (6, .int x), (7, .int (nI i))] → W p l e (mR 0) s m (Value.ref G.1 :: [.int d] : List Value).toArray below meth c H locs 0 0 (MQ below (mQ G (some (.long (due st d f (dun st z (cnt st 27) 0 0 d).2 (a + (600 * (((dun st z (cnt st 27) 0 0 d).2 - z).toInt64)) / (dun st z (cnt st 27) 0 0 d).1.toInt64)))) (st)) (Value.ref G.1 :: [.int d] : List Value).toArray s 0 0 (mA G)) (F0 m 20 ls []) := by
          intro n
          induction n with
          | zero =>
            intro i v x hi hd H locs hw ls hl
            have ev : v = (dun st z (cnt st 27) 0 0 d).1 := congrArg Prod.fst hd
            have ex : x = (dun st z (cnt st 27) 0 0 d).2 := congrArg Prod.snd hd
            have hv0 : ¬ v = 0 := by
              rw [ev]
              refine dun_v (cnt st 27) 0 0 d (fun k _ hk e0 => ?_) (Or.inr ?_)
              · have q := hP k (by omega); rw [e0] at q; exact absurd q (by decide)
              · rcases ha with ⟨k, hk, ek⟩ | hn
                · exact ⟨k, Nat.zero_le _, by omega, ek⟩
                · exact absurd c_hz hn
            refine lv_iload (pc := 20) hx hb dX1_dueAt_20 (lv_at hl 6 rfl) ?_
            refine lv_aload_n (pc := 22) hx hb dX1_dueAt_22 rfl (lv_at hl 0 rfl) ?_
            refine m_getv (pc := 23) (v := (nI (cnt st 27))) E hw 27 (by decide) rfl hVn q1119 dX1_dueAt_23 ?_
            refine li_icmp_geN (pc := 26) (a := i) (b := cnt st 27) (tgt := 99) hx hb (by omega) (by omega) dX1_dueAt_26 (by decide) (fun c_3 => ?_) (fun c_3 => absurd c_3 (by omega))
            refine lv_lload_n (pc := 99) hx hb dX1_dueAt_99 rfl (lv_at hl 2 rfl) ?_
            refine lv_ldc2 (pc := 100) hx hb hown (hts _ q1372) dX1_dueAt_100 ?_
            refine lv_iload (pc := 103) hx hb dX1_dueAt_103 (lv_at hl 5 rfl) ?_
            refine lv_iload (pc := 105) hx hb dX1_dueAt_105 (lv_at hl 3 rfl) ?_
            refine lv_isub (pc := 107) hx hb dX1_dueAt_107 ?_
            refine lv_i2l (pc := 108) (v := (x - z).toInt64) hx hb dX1_dueAt_108 rfl ?_
            refine lv_lmul (pc := 109) hx hb dX1_dueAt_109 ?_
            refine lv_iload (pc := 110) hx hb dX1_dueAt_110 (lv_at hl 4 rfl) ?_
            refine lv_i2l (pc := 112) (v := v.toInt64) hx hb dX1_dueAt_112 rfl ?_
            refine lv_ldiv (pc := 113) hx hb dX1_dueAt_113 (i64_ne hv0) ?_
            refine lv_ladd (pc := 114) hx hb dX1_dueAt_114 ?_
            refine lv_lstore_n (pc := 115) (lv' := [(2, .long (a + ((600 * (x - z).toInt64) / v.toInt64))), (0, .ref G.1), (1, .int d), (4, .int z), (5, .int v), (6, .int x), (7, .int (nI i))]) hx hb dX1_dueAt_115 rfl hl (by decide) rfl (fun ls hl => ?_)
            refine lv_iload (pc := 116) hx hb dX1_dueAt_116 (lv_at hl 5 rfl) ?_
            refine lv_istore (pc := 118) (lv' := [(4, .int x), (2, .long (a + ((600 * (x - z).toInt64) / v.toInt64))), (0, .ref G.1), (1, .int d), (5, .int v), (6, .int x), (7, .int (nI i))]) hx hb dX1_dueAt_118 hl (by decide) rfl (fun ls hl => ?_)
            refine lv_goto (pc := 120) (tgt := 5) hx hb dX1_dueAt_120 (by decide) ?_
            exact m_to (by rw [← ev, ← ex]) rfl (ih_outer x (a + ((600 * (x - z).toInt64) / v.toInt64)) (by have q := dun_x (st := st) (z := z) (cnt st 27) 0 0 d (by omega); rw [← ex] at q; omega) (by have q := dun_x (st := st) (z := z) (cnt st 27) 0 0 d (by omega); rw [← ex] at q; omega) (by
                  have q := dun_x (st := st) (z := z) (cnt st 27) 0 0 d (by omega)
                  rw [← ex] at q
                  rcases q.2.2 with q | ⟨k, q1, q2, q3⟩
                  · right; rw [q]; omega
                  · left; exact ⟨k, by omega, q3.symm⟩) _ _ hw _ (lv_sub hl [2, 3, 1, 0] rfl))
          | succ n ih_inner =>
            intro i v x hi hd H locs hw ls hl
            refine lv_iload (pc := 20) hx hb dX1_dueAt_20 (lv_at hl 6 rfl) ?_
            refine lv_aload_n (pc := 22) hx hb dX1_dueAt_22 rfl (lv_at hl 0 rfl) ?_
            refine m_getv (pc := 23) (v := (nI (cnt st 27))) E hw 27 (by decide) rfl hVn q1119 dX1_dueAt_23 ?_
            refine li_icmp_geN (pc := 26) (a := i) (b := cnt st 27) (tgt := 99) hx hb (by omega) (by omega) dX1_dueAt_26 (by decide) (fun c_4 => absurd c_4 (by omega)) (fun c_4 => ?_)
            refine lv_aload_n (pc := 29) hx hb dX1_dueAt_29 rfl (lv_at hl 0 rfl) ?_
            refine m_geta (pc := 30) E hw 28 (by decide) (by decide) q1120 dX1_dueAt_30 ?_
            refine lv_iload (pc := 33) hx hb dX1_dueAt_33 (lv_at hl 6 rfl) ?_
            refine m_aldN (pc := 35) (v := (st 28 i)) E hw 28 (i) (by decide) rfl (show i < 8 from (by omega)) (by decide) rfl dX1_dueAt_35 ?_
            refine lv_iload (pc := 36) hx hb dX1_dueAt_36 (lv_at hl 3 rfl) ?_
            refine li_icne (pc := 38) (tgt := 51) hx hb dX1_dueAt_38 (by decide) (fun c_5 => ?_) (fun c_5 => ?_)
            · refine lv_iload (pc := 51) hx hb dX1_dueAt_51 (lv_at hl 4 rfl) ?_
              refine lv_istore (pc := 53) (lv' := [(5, .int v), (0, .ref G.1), (1, .int d), (2, .long a), (4, .int z), (6, .int x), (7, .int (nI i))]) hx hb dX1_dueAt_53 hl (by decide) rfl (fun ls hl => ?_)
              refine lv_aload_n (pc := 55) hx hb dX1_dueAt_55 rfl (lv_at hl 1 rfl) ?_
              refine m_geta (pc := 56) E hw 28 (by decide) (by decide) q1120 dX1_dueAt_56 ?_
              refine lv_iload (pc := 59) hx hb dX1_dueAt_59 (lv_at hl 6 rfl) ?_
              refine m_aldN (pc := 61) (v := (st 28 i)) E hw 28 (i) (by decide) rfl (show i < 8 from (by omega)) (by decide) rfl dX1_dueAt_61 ?_
              refine lv_iload (pc := 62) hx hb dX1_dueAt_62 (lv_at hl 4 rfl) ?_
              refine li_icmp_le (pc := 64) (tgt := 89) hx hb dX1_dueAt_64 (by decide) (fun c_6 => ?_) (fun c_6 => ?_)
              · refine lv_iload (pc := 89) hx hb dX1_dueAt_89 (lv_at hl 5 rfl) ?_
                refine lv_istore (pc := 91) (lv' := [(6, .int x), (5, .int v), (0, .ref G.1), (1, .int d), (2, .long a), (4, .int z), (7, .int (nI i))]) hx hb dX1_dueAt_91 hl (by decide) rfl (fun ls hl => ?_)
                refine lv_iinc (pc := 93) (v := (nI (i + 1))) (lv' := [(7, .int (nI (i + 1))), (6, .int x), (5, .int v), (0, .ref G.1), (1, .int d), (2, .long a), (4, .int z)]) hx hb dX1_dueAt_93 hl (k := 6) rfl (nI_1 _) (by decide) rfl (fun ls hl => ?_)
                refine lv_goto (pc := 96) (tgt := 20) hx hb dX1_dueAt_96 (by decide) ?_
                exact m_to rfl rfl (ih_inner (i + 1) v x (by omega) (by rw [← hd]; simp only [dun, if_neg c_5, if_neg c_6]) _ _ hw _ (lv_sub hl [3, 4, 5, 6, 2, 1, 0] rfl))
              · refine lv_aload_n (pc := 67) hx hb dX1_dueAt_67 rfl (lv_at hl 1 rfl) ?_
                refine m_geta (pc := 68) E hw 28 (by decide) (by decide) q1120 dX1_dueAt_68 ?_
                refine lv_iload (pc := 71) hx hb dX1_dueAt_71 (lv_at hl 6 rfl) ?_
                refine m_aldN (pc := 73) (v := (st 28 i)) E hw 28 (i) (by decide) rfl (show i < 8 from (by omega)) (by decide) rfl dX1_dueAt_73 ?_
                refine lv_iload (pc := 74) hx hb dX1_dueAt_74 (lv_at hl 5 rfl) ?_
                refine li_icmp_ge (pc := 76) (tgt := 89) hx hb dX1_dueAt_76 (by decide) (fun c_7 => ?_) (fun c_7 => ?_)
                · refine lv_iload (pc := 89) hx hb dX1_dueAt_89 (lv_at hl 5 rfl) ?_
                  refine lv_istore (pc := 91) (lv' := [(6, .int x), (5, .int v), (0, .ref G.1), (1, .int d), (2, .long a), (4, .int z), (7, .int (nI i))]) hx hb dX1_dueAt_91 hl (by decide) rfl (fun ls hl => ?_)
                  refine lv_iinc (pc := 93) (v := (nI (i + 1))) (lv' := [(7, .int (nI (i + 1))), (6, .int x), (5, .int v), (0, .ref G.1), (1, .int d), (2, .long a), (4, .int z)]) hx hb dX1_dueAt_93 hl (k := 6) rfl (nI_1 _) (by decide) rfl (fun ls hl => ?_)
                  refine lv_goto (pc := 96) (tgt := 20) hx hb dX1_dueAt_96 (by decide) ?_
                  exact m_to rfl rfl (ih_inner (i + 1) v x (by omega) (by rw [← hd]; simp only [dun, if_neg c_5, if_pos c_6, if_neg c_7]) _ _ hw _ (lv_sub hl [3, 4, 5, 6, 2, 1, 0] rfl))
                · refine lv_aload_n (pc := 79) hx hb dX1_dueAt_79 rfl (lv_at hl 1 rfl) ?_
                  refine m_geta (pc := 80) E hw 28 (by decide) (by decide) q1120 dX1_dueAt_80 ?_
                  refine lv_iload (pc := 83) hx hb dX1_dueAt_83 (lv_at hl 6 rfl) ?_
                  refine m_aldN (pc := 85) (v := (st 28 i)) E hw 28 (i) (by decide) rfl (show i < 8 from (by omega)) (by decide) rfl dX1_dueAt_85 ?_
                  refine lv_goto (pc := 86) (tgt := 91) hx hb dX1_dueAt_86 (by decide) ?_
                  refine lv_istore (pc := 91) (lv' := [(6, .int (st 28 i)), (5, .int v), (0, .ref G.1), (1, .int d), (2, .long a), (4, .int z), (7, .int (nI i))]) hx hb dX1_dueAt_91 hl (by decide) rfl (fun ls hl => ?_)
                  refine lv_iinc (pc := 93) (v := (nI (i + 1))) (lv' := [(7, .int (nI (i + 1))), (6, .int (st 28 i)), (5, .int v), (0, .ref G.1), (1, .int d), (2, .long a), (4, .int z)]) hx hb dX1_dueAt_93 hl (k := 6) rfl (nI_1 _) (by decide) rfl (fun ls hl => ?_)
                  refine lv_goto (pc := 96) (tgt := 20) hx hb dX1_dueAt_96 (by decide) ?_
                  exact m_to rfl rfl (ih_inner (i + 1) v (st 28 i) (by omega) (by rw [← hd]; simp only [dun, if_neg c_5, if_pos c_6, if_pos c_7]) _ _ hw _ (lv_sub hl [3, 4, 5, 6, 2, 1, 0] rfl))
            · refine lv_aload_n (pc := 41) hx hb dX1_dueAt_41 rfl (lv_at hl 0 rfl) ?_
              refine m_geta (pc := 42) E hw 29 (by decide) (by decide) q1121 dX1_dueAt_42 ?_
              refine lv_iload (pc := 45) hx hb dX1_dueAt_45 (lv_at hl 6 rfl) ?_
              refine m_aldN (pc := 47) (v := (st 29 i)) E hw 29 (i) (by decide) rfl (show i < 8 from (by omega)) (by decide) rfl dX1_dueAt_47 ?_
              refine lv_goto (pc := 48) (tgt := 53) hx hb dX1_dueAt_48 (by decide) ?_
              refine lv_istore (pc := 53) (lv' := [(5, .int (st 29 i)), (0, .ref G.1), (1, .int d), (2, .long a), (4, .int z), (6, .int x), (7, .int (nI i))]) hx hb dX1_dueAt_53 hl (by decide) rfl (fun ls hl => ?_)
              refine lv_aload_n (pc := 55) hx hb dX1_dueAt_55 rfl (lv_at hl 1 rfl) ?_
              refine m_geta (pc := 56) E hw 28 (by decide) (by decide) q1120 dX1_dueAt_56 ?_
              refine lv_iload (pc := 59) hx hb dX1_dueAt_59 (lv_at hl 6 rfl) ?_
              refine m_aldN (pc := 61) (v := (st 28 i)) E hw 28 (i) (by decide) rfl (show i < 8 from (by omega)) (by decide) rfl dX1_dueAt_61 ?_
              refine lv_iload (pc := 62) hx hb dX1_dueAt_62 (lv_at hl 4 rfl) ?_
              refine li_icmp_le (pc := 64) (tgt := 89) hx hb dX1_dueAt_64 (by decide) (fun c_8 => ?_) (fun c_8 => ?_)
              · refine lv_iload (pc := 89) hx hb dX1_dueAt_89 (lv_at hl 5 rfl) ?_
                refine lv_istore (pc := 91) (lv' := [(6, .int x), (5, .int (st 29 i)), (0, .ref G.1), (1, .int d), (2, .long a), (4, .int z), (7, .int (nI i))]) hx hb dX1_dueAt_91 hl (by decide) rfl (fun ls hl => ?_)
                refine lv_iinc (pc := 93) (v := (nI (i + 1))) (lv' := [(7, .int (nI (i + 1))), (6, .int x), (5, .int (st 29 i)), (0, .ref G.1), (1, .int d), (2, .long a), (4, .int z)]) hx hb dX1_dueAt_93 hl (k := 6) rfl (nI_1 _) (by decide) rfl (fun ls hl => ?_)
                refine lv_goto (pc := 96) (tgt := 20) hx hb dX1_dueAt_96 (by decide) ?_
                exact m_to rfl rfl (ih_inner (i + 1) (st 29 i) x (by omega) (by rw [← hd]; simp only [dun, if_pos c_5, if_neg c_8]) _ _ hw _ (lv_sub hl [3, 4, 5, 6, 2, 1, 0] rfl))
              · refine lv_aload_n (pc := 67) hx hb dX1_dueAt_67 rfl (lv_at hl 1 rfl) ?_
                refine m_geta (pc := 68) E hw 28 (by decide) (by decide) q1120 dX1_dueAt_68 ?_
                refine lv_iload (pc := 71) hx hb dX1_dueAt_71 (lv_at hl 6 rfl) ?_
                refine m_aldN (pc := 73) (v := (st 28 i)) E hw 28 (i) (by decide) rfl (show i < 8 from (by omega)) (by decide) rfl dX1_dueAt_73 ?_
                refine lv_iload (pc := 74) hx hb dX1_dueAt_74 (lv_at hl 5 rfl) ?_
                refine li_icmp_ge (pc := 76) (tgt := 89) hx hb dX1_dueAt_76 (by decide) (fun c_9 => ?_) (fun c_9 => ?_)
                · refine lv_iload (pc := 89) hx hb dX1_dueAt_89 (lv_at hl 5 rfl) ?_
                  refine lv_istore (pc := 91) (lv' := [(6, .int x), (5, .int (st 29 i)), (0, .ref G.1), (1, .int d), (2, .long a), (4, .int z), (7, .int (nI i))]) hx hb dX1_dueAt_91 hl (by decide) rfl (fun ls hl => ?_)
                  refine lv_iinc (pc := 93) (v := (nI (i + 1))) (lv' := [(7, .int (nI (i + 1))), (6, .int x), (5, .int (st 29 i)), (0, .ref G.1), (1, .int d), (2, .long a), (4, .int z)]) hx hb dX1_dueAt_93 hl (k := 6) rfl (nI_1 _) (by decide) rfl (fun ls hl => ?_)
                  refine lv_goto (pc := 96) (tgt := 20) hx hb dX1_dueAt_96 (by decide) ?_
                  exact m_to rfl rfl (ih_inner (i + 1) (st 29 i) x (by omega) (by rw [← hd]; simp only [dun, if_pos c_5, if_pos c_8, if_neg c_9]) _ _ hw _ (lv_sub hl [3, 4, 5, 6, 2, 1, 0] rfl))
                · refine lv_aload_n (pc := 79) hx hb dX1_dueAt_79 rfl (lv_at hl 1 rfl) ?_
                  refine m_geta (pc := 80) E hw 28 (by decide) (by decide) q1120 dX1_dueAt_80 ?_
                  refine lv_iload (pc := 83) hx hb dX1_dueAt_83 (lv_at hl 6 rfl) ?_
                  refine m_aldN (pc := 85) (v := (st 28 i)) E hw 28 (i) (by decide) rfl (show i < 8 from (by omega)) (by decide) rfl dX1_dueAt_85 ?_
                  refine lv_goto (pc := 86) (tgt := 91) hx hb dX1_dueAt_86 (by decide) ?_
                  refine lv_istore (pc := 91) (lv' := [(6, .int (st 28 i)), (5, .int (st 29 i)), (0, .ref G.1), (1, .int d), (2, .long a), (4, .int z), (7, .int (nI i))]) hx hb dX1_dueAt_91 hl (by decide) rfl (fun ls hl => ?_)
                  refine lv_iinc (pc := 93) (v := (nI (i + 1))) (lv' := [(7, .int (nI (i + 1))), (6, .int (st 28 i)), (5, .int (st 29 i)), (0, .ref G.1), (1, .int d), (2, .long a), (4, .int z)]) hx hb dX1_dueAt_93 hl (k := 6) rfl (nI_1 _) (by decide) rfl (fun ls hl => ?_)
                  refine lv_goto (pc := 96) (tgt := 20) hx hb dX1_dueAt_96 (by decide) ?_
                  exact m_to rfl rfl (ih_inner (i + 1) (st 29 i) (st 28 i) (by omega) (by rw [← hd]; simp only [dun, if_pos c_5, if_pos c_8, if_pos c_9]) _ _ hw _ (lv_sub hl [3, 4, 5, 6, 2, 1, 0] rfl))
        exact m_to (by simp only [due, if_pos c_2]) rfl (inner (cnt st 27) 0 0 d (by omega) rfl _ _ hw _ (lv_sub hl [3, 4, 5, 6, 2, 1, 0] rfl))
  exact m_to rfl rfl (outer d.toNatClampNeg 0 0 (by show d.toInt - 0 ≤ _; omega) (by decide) (Or.inl (by rcases hdu_ex _ _ _ hD.1 with q | ⟨k, _, q2, q3⟩; exact absurd rfl q; exact ⟨k, by omega, q3⟩)) _ _ hw _ (lv_sub hl [2, 3, 1, 0] rfl))
set_option maxHeartbeats 4000000 in
set_option maxRecDepth 100000 in
theorem mt_due (l : Launch) (G : mG) (st : mS) (d : Int32)  (hL : 0 ≤ (st 0 24).toInt ∧ (st 0 24).toInt ≤ 10) (hV : 0 ≤ (st 0 27).toInt ∧ (st 0 27).toInt ≤ 8) (hP : ∀ k, k < cnt st 27 → 0 < (st 29 k).toInt) : Met l yX1_due (ws_ yX1_due cX1_due 2 (some .long)) (mR 1) (mP G [.int d] st) (mQ G (some (.long (sp_due st d))) (st)) 0 0 (mA G) := by
  refine m_head (As := [.int d]) (bytes := cX1_due) (maxL := 2) (ret := (some .long)) (by decide) rfl (Nat.le_of_ble_eq_true rfl) ?_
  intro p e s m below meth c E hml hr hlk hw ls hl
  have hx := E.1
  have hb := E.2.1
  have hts := E.2.2.1
  have hown := E.2.2.2.1
  have hl : lv_has ls 2 [(0, .ref G.1), (1, .int d)] := hl
  have hLn := cnt_n hL.1
  have hLi := cnt_i hL.1
  have hVn := cnt_n hV.1
  have hVi := cnt_i hV.1
  refine lv_aload_n (pc := 0) hx hb dX1_due_0 rfl (lv_at hl 0 rfl) ?_
  refine m_cVi (pc := 1) (As := []) (rest := []) E hml hl.1 hw (mt_hasDue l G (st) hL hV) q1364 q1366 qs35 q1367 hdX1_hasDue ⟨Nat.le_of_ble_eq_true rfl, Nat.le_of_ble_eq_true rfl⟩ rfl rfl rfl (Nat.le_of_ble_eq_true rfl) dX1_due_1 (fun H locs hw => ?_)
  refine lb_eq (pc := 4) (tgt := 29) hx hb dX1_due_4 (by decide) (fun c_1 => ?_) (fun c_1 => ?_)
  · refine m_cS (pc := 29) (As := []) (rest := []) E hml hl.1 (mt_lost l) q1284 q1285 q1286 hdX1_lost ⟨Nat.le_of_ble_eq_true rfl, Nat.le_of_ble_eq_true rfl⟩ rfl rfl rfl (Nat.le_of_ble_eq_true rfl) dX1_due_29 ?_
    exact m_lret E hr hlk hw dX1_due_32 (by simp only [sp_due, if_neg c_1]) rfl
  · refine lv_iload_n (pc := 7) hx hb dX1_due_7 rfl (lv_at hl 1 rfl) ?_
    refine lv_i2l (pc := 8) (v := d.toInt64) hx hb dX1_due_8 rfl ?_
    refine lv_lconst (pc := 9) (v := 0) hx hb dX1_due_9 (by decide) ?_
    refine lv_aload_n (pc := 10) hx hb dX1_due_10 rfl (lv_at hl 0 rfl) ?_
    refine m_getv (pc := 11) (v := (st 0 25)) E hw 25 (by decide) rfl rfl q1117 dX1_due_11 ?_
    refine lv_i2l (pc := 14) (v := (st 0 25).toInt64) hx hb dX1_due_14 rfl ?_
    refine m_cS (pc := 15) (As := [.long d.toInt64, .long 0, .long (st 0 25).toInt64]) (rest := []) E hml hl.1 (mt_inB l d 0 (st 0 25).toInt64 0 ((st 0 25).toInt) rfl (Int32.toInt_toInt64 _)) q1231 q1232 q1233 hdX1_in ⟨Nat.le_of_ble_eq_true rfl, Nat.le_of_ble_eq_true rfl⟩ rfl rfl rfl (Nat.le_of_ble_eq_true rfl) dX1_due_15 ?_
    refine lb_eq (pc := 18) (tgt := 29) hx hb dX1_due_18 (by decide) (fun c_2 => ?_) (fun c_2 => ?_)
    · refine m_cS (pc := 29) (As := []) (rest := []) E hml hl.1 (mt_lost l) q1284 q1285 q1286 hdX1_lost ⟨Nat.le_of_ble_eq_true rfl, Nat.le_of_ble_eq_true rfl⟩ rfl rfl rfl (Nat.le_of_ble_eq_true rfl) dX1_due_29 ?_
      exact m_lret E hr hlk hw dX1_due_32 (by simp only [sp_due, if_pos c_1, if_neg c_2]) rfl
    · refine lv_aload_n (pc := 21) hx hb dX1_due_21 rfl (lv_at hl 0 rfl) ?_
      refine lv_iload_n (pc := 22) hx hb dX1_due_22 rfl (lv_at hl 1 rfl) ?_
      refine m_cVi (pc := 23) (As := [.int d]) (rest := []) E hml hl.1 hw (mt_dueAt l G st d c_2.1 hV hP c_1) q1368 q1370 qs36 q1371 hdX1_dueAt ⟨Nat.le_of_ble_eq_true rfl, Nat.le_of_ble_eq_true rfl⟩ rfl rfl rfl (Nat.le_of_ble_eq_true rfl) dX1_due_23 (fun H locs hw => ?_)
      refine lv_goto (pc := 26) (tgt := 32) hx hb dX1_due_26 (by decide) ?_
      exact m_lret E hr hlk hw dX1_due_32 (by simp only [sp_due, if_pos c_1, if_pos c_2]) rfl
set_option maxHeartbeats 4000000 in
set_option maxRecDepth 100000 in
theorem mt_roadAt (l : Launch) (G : mG) (st : mS) (d : Int32)  (hL : 0 ≤ (st 0 24).toInt ∧ (st 0 24).toInt ≤ 10) (hG : ∀ i, i < cnt st 24 → 0 ≤ (st 26 i).toInt ∧ (st 26 i).toInt < 16) : Met l yX1_roadAt (ws_ yX1_roadAt cX1_roadAt 4 (some .int)) (mR 1) (mP G [.int d] st) (mQ G (some (.int (sp_roadAt st d))) (st)) 0 0 (mA G) := by
  refine m_head (As := [.int d]) (bytes := cX1_roadAt) (maxL := 4) (ret := (some .int)) (by decide) rfl (Nat.le_of_ble_eq_true rfl) ?_
  intro p e s m below meth c E hml hr hlk hw ls hl
  have hx := E.1
  have hb := E.2.1
  have hts := E.2.2.1
  have hown := E.2.2.2.1
  have hl : lv_has ls 4 [(0, .ref G.1), (1, .int d)] := hl
  have hLn := cnt_n hL.1
  have hLi := cnt_i hL.1
  refine lv_aload_n (pc := 0) hx hb dX1_roadAt_0 rfl (lv_at hl 0 rfl) ?_
  refine m_getv (pc := 1) (v := (nI (cnt st 24))) E hw 24 (by decide) rfl hLn q1116 dX1_roadAt_1 ?_
  refine li_if_neN (pc := 4) (tgt := 10) hx hb (by omega) dX1_roadAt_4 (by decide) (fun c_1 => ?_) (fun c_1 => ?_)
  · refine lv_iload_n (pc := 10) hx hb dX1_roadAt_10 rfl (lv_at hl 1 rfl) ?_
    refine lv_i2l (pc := 11) (v := d.toInt64) hx hb dX1_roadAt_11 rfl ?_
    refine lv_lconst (pc := 12) (v := 0) hx hb dX1_roadAt_12 (by decide) ?_
    refine lv_aload_n (pc := 13) hx hb dX1_roadAt_13 rfl (lv_at hl 0 rfl) ?_
    refine m_getv (pc := 14) (v := (st 0 25)) E hw 25 (by decide) rfl rfl q1117 dX1_roadAt_14 ?_
    refine lv_i2l (pc := 17) (v := (st 0 25).toInt64) hx hb dX1_roadAt_17 rfl ?_
    refine m_cS (pc := 18) (As := [.long d.toInt64, .long 0, .long (st 0 25).toInt64]) (rest := []) E hml hl.1 (mt_inB l d 0 (st 0 25).toInt64 0 ((st 0 25).toInt) rfl (Int32.toInt_toInt64 _)) q1231 q1232 q1233 hdX1_in ⟨Nat.le_of_ble_eq_true rfl, Nat.le_of_ble_eq_true rfl⟩ rfl rfl rfl (Nat.le_of_ble_eq_true rfl) dX1_roadAt_18 ?_
    refine lb_ne (pc := 21) (tgt := 27) hx hb dX1_roadAt_21 (by decide) (fun c_2 => ?_) (fun c_2 => ?_)
    · refine lv_iconst (pc := 27) (v := 0) hx hb dX1_roadAt_27 (by decide) ?_
      refine lv_istore_n (pc := 28) (lv' := [(2, .int 0), (0, .ref G.1), (1, .int d)]) hx hb dX1_roadAt_28 rfl hl (by decide) rfl (fun ls hl => ?_)
      refine lv_iconst (pc := 29) (v := 0) hx hb dX1_roadAt_29 (by decide) ?_
      refine lv_istore_n (pc := 30) (lv' := [(3, .int 0), (2, .int 0), (0, .ref G.1), (1, .int d)]) hx hb dX1_roadAt_30 rfl hl (by decide) rfl (fun ls hl => ?_)
      have loop : ∀ (n : Nat) (i : Nat) (e_ : Int32), i + n = cnt st 24 → ∀ (H : Heap) (locs : List Loc), mWd G s.heap st H locs → ∀ ls : Array Slot, lv_has ls 4 [(0, .ref G.1), (1, .int d), (2, .int e_), (3, .int (nI i))] → W p l e (mR 1) s m (Value.ref G.1 :: [.int d] : List Value).toArray below meth c H locs 0 0 (MQ below (mQ G (some (.int (rdt st d n i e_))) (st)) (Value.ref G.1 :: [.int d] : List Value).toArray s 0 0 (mA G)) (F0 m 31 ls []) := by
        intro n
        induction n with
        | zero =>
          intro i e_ hi H locs hw ls hl
          refine lv_iload_n (pc := 31) hx hb dX1_roadAt_31 rfl (lv_at hl 3 rfl) ?_
          refine lv_aload_n (pc := 32) hx hb dX1_roadAt_32 rfl (lv_at hl 0 rfl) ?_
          refine m_getv (pc := 33) (v := (nI (cnt st 24))) E hw 24 (by decide) rfl hLn q1116 dX1_roadAt_33 ?_
          refine li_icmp_geN (pc := 36) (a := i) (b := cnt st 24) (tgt := 71) hx hb (by omega) (by omega) dX1_roadAt_36 (by decide) (fun c_3 => ?_) (fun c_3 => absurd c_3 (by omega))
          refine lv_aload_n (pc := 71) hx hb dX1_roadAt_71 rfl (lv_at hl 0 rfl) ?_
          refine m_geta (pc := 72) E hw 26 (by decide) (by decide) q1118 dX1_roadAt_72 ?_
          refine lv_aload_n (pc := 75) hx hb dX1_roadAt_75 rfl (lv_at hl 0 rfl) ?_
          refine m_getv (pc := 76) (v := (nI (cnt st 24))) E hw 24 (by decide) rfl hLn q1116 dX1_roadAt_76 ?_
          refine lv_iconst (pc := 79) (v := 1) hx hb dX1_roadAt_79 (by decide) ?_
          refine li_subN (pc := 80) (a := cnt st 24) (b := 1) hx hb (by omega) dX1_roadAt_80 ?_
          refine m_aldN (pc := 81) (v := (st 26 ((cnt st 24) - 1))) E hw 26 ((cnt st 24) - 1) (by decide) rfl (show (cnt st 24) - 1 < 10 from (by omega)) (by decide) rfl dX1_roadAt_81 ?_
          exact m_iret E hr hlk hw dX1_roadAt_82 (by first | rfl | simp only [rdt]) rfl
        | succ n ih_loop =>
          intro i e_ hi H locs hw ls hl
          refine lv_iload_n (pc := 31) hx hb dX1_roadAt_31 rfl (lv_at hl 3 rfl) ?_
          refine lv_aload_n (pc := 32) hx hb dX1_roadAt_32 rfl (lv_at hl 0 rfl) ?_
          refine m_getv (pc := 33) (v := (nI (cnt st 24))) E hw 24 (by decide) rfl hLn q1116 dX1_roadAt_33 ?_
          refine li_icmp_geN (pc := 36) (a := i) (b := cnt st 24) (tgt := 71) hx hb (by omega) (by omega) dX1_roadAt_36 (by decide) (fun c_4 => absurd c_4 (by omega)) (fun c_4 => ?_)
          refine lv_iload_n (pc := 39) hx hb dX1_roadAt_39 rfl (lv_at hl 2 rfl) ?_
          refine lv_aload_n (pc := 40) hx hb dX1_roadAt_40 rfl (lv_at hl 0 rfl) ?_
          refine m_geta (pc := 41) E hw 4 (by decide) (by decide) q1096 dX1_roadAt_41 ?_
          refine lv_aload_n (pc := 44) hx hb dX1_roadAt_44 rfl (lv_at hl 0 rfl) ?_
          refine m_geta (pc := 45) E hw 26 (by decide) (by decide) q1118 dX1_roadAt_45 ?_
          refine lv_iload_n (pc := 48) hx hb dX1_roadAt_48 rfl (lv_at hl 3 rfl) ?_
          refine m_aldN (pc := 49) (v := (st 26 i)) E hw 26 (i) (by decide) rfl (show i < 10 from (by omega)) (by decide) rfl dX1_roadAt_49 ?_
          have hg_ := hG i (by omega)
          refine m_ald (pc := 50) E hw 4 (by decide) rfl (show vp_in (st 26 i) 16 from vp_in_iff.mpr ⟨by omega, by omega⟩) dX1_roadAt_50 ?_
          refine lv_iadd (pc := 51) hx hb dX1_roadAt_51 ?_
          refine lv_istore_n (pc := 52) (lv' := [(2, .int (e_ + (st 4 (st 26 i).toNatClampNeg))), (0, .ref G.1), (1, .int d), (3, .int (nI i))]) hx hb dX1_roadAt_52 rfl hl (by decide) rfl (fun ls hl => ?_)
          refine lv_iload_n (pc := 53) hx hb dX1_roadAt_53 rfl (lv_at hl 2 rfl) ?_
          refine lv_iload_n (pc := 54) hx hb dX1_roadAt_54 rfl (lv_at hl 0 rfl) ?_
          refine li_icmp_ge (pc := 55) (tgt := 65) hx hb dX1_roadAt_55 (by decide) (fun c_5 => ?_) (fun c_5 => ?_)
          · refine lv_iinc (pc := 65) (v := (nI (i + 1))) (lv' := [(3, .int (nI (i + 1))), (2, .int (e_ + (st 4 (st 26 i).toNatClampNeg))), (0, .ref G.1), (1, .int d)]) hx hb dX1_roadAt_65 hl (k := 3) rfl (nI_1 _) (by decide) rfl (fun ls hl => ?_)
            refine lv_goto (pc := 68) (tgt := 31) hx hb dX1_roadAt_68 (by decide) ?_
            exact m_to (by simp only [rdt, if_neg c_5]) rfl (ih_loop (i + 1) (e_ + (st 4 (st 26 i).toNatClampNeg)) (by omega) _ _ hw _ (lv_sub hl [2, 3, 1, 0] rfl))
          · refine lv_aload_n (pc := 58) hx hb dX1_roadAt_58 rfl (lv_at hl 1 rfl) ?_
            refine m_geta (pc := 59) E hw 26 (by decide) (by decide) q1118 dX1_roadAt_59 ?_
            refine lv_iload_n (pc := 62) hx hb dX1_roadAt_62 rfl (lv_at hl 3 rfl) ?_
            refine m_aldN (pc := 63) (v := (st 26 i)) E hw 26 (i) (by decide) rfl (show i < 10 from (by omega)) (by decide) rfl dX1_roadAt_63 ?_
            exact m_iret E hr hlk hw dX1_roadAt_64 (by first | rfl | simp only [rdt, if_pos c_5]) rfl
      exact m_to (by simp only [sp_roadAt, if_neg c_1, if_pos c_2]) rfl (loop (cnt st 24) 0 0 (by omega) _ _ hw _ (lv_sub hl [2, 3, 1, 0] rfl))
    · refine lv_bipush (pc := 24) (v := (-2)) hx hb dX1_roadAt_24 (by decide) ?_
      exact m_iret E hr hlk hw dX1_roadAt_26 (by first | (simp only [sp_roadAt, if_neg c_1, if_neg c_2]; done) | contradiction | (simp only [sp_roadAt, c_1, c_2, if_true, if_false]; done)) rfl
  · refine lv_bipush (pc := 7) (v := (-3)) hx hb dX1_roadAt_7 (by decide) ?_
    exact m_iret E hr hlk hw dX1_roadAt_9 (by first | (simp only [sp_roadAt, if_pos c_1]; done) | contradiction | (simp only [sp_roadAt, c_1, if_true, if_false]; done)) rfl
set_option maxHeartbeats 4000000 in
set_option maxRecDepth 100000 in
theorem mt_control (l : Launch) (G : mG) (st : mS) (d : Int32)  (hL : 0 ≤ (st 0 24).toInt ∧ (st 0 24).toInt ≤ 10) (hC : 0 ≤ (st 0 30).toInt ∧ (st 0 30).toInt ≤ 8) : Met l yX1_control (ws_ yX1_control cX1_control 3 (some .int)) (mR 1) (mP G [.int d] st) (mQ G (some (.int (sp_control st d).1)) ((sp_control st d).2)) 0 0 (mA G) := by
  refine m_head (As := [.int d]) (bytes := cX1_control) (maxL := 3) (ret := (some .int)) (by decide) rfl (Nat.le_of_ble_eq_true rfl) ?_
  intro p e s m below meth c E hml hr hlk hw ls hl
  have hx := E.1
  have hb := E.2.1
  have hts := E.2.2.1
  have hown := E.2.2.2.1
  have hl : lv_has ls 3 [(0, .ref G.1), (1, .int d)] := hl
  have hLn := cnt_n hL.1
  have hLi := cnt_i hL.1
  have hCn := cnt_n hC.1
  have hCi := cnt_i hC.1
  refine lv_aload_n (pc := 0) hx hb dX1_control_0 rfl (lv_at hl 0 rfl) ?_
  refine m_getv (pc := 1) (v := (nI (cnt st 24))) E hw 24 (by decide) rfl hLn q1116 dX1_control_1 ?_
  refine li_if_neN (pc := 4) (tgt := 10) hx hb (by omega) dX1_control_4 (by decide) (fun c_1 => ?_) (fun c_1 => ?_)
  · refine lv_iload_n (pc := 10) hx hb dX1_control_10 rfl (lv_at hl 1 rfl) ?_
    refine lv_i2l (pc := 11) (v := d.toInt64) hx hb dX1_control_11 rfl ?_
    refine lv_lconst (pc := 12) (v := 1) hx hb dX1_control_12 (by decide) ?_
    refine lv_aload_n (pc := 13) hx hb dX1_control_13 rfl (lv_at hl 0 rfl) ?_
    refine m_getv (pc := 14) (v := (st 0 25)) E hw 25 (by decide) rfl rfl q1117 dX1_control_14 ?_
    refine lv_i2l (pc := 17) (v := (st 0 25).toInt64) hx hb dX1_control_17 rfl ?_
    refine m_cS (pc := 18) (As := [.long d.toInt64, .long 1, .long (st 0 25).toInt64]) (rest := []) E hml hl.1 (mt_inB l d 1 (st 0 25).toInt64 1 ((st 0 25).toInt) rfl (Int32.toInt_toInt64 _)) q1231 q1232 q1233 hdX1_in ⟨Nat.le_of_ble_eq_true rfl, Nat.le_of_ble_eq_true rfl⟩ rfl rfl rfl (Nat.le_of_ble_eq_true rfl) dX1_control_18 ?_
    refine lb_ne (pc := 21) (tgt := 27) hx hb dX1_control_21 (by decide) (fun c_2 => ?_) (fun c_2 => ?_)
    · refine lv_iconst (pc := 27) (v := 0) hx hb dX1_control_27 (by decide) ?_
      refine lv_istore_n (pc := 28) (lv' := [(2, .int 0), (0, .ref G.1), (1, .int d)]) hx hb dX1_control_28 rfl hl (by decide) rfl (fun ls hl => ?_)
      have loop : ∀ (n : Nat) (i : Nat), i + n = cnt st 30 → ∀ (H : Heap) (locs : List Loc), mWd G s.heap st H locs → ∀ ls : Array Slot, lv_has ls 3 [(0, .ref G.1), (1, .int d), (2, .int (nI i))] → W p l e (mR 1) s m (Value.ref G.1 :: [.int d] : List Value).toArray below meth c H locs 0 0 (MQ below (mQ G (some (.int (ctl st d n i).1)) ((ctl st d n i).2)) (Value.ref G.1 :: [.int d] : List Value).toArray s 0 0 (mA G)) (F0 m 29 ls []) := by
        intro n
        induction n with
        | zero =>
          intro i hi H locs hw ls hl
          refine lv_iload_n (pc := 29) hx hb dX1_control_29 rfl (lv_at hl 2 rfl) ?_
          refine lv_aload_n (pc := 30) hx hb dX1_control_30 rfl (lv_at hl 0 rfl) ?_
          refine m_getv (pc := 31) (v := (nI (cnt st 30))) E hw 30 (by decide) rfl hCn q1122 dX1_control_31 ?_
          refine li_icmp_geN (pc := 34) (a := i) (b := cnt st 30) (tgt := 56) hx hb (by omega) (by omega) dX1_control_34 (by decide) (fun c_3 => ?_) (fun c_3 => absurd c_3 (by omega))
          refine lv_aload_n (pc := 56) hx hb dX1_control_56 rfl (lv_at hl 0 rfl) ?_
          refine m_getv (pc := 57) (v := (nI (cnt st 30))) E hw 30 (by decide) rfl hCn q1122 dX1_control_57 ?_
          refine lv_bipush (pc := 60) (v := 8) hx hb dX1_control_60 (by decide) ?_
          refine li_icmp_neN (pc := 62) (a := cnt st 30) (b := 8) (tgt := 68) hx hb (by omega) (by omega) dX1_control_62 (by decide) (fun c_4 => ?_) (fun c_4 => ?_)
          · refine lv_aload_n (pc := 68) hx hb dX1_control_68 rfl (lv_at hl 0 rfl) ?_
            refine m_geta (pc := 69) E hw 31 (by decide) (by decide) q1123 dX1_control_69 ?_
            refine lv_aload_n (pc := 72) hx hb dX1_control_72 rfl (lv_at hl 0 rfl) ?_
            refine m_getv (pc := 73) (v := (nI (cnt st 30))) E hw 30 (by decide) rfl hCn q1122 dX1_control_73 ?_
            refine lv_iload_n (pc := 76) hx hb dX1_control_76 rfl (lv_at hl 1 rfl) ?_
            refine m_astN (pc := 77) (v := d) E hw 31 (cnt st 30) (by decide) rfl (show cnt st 30 < 8 from (by omega)) (by decide) dX1_control_77 (fun H locs hw => ?_)
            refine lv_aload_n (pc := 78) hx hb dX1_control_78 rfl (lv_at hl 0 rfl) ?_
            refine m_geta (pc := 79) E hw 32 (by decide) (by decide) q1124 dX1_control_79 ?_
            refine lv_aload_n (pc := 82) hx hb dX1_control_82 rfl (lv_at hl 0 rfl) ?_
            refine m_getv (pc := 83) (v := (nI (cnt st 30))) E hw 30 (by decide) rfl hCn q1122 dX1_control_83 ?_
            refine lv_iconst (pc := 86) (v := 0) hx hb dX1_control_86 (by decide) ?_
            refine m_zstN (pc := 87) (v := 0) E hw 32 (cnt st 30) (by decide) rfl (show cnt st 30 < 8 from (by omega)) (by decide) rfl dX1_control_87 (fun H locs hw => ?_)
            refine lv_aload_n (pc := 88) hx hb dX1_control_88 rfl (lv_at hl 0 rfl) ?_
            refine m_geta (pc := 89) E hw 33 (by decide) (by decide) q1125 dX1_control_89 ?_
            refine lv_aload_n (pc := 92) hx hb dX1_control_92 rfl (lv_at hl 0 rfl) ?_
            refine m_getv (pc := 93) (v := (nI (cnt st 30))) E hw 30 (by decide) rfl hCn q1122 dX1_control_93 ?_
            refine lv_iconst (pc := 96) (v := 0) hx hb dX1_control_96 (by decide) ?_
            refine m_zstN (pc := 97) (v := 0) E hw 33 (cnt st 30) (by decide) rfl (show cnt st 30 < 8 from (by omega)) (by decide) rfl dX1_control_97 (fun H locs hw => ?_)
            refine lv_aload_n (pc := 98) hx hb dX1_control_98 rfl (lv_at hl 0 rfl) ?_
            refine lv_dup (pc := 99) hx hb dX1_control_99 rfl ?_
            refine m_getv (pc := 100) (v := (nI (cnt st 30))) E hw 30 (by decide) rfl hCn q1122 dX1_control_100 ?_
            refine lv_iconst (pc := 103) (v := 1) hx hb dX1_control_103 (by decide) ?_
            refine li_addN (pc := 104) (a := cnt st 30) (b := 1) hx hb dX1_control_104 ?_
            refine m_put (pc := 105) (v := (nI ((cnt st 30) + 1))) E hw 30 (by decide) rfl rfl rfl q1122 dX1_control_105 (fun H locs hw => ?_)
            refine lv_aload_n (pc := 108) hx hb dX1_control_108 rfl (lv_at hl 0 rfl) ?_
            refine m_getv (pc := 109) (v := (nI ((cnt st 30) + 1))) E hw 30 (by decide) rfl rfl q1122 dX1_control_109 ?_
            refine lv_iconst (pc := 112) (v := 1) hx hb dX1_control_112 (by decide) ?_
            refine li_subN (pc := 113) (a := (cnt st 30) + 1) (b := 1) hx hb (by omega) dX1_control_113 ?_
            exact m_iret E hr hlk hw dX1_control_114 (by simp only [ctl, if_neg c_4, Nat.add_sub_cancel]) (by simp only [ctl, if_neg c_4])
          · refine lv_bipush (pc := 65) (v := (-4)) hx hb dX1_control_65 (by decide) ?_
            exact m_iret E hr hlk hw dX1_control_67 (by simp only [ctl, if_pos c_4, Nat.add_sub_cancel]) (by simp only [ctl, if_pos c_4])
        | succ n ih_loop =>
          intro i hi H locs hw ls hl
          refine lv_iload_n (pc := 29) hx hb dX1_control_29 rfl (lv_at hl 2 rfl) ?_
          refine lv_aload_n (pc := 30) hx hb dX1_control_30 rfl (lv_at hl 0 rfl) ?_
          refine m_getv (pc := 31) (v := (nI (cnt st 30))) E hw 30 (by decide) rfl hCn q1122 dX1_control_31 ?_
          refine li_icmp_geN (pc := 34) (a := i) (b := cnt st 30) (tgt := 56) hx hb (by omega) (by omega) dX1_control_34 (by decide) (fun c_5 => absurd c_5 (by omega)) (fun c_5 => ?_)
          refine lv_aload_n (pc := 37) hx hb dX1_control_37 rfl (lv_at hl 0 rfl) ?_
          refine m_geta (pc := 38) E hw 31 (by decide) (by decide) q1123 dX1_control_38 ?_
          refine lv_iload_n (pc := 41) hx hb dX1_control_41 rfl (lv_at hl 2 rfl) ?_
          refine m_aldN (pc := 42) (v := (st 31 i)) E hw 31 (i) (by decide) rfl (show i < 8 from (by omega)) (by decide) rfl dX1_control_42 ?_
          refine lv_iload_n (pc := 43) hx hb dX1_control_43 rfl (lv_at hl 1 rfl) ?_
          refine li_icne (pc := 44) (tgt := 50) hx hb dX1_control_44 (by decide) (fun c_6 => ?_) (fun c_6 => ?_)
          · refine lv_iinc (pc := 50) (v := (nI (i + 1))) (lv' := [(2, .int (nI (i + 1))), (0, .ref G.1), (1, .int d)]) hx hb dX1_control_50 hl (k := 2) rfl (nI_1 _) (by decide) rfl (fun ls hl => ?_)
            refine lv_goto (pc := 53) (tgt := 29) hx hb dX1_control_53 (by decide) ?_
            exact m_to (by simp only [ctl, if_neg c_6]) (by simp only [ctl, if_neg c_6]) (ih_loop (i + 1) (by omega) _ _ hw _ (lv_sub hl [1, 2, 0] rfl))
          · refine lv_bipush (pc := 47) (v := (-3)) hx hb dX1_control_47 (by decide) ?_
            exact m_iret E hr hlk hw dX1_control_49 (by simp only [ctl, if_pos c_6, Nat.add_sub_cancel]) (by simp only [ctl, if_pos c_6])
      exact m_to (by simp only [sp_control, if_neg c_1, if_pos c_2]) (by simp only [sp_control, if_neg c_1, if_pos c_2]) (loop (cnt st 30) 0 (by omega) _ _ hw _ (lv_sub hl [1, 2, 0] rfl))
    · refine lv_bipush (pc := 24) (v := (-2)) hx hb dX1_control_24 (by decide) ?_
      exact m_iret E hr hlk hw dX1_control_26 (by first | (simp only [sp_control, if_neg c_1, if_neg c_2]; done) | contradiction | (simp only [sp_control, c_1, c_2, if_true, if_false]; done)) (by first | (simp only [sp_control, if_neg c_1, if_neg c_2]; done) | contradiction | (simp only [sp_control, c_1, c_2, if_true, if_false]; done))
  · refine lv_bipush (pc := 7) (v := (-3)) hx hb dX1_control_7 (by decide) ?_
    exact m_iret E hr hlk hw dX1_control_9 (by first | (simp only [sp_control, if_pos c_1]; done) | contradiction | (simp only [sp_control, c_1, if_true, if_false]; done)) (by first | (simp only [sp_control, if_pos c_1]; done) | contradiction | (simp only [sp_control, c_1, if_true, if_false]; done))
set_option maxHeartbeats 4000000 in
set_option maxRecDepth 100000 in
theorem mt_watch (l : Launch) (G : mG) (st : mS) (c_ : Int32) (a : Int32) (b : Int32) (x : Int32) (y : Int32)  (hC : 0 ≤ (st 0 30).toInt ∧ (st 0 30).toInt ≤ 8) : Met l yX1_watch (ws_ yX1_watch cX1_watch 6 (some .int)) (mR 2) (mP G [.int c_, .int a, .int b, .int x, .int y] st) (mQ G (some (.int (sp_watch st c_ a b x y).1)) ((sp_watch st c_ a b x y).2)) 0 0 (mA G) := by
  refine m_head (As := [.int c_, .int a, .int b, .int x, .int y]) (bytes := cX1_watch) (maxL := 6) (ret := (some .int)) (by decide) rfl (Nat.le_of_ble_eq_true rfl) ?_
  intro p e s m below meth c E hml hr hlk hw ls hl
  have hx := E.1
  have hb := E.2.1
  have hts := E.2.2.1
  have hown := E.2.2.2.1
  have hl : lv_has ls 6 [(0, .ref G.1), (1, .int c_), (2, .int a), (3, .int b), (4, .int x), (5, .int y)] := hl
  have hCn := cnt_n hC.1
  have hCi := cnt_i hC.1
  refine lv_aload_n (pc := 0) hx hb dX1_watch_0 rfl (lv_at hl 0 rfl) ?_
  refine lv_iload_n (pc := 1) hx hb dX1_watch_1 rfl (lv_at hl 1 rfl) ?_
  refine m_cVi (pc := 2) (As := [.int c_]) (rest := []) E hml hl.1 hw (mt_noControl l G (st) c_) q1385 q1387 qs37 q1388 hdX1_noControl ⟨Nat.le_of_ble_eq_true rfl, Nat.le_of_ble_eq_true rfl⟩ rfl rfl rfl (Nat.le_of_ble_eq_true rfl) dX1_watch_2 (fun H locs hw => ?_)
  refine nb_eq (pc := 5) (tgt := 10) hx hb dX1_watch_5 (by decide) (fun c_1 => ?_) (fun c_1 => ?_)
  · refine lv_iload_n (pc := 10) hx hb dX1_watch_10 rfl (lv_at hl 2 rfl) ?_
    refine m_cS (pc := 11) (As := [.int a]) (rest := []) E hml hl.1 (mt_isTime l a) q1389 q1390 q1391 hdX1_isTime ⟨Nat.le_of_ble_eq_true rfl, Nat.le_of_ble_eq_true rfl⟩ rfl rfl rfl (Nat.le_of_ble_eq_true rfl) dX1_watch_11 ?_
    refine lb_eq (pc := 14) (tgt := 52) hx hb dX1_watch_14 (by decide) (fun c_2 => ?_) (fun c_2 => ?_)
    · refine lv_bipush (pc := 52) (v := (-2)) hx hb dX1_watch_52 (by decide) ?_
      exact m_iret E hr hlk hw dX1_watch_54 (by first | (simp only [sp_watch, if_pos c_1, if_neg c_2]; done) | contradiction | (simp only [sp_watch, c_1, c_2, if_true, if_false]; done)) (by first | (simp only [sp_watch, if_pos c_1, if_neg c_2]; done) | contradiction | (simp only [sp_watch, c_1, c_2, if_true, if_false]; done))
    · refine lv_iload_n (pc := 17) hx hb dX1_watch_17 rfl (lv_at hl 3 rfl) ?_
      refine m_cS (pc := 18) (As := [.int b]) (rest := []) E hml hl.1 (mt_isTime l b) q1389 q1390 q1391 hdX1_isTime ⟨Nat.le_of_ble_eq_true rfl, Nat.le_of_ble_eq_true rfl⟩ rfl rfl rfl (Nat.le_of_ble_eq_true rfl) dX1_watch_18 ?_
      refine lb_eq (pc := 21) (tgt := 52) hx hb dX1_watch_21 (by decide) (fun c_3 => ?_) (fun c_3 => ?_)
      · refine lv_bipush (pc := 52) (v := (-2)) hx hb dX1_watch_52 (by decide) ?_
        exact m_iret E hr hlk hw dX1_watch_54 (by first | (simp only [sp_watch, if_pos c_1, if_pos c_2, if_neg c_3]; done) | contradiction | (simp only [sp_watch, c_1, c_2, c_3, if_true, if_false]; done)) (by first | (simp only [sp_watch, if_pos c_1, if_pos c_2, if_neg c_3]; done) | contradiction | (simp only [sp_watch, c_1, c_2, c_3, if_true, if_false]; done))
      · refine lv_iload (pc := 24) hx hb dX1_watch_24 (lv_at hl 4 rfl) ?_
        refine m_cS (pc := 26) (As := [.int x]) (rest := []) E hml hl.1 (mt_isTime l x) q1389 q1390 q1391 hdX1_isTime ⟨Nat.le_of_ble_eq_true rfl, Nat.le_of_ble_eq_true rfl⟩ rfl rfl rfl (Nat.le_of_ble_eq_true rfl) dX1_watch_26 ?_
        refine lb_eq (pc := 29) (tgt := 52) hx hb dX1_watch_29 (by decide) (fun c_4 => ?_) (fun c_4 => ?_)
        · refine lv_bipush (pc := 52) (v := (-2)) hx hb dX1_watch_52 (by decide) ?_
          exact m_iret E hr hlk hw dX1_watch_54 (by first | (simp only [sp_watch, if_pos c_1, if_pos c_2, if_pos c_3, if_neg c_4]; done) | contradiction | (simp only [sp_watch, c_1, c_2, c_3, c_4, if_true, if_false]; done)) (by first | (simp only [sp_watch, if_pos c_1, if_pos c_2, if_pos c_3, if_neg c_4]; done) | contradiction | (simp only [sp_watch, c_1, c_2, c_3, c_4, if_true, if_false]; done))
        · refine lv_iload (pc := 32) hx hb dX1_watch_32 (lv_at hl 5 rfl) ?_
          refine m_cS (pc := 34) (As := [.int y]) (rest := []) E hml hl.1 (mt_isTime l y) q1389 q1390 q1391 hdX1_isTime ⟨Nat.le_of_ble_eq_true rfl, Nat.le_of_ble_eq_true rfl⟩ rfl rfl rfl (Nat.le_of_ble_eq_true rfl) dX1_watch_34 ?_
          refine lb_eq (pc := 37) (tgt := 52) hx hb dX1_watch_37 (by decide) (fun c_5 => ?_) (fun c_5 => ?_)
          · refine lv_bipush (pc := 52) (v := (-2)) hx hb dX1_watch_52 (by decide) ?_
            exact m_iret E hr hlk hw dX1_watch_54 (by first | (simp only [sp_watch, if_pos c_1, if_pos c_2, if_pos c_3, if_pos c_4, if_neg c_5]; done) | contradiction | (simp only [sp_watch, c_1, c_2, c_3, c_4, c_5, if_true, if_false]; done)) (by first | (simp only [sp_watch, if_pos c_1, if_pos c_2, if_pos c_3, if_pos c_4, if_neg c_5]; done) | contradiction | (simp only [sp_watch, c_1, c_2, c_3, c_4, c_5, if_true, if_false]; done))
          · refine lv_iload_n (pc := 40) hx hb dX1_watch_40 rfl (lv_at hl 2 rfl) ?_
            refine lv_iload_n (pc := 41) hx hb dX1_watch_41 rfl (lv_at hl 3 rfl) ?_
            refine li_icmp_ge (pc := 42) (tgt := 52) hx hb dX1_watch_42 (by decide) (fun c_6 => ?_) (fun c_6 => ?_)
            · refine lv_bipush (pc := 52) (v := (-2)) hx hb dX1_watch_52 (by decide) ?_
              exact m_iret E hr hlk hw dX1_watch_54 (by first | (simp only [sp_watch, if_pos c_1, if_pos c_2, if_pos c_3, if_pos c_4, if_pos c_5, if_neg c_6]; done) | contradiction | (simp only [sp_watch, c_1, c_2, c_3, c_4, c_5, c_6, if_true, if_false]; done)) (by first | (simp only [sp_watch, if_pos c_1, if_pos c_2, if_pos c_3, if_pos c_4, if_pos c_5, if_neg c_6]; done) | contradiction | (simp only [sp_watch, c_1, c_2, c_3, c_4, c_5, c_6, if_true, if_false]; done))
            · refine lv_iload (pc := 45) hx hb dX1_watch_45 (lv_at hl 4 rfl) ?_
              refine lv_iload (pc := 47) hx hb dX1_watch_47 (lv_at hl 5 rfl) ?_
              refine li_icmp_lt (pc := 49) (tgt := 55) hx hb dX1_watch_49 (by decide) (fun c_7 => ?_) (fun c_7 => ?_)
              · have hcn := clamp_n (x := c_) c_1.1
                have hci := clamp_i (x := c_) c_1.1
                refine lv_aload_n (pc := 55) hx hb dX1_watch_55 rfl (lv_at hl 0 rfl) ?_
                refine m_geta (pc := 56) E hw 33 (by decide) (by decide) q1125 dX1_watch_56 ?_
                refine lv_iload_n (pc := 59) hx hb dX1_watch_59 rfl (lv_at hl 1 rfl) ?_
                refine lv_iconst (pc := 60) (v := 1) hx hb dX1_watch_60 (by decide) ?_
                refine m_zst (pc := 61) (v := 1) E hw 33 (by decide) rfl (show vp_in c_ 8 from vp_in_iff.mpr ⟨by omega, by omega⟩) rfl dX1_watch_61 (fun H locs hw => ?_)
                refine lv_aload_n (pc := 62) hx hb dX1_watch_62 rfl (lv_at hl 0 rfl) ?_
                refine m_geta (pc := 63) E hw 34 (by decide) (by decide) q1126 dX1_watch_63 ?_
                refine lv_iconst (pc := 66) (v := 4) hx hb dX1_watch_66 (by decide) ?_
                refine lv_iload_n (pc := 67) hx hb dX1_watch_67 rfl (lv_at hl 1 rfl) ?_
                refine li_top (v' := .int (nI c_.toNatClampNeg)) (congrArg Value.int hcn) ?_
                refine li_mulN (pc := 68) (a := 4) (b := c_.toNatClampNeg) hx hb dX1_watch_68 ?_
                refine lv_iload_n (pc := 69) hx hb dX1_watch_69 rfl (lv_at hl 2 rfl) ?_
                refine m_astN (pc := 70) (v := a) E hw 34 (4 * c_.toNatClampNeg) (by decide) rfl (show 4 * c_.toNatClampNeg < 32 from (by omega)) (by decide) dX1_watch_70 (fun H locs hw => ?_)
                refine lv_aload_n (pc := 71) hx hb dX1_watch_71 rfl (lv_at hl 0 rfl) ?_
                refine m_geta (pc := 72) E hw 34 (by decide) (by decide) q1126 dX1_watch_72 ?_
                refine lv_iconst (pc := 75) (v := 4) hx hb dX1_watch_75 (by decide) ?_
                refine lv_iload_n (pc := 76) hx hb dX1_watch_76 rfl (lv_at hl 1 rfl) ?_
                refine li_top (v' := .int (nI c_.toNatClampNeg)) (congrArg Value.int hcn) ?_
                refine li_mulN (pc := 77) (a := 4) (b := c_.toNatClampNeg) hx hb dX1_watch_77 ?_
                refine lv_iconst (pc := 78) (v := 1) hx hb dX1_watch_78 (by decide) ?_
                refine li_addN (pc := 79) (a := 4 * c_.toNatClampNeg) (b := 1) hx hb dX1_watch_79 ?_
                refine lv_iload_n (pc := 80) hx hb dX1_watch_80 rfl (lv_at hl 3 rfl) ?_
                refine m_astN (pc := 81) (v := b) E hw 34 ((4 * c_.toNatClampNeg) + 1) (by decide) rfl (show (4 * c_.toNatClampNeg) + 1 < 32 from (by omega)) (by decide) dX1_watch_81 (fun H locs hw => ?_)
                refine lv_aload_n (pc := 82) hx hb dX1_watch_82 rfl (lv_at hl 0 rfl) ?_
                refine m_geta (pc := 83) E hw 34 (by decide) (by decide) q1126 dX1_watch_83 ?_
                refine lv_iconst (pc := 86) (v := 4) hx hb dX1_watch_86 (by decide) ?_
                refine lv_iload_n (pc := 87) hx hb dX1_watch_87 rfl (lv_at hl 1 rfl) ?_
                refine li_top (v' := .int (nI c_.toNatClampNeg)) (congrArg Value.int hcn) ?_
                refine li_mulN (pc := 88) (a := 4) (b := c_.toNatClampNeg) hx hb dX1_watch_88 ?_
                refine lv_iconst (pc := 89) (v := 2) hx hb dX1_watch_89 (by decide) ?_
                refine li_addN (pc := 90) (a := 4 * c_.toNatClampNeg) (b := 2) hx hb dX1_watch_90 ?_
                refine lv_iload (pc := 91) hx hb dX1_watch_91 (lv_at hl 4 rfl) ?_
                refine m_astN (pc := 93) (v := x) E hw 34 ((4 * c_.toNatClampNeg) + 2) (by decide) rfl (show (4 * c_.toNatClampNeg) + 2 < 32 from (by omega)) (by decide) dX1_watch_93 (fun H locs hw => ?_)
                refine lv_aload_n (pc := 94) hx hb dX1_watch_94 rfl (lv_at hl 0 rfl) ?_
                refine m_geta (pc := 95) E hw 34 (by decide) (by decide) q1126 dX1_watch_95 ?_
                refine lv_iconst (pc := 98) (v := 4) hx hb dX1_watch_98 (by decide) ?_
                refine lv_iload_n (pc := 99) hx hb dX1_watch_99 rfl (lv_at hl 1 rfl) ?_
                refine li_top (v' := .int (nI c_.toNatClampNeg)) (congrArg Value.int hcn) ?_
                refine li_mulN (pc := 100) (a := 4) (b := c_.toNatClampNeg) hx hb dX1_watch_100 ?_
                refine lv_iconst (pc := 101) (v := 3) hx hb dX1_watch_101 (by decide) ?_
                refine li_addN (pc := 102) (a := 4 * c_.toNatClampNeg) (b := 3) hx hb dX1_watch_102 ?_
                refine lv_iload (pc := 103) hx hb dX1_watch_103 (lv_at hl 5 rfl) ?_
                refine m_astN (pc := 105) (v := y) E hw 34 ((4 * c_.toNatClampNeg) + 3) (by decide) rfl (show (4 * c_.toNatClampNeg) + 3 < 32 from (by omega)) (by decide) dX1_watch_105 (fun H locs hw => ?_)
                refine lv_iconst (pc := 106) (v := 1) hx hb dX1_watch_106 (by decide) ?_
                exact m_iret E hr hlk hw dX1_watch_107 (by first | (simp only [sp_watch, if_pos c_1, if_pos c_2, if_pos c_3, if_pos c_4, if_pos c_5, if_pos c_6, if_pos c_7]; done) | contradiction | (simp only [sp_watch, c_1, c_2, c_3, c_4, c_5, c_6, c_7, if_true, if_false]; done)) (by first | (simp only [sp_watch, if_pos c_1, if_pos c_2, if_pos c_3, if_pos c_4, if_pos c_5, if_pos c_6, if_pos c_7]; done) | contradiction | (simp only [sp_watch, c_1, c_2, c_3, c_4, c_5, c_6, c_7, if_true, if_false]; done))
              · refine lv_bipush (pc := 52) (v := (-2)) hx hb dX1_watch_52 (by decide) ?_
                exact m_iret E hr hlk hw dX1_watch_54 (by first | (simp only [sp_watch, if_pos c_1, if_pos c_2, if_pos c_3, if_pos c_4, if_pos c_5, if_pos c_6, if_neg c_7]; done) | contradiction | (simp only [sp_watch, c_1, c_2, c_3, c_4, c_5, c_6, c_7, if_true, if_false]; done)) (by first | (simp only [sp_watch, if_pos c_1, if_pos c_2, if_pos c_3, if_pos c_4, if_pos c_5, if_pos c_6, if_neg c_7]; done) | contradiction | (simp only [sp_watch, c_1, c_2, c_3, c_4, c_5, c_6, c_7, if_true, if_false]; done))
  · refine lv_iconst (pc := 8) (v := (-1)) hx hb dX1_watch_8 (by decide) ?_
    exact m_iret E hr hlk hw dX1_watch_9 (by first | (simp only [sp_watch, if_neg c_1]; done) | contradiction | (simp only [sp_watch, c_1, if_true, if_false]; done)) (by first | (simp only [sp_watch, if_neg c_1]; done) | contradiction | (simp only [sp_watch, c_1, if_true, if_false]; done))
set_option maxHeartbeats 4000000 in
set_option maxRecDepth 100000 in
theorem mt_rightAt (l : Launch) (G : mG) (st : mS) (c_ : Nat) (t : Int64)  (hc : c_ < 8) (hQ : ∀ c, c < 8 → ¬ st 33 c = 0 → (st 34 (4 * c + 2)).toInt < (st 34 (4 * c + 3)).toInt) : Met l yX1_rightAt (ws_ yX1_rightAt cX1_rightAt 8 (some .long)) (mR 0) (mP G [.int (nI c_), .long t] st) (mQ G (some (.long (rgt st c_ t))) (st)) 0 0 (mA G) := by
  refine m_head (As := [.int (nI c_), .long t]) (bytes := cX1_rightAt) (maxL := 8) (ret := (some .long)) (by decide) rfl (Nat.le_of_ble_eq_true rfl) ?_
  intro p e s m below meth c E hml hr hlk hw ls hl
  have hx := E.1
  have hb := E.2.1
  have hts := E.2.2.1
  have hown := E.2.2.2.1
  have hl : lv_has ls 8 [(0, .ref G.1), (1, .int (nI c_)), (2, .long t)] := hl
  refine lv_aload_n (pc := 0) hx hb dX1_rightAt_0 rfl (lv_at hl 0 rfl) ?_
  refine m_geta (pc := 1) E hw 33 (by decide) (by decide) q1125 dX1_rightAt_1 ?_
  refine lv_iload_n (pc := 4) hx hb dX1_rightAt_4 rfl (lv_at hl 1 rfl) ?_
  refine m_zldN (pc := 5) (v := (st 33 c_)) E hw 33 (c_) (by decide) rfl (show c_ < 8 from (by omega)) (by decide) rfl dX1_rightAt_5 ?_
  refine li_ne (pc := 6) (tgt := 11) hx hb dX1_rightAt_6 (by decide) (fun c_1 => ?_) (fun c_1 => ?_)
  · refine lv_aload_n (pc := 11) hx hb dX1_rightAt_11 rfl (lv_at hl 0 rfl) ?_
    refine m_geta (pc := 12) E hw 34 (by decide) (by decide) q1126 dX1_rightAt_12 ?_
    refine lv_iconst (pc := 15) (v := 4) hx hb dX1_rightAt_15 (by decide) ?_
    refine lv_iload_n (pc := 16) hx hb dX1_rightAt_16 rfl (lv_at hl 1 rfl) ?_
    refine li_mulN (pc := 17) (a := 4) (b := c_) hx hb dX1_rightAt_17 ?_
    refine m_aldN (pc := 18) (v := (st 34 (4 * c_))) E hw 34 (4 * c_) (by decide) rfl (show 4 * c_ < 32 from (by omega)) (by decide) rfl dX1_rightAt_18 ?_
    refine lv_i2l (pc := 19) (v := (st 34 (4 * c_)).toInt64) hx hb dX1_rightAt_19 rfl ?_
    refine lv_lstore (pc := 20) (lv' := [(4, .long (st 34 (4 * c_)).toInt64), (0, .ref G.1), (1, .int (nI c_)), (2, .long t)]) hx hb dX1_rightAt_20 hl (by decide) rfl (fun ls hl => ?_)
    refine lv_aload_n (pc := 22) hx hb dX1_rightAt_22 rfl (lv_at hl 1 rfl) ?_
    refine m_geta (pc := 23) E hw 34 (by decide) (by decide) q1126 dX1_rightAt_23 ?_
    refine lv_iconst (pc := 26) (v := 4) hx hb dX1_rightAt_26 (by decide) ?_
    refine lv_iload_n (pc := 27) hx hb dX1_rightAt_27 rfl (lv_at hl 2 rfl) ?_
    refine li_mulN (pc := 28) (a := 4) (b := c_) hx hb dX1_rightAt_28 ?_
    refine lv_iconst (pc := 29) (v := 2) hx hb dX1_rightAt_29 (by decide) ?_
    refine li_addN (pc := 30) (a := 4 * c_) (b := 2) hx hb dX1_rightAt_30 ?_
    refine m_aldN (pc := 31) (v := (st 34 ((4 * c_) + 2))) E hw 34 ((4 * c_) + 2) (by decide) rfl (show (4 * c_) + 2 < 32 from (by omega)) (by decide) rfl dX1_rightAt_31 ?_
    refine lv_i2l (pc := 32) (v := (st 34 ((4 * c_) + 2)).toInt64) hx hb dX1_rightAt_32 rfl ?_
    refine lv_lstore (pc := 33) (lv' := [(6, .long (st 34 ((4 * c_) + 2)).toInt64), (4, .long (st 34 (4 * c_)).toInt64), (0, .ref G.1), (1, .int (nI c_)), (2, .long t)]) hx hb dX1_rightAt_33 hl (by decide) rfl (fun ls hl => ?_)
    refine lv_lload (pc := 35) hx hb dX1_rightAt_35 (lv_at hl 1 rfl) ?_
    refine lv_lload_n (pc := 37) hx hb dX1_rightAt_37 rfl (lv_at hl 4 rfl) ?_
    refine lv_lload (pc := 38) hx hb dX1_rightAt_38 (lv_at hl 0 rfl) ?_
    refine lv_lsub (pc := 40) hx hb dX1_rightAt_40 ?_
    refine lv_aload_n (pc := 41) hx hb dX1_rightAt_41 rfl (lv_at hl 2 rfl) ?_
    refine m_geta (pc := 42) E hw 34 (by decide) (by decide) q1126 dX1_rightAt_42 ?_
    refine lv_iconst (pc := 45) (v := 4) hx hb dX1_rightAt_45 (by decide) ?_
    refine lv_iload_n (pc := 46) hx hb dX1_rightAt_46 rfl (lv_at hl 3 rfl) ?_
    refine li_mulN (pc := 47) (a := 4) (b := c_) hx hb dX1_rightAt_47 ?_
    refine lv_iconst (pc := 48) (v := 1) hx hb dX1_rightAt_48 (by decide) ?_
    refine li_addN (pc := 49) (a := 4 * c_) (b := 1) hx hb dX1_rightAt_49 ?_
    refine m_aldN (pc := 50) (v := (st 34 ((4 * c_) + 1))) E hw 34 ((4 * c_) + 1) (by decide) rfl (show (4 * c_) + 1 < 32 from (by omega)) (by decide) rfl dX1_rightAt_50 ?_
    refine lv_i2l (pc := 51) (v := (st 34 ((4 * c_) + 1)).toInt64) hx hb dX1_rightAt_51 rfl ?_
    refine lv_lload (pc := 52) hx hb dX1_rightAt_52 (lv_at hl 1 rfl) ?_
    refine lv_lsub (pc := 54) hx hb dX1_rightAt_54 ?_
    refine lv_lmul (pc := 55) hx hb dX1_rightAt_55 ?_
    refine lv_aload_n (pc := 56) hx hb dX1_rightAt_56 rfl (lv_at hl 2 rfl) ?_
    refine m_geta (pc := 57) E hw 34 (by decide) (by decide) q1126 dX1_rightAt_57 ?_
    refine lv_iconst (pc := 60) (v := 4) hx hb dX1_rightAt_60 (by decide) ?_
    refine lv_iload_n (pc := 61) hx hb dX1_rightAt_61 rfl (lv_at hl 3 rfl) ?_
    refine li_mulN (pc := 62) (a := 4) (b := c_) hx hb dX1_rightAt_62 ?_
    refine lv_iconst (pc := 63) (v := 3) hx hb dX1_rightAt_63 (by decide) ?_
    refine li_addN (pc := 64) (a := 4 * c_) (b := 3) hx hb dX1_rightAt_64 ?_
    refine m_aldN (pc := 65) (v := (st 34 ((4 * c_) + 3))) E hw 34 ((4 * c_) + 3) (by decide) rfl (show (4 * c_) + 3 < 32 from (by omega)) (by decide) rfl dX1_rightAt_65 ?_
    refine lv_i2l (pc := 66) (v := (st 34 ((4 * c_) + 3)).toInt64) hx hb dX1_rightAt_66 rfl ?_
    refine lv_lload (pc := 67) hx hb dX1_rightAt_67 (lv_at hl 0 rfl) ?_
    refine lv_lsub (pc := 69) hx hb dX1_rightAt_69 ?_
    refine lv_ldiv (pc := 70) hx hb dX1_rightAt_70 (i64_sne (hQ c_ hc (by assumption))) ?_
    refine lv_ladd (pc := 71) hx hb dX1_rightAt_71 ?_
    exact m_lret E hr hlk hw dX1_rightAt_72 (by first | (simp only [rgt, if_neg c_1]; done) | contradiction | (simp only [rgt, c_1, if_true, if_false]; done)) rfl
  · refine lv_lload_n (pc := 9) hx hb dX1_rightAt_9 rfl (lv_at hl 2 rfl) ?_
    exact m_lret E hr hlk hw dX1_rightAt_10 (by first | (simp only [rgt, if_pos c_1]; done) | contradiction | (simp only [rgt, c_1, if_true, if_false]; done)) rfl
set_option maxHeartbeats 4000000 in
set_option maxRecDepth 100000 in
theorem mt_right (l : Launch) (G : mG) (st : mS) (c_ : Int32) (t : Int32)  (hC : 0 ≤ (st 0 30).toInt ∧ (st 0 30).toInt ≤ 8) (hQ : ∀ c, c < 8 → ¬ st 33 c = 0 → (st 34 (4 * c + 2)).toInt < (st 34 (4 * c + 3)).toInt) : Met l yX1_right (ws_ yX1_right cX1_right 3 (some .long)) (mR 2) (mP G [.int c_, .int t] st) (mQ G (some (.long (sp_right st c_ t))) (st)) 0 0 (mA G) := by
  refine m_head (As := [.int c_, .int t]) (bytes := cX1_right) (maxL := 3) (ret := (some .long)) (by decide) rfl (Nat.le_of_ble_eq_true rfl) ?_
  intro p e s m below meth c E hml hr hlk hw ls hl
  have hx := E.1
  have hb := E.2.1
  have hts := E.2.2.1
  have hown := E.2.2.2.1
  have hl : lv_has ls 3 [(0, .ref G.1), (1, .int c_), (2, .int t)] := hl
  have hCn := cnt_n hC.1
  have hCi := cnt_i hC.1
  refine lv_aload_n (pc := 0) hx hb dX1_right_0 rfl (lv_at hl 0 rfl) ?_
  refine lv_iload_n (pc := 1) hx hb dX1_right_1 rfl (lv_at hl 1 rfl) ?_
  refine m_cVi (pc := 2) (As := [.int c_]) (rest := []) E hml hl.1 hw (mt_noControl l G (st) c_) q1385 q1387 qs37 q1388 hdX1_noControl ⟨Nat.le_of_ble_eq_true rfl, Nat.le_of_ble_eq_true rfl⟩ rfl rfl rfl (Nat.le_of_ble_eq_true rfl) dX1_right_2 (fun H locs hw => ?_)
  refine nb_ne (pc := 5) (tgt := 15) hx hb dX1_right_5 (by decide) (fun c_1 => ?_) (fun c_1 => ?_)
  · refine m_cS (pc := 15) (As := []) (rest := []) E hml hl.1 (mt_lost l) q1284 q1285 q1286 hdX1_lost ⟨Nat.le_of_ble_eq_true rfl, Nat.le_of_ble_eq_true rfl⟩ rfl rfl rfl (Nat.le_of_ble_eq_true rfl) dX1_right_15 ?_
    refine lv_goto (pc := 18) (tgt := 28) hx hb dX1_right_18 (by decide) ?_
    exact m_lret E hr hlk hw dX1_right_28 (by first | (simp only [sp_right, if_neg c_1]; done) | contradiction | (simp only [sp_right, c_1, if_true, if_false]; done)) rfl
  · refine lv_iload_n (pc := 8) hx hb dX1_right_8 rfl (lv_at hl 2 rfl) ?_
    refine m_cS (pc := 9) (As := [.int t]) (rest := []) E hml hl.1 (mt_isTime l t) q1389 q1390 q1391 hdX1_isTime ⟨Nat.le_of_ble_eq_true rfl, Nat.le_of_ble_eq_true rfl⟩ rfl rfl rfl (Nat.le_of_ble_eq_true rfl) dX1_right_9 ?_
    refine lb_ne (pc := 12) (tgt := 21) hx hb dX1_right_12 (by decide) (fun c_2 => ?_) (fun c_2 => ?_)
    · have hcn := clamp_n (x := c_) c_1.1
      have hci := clamp_i (x := c_) c_1.1
      refine lv_aload_n (pc := 21) hx hb dX1_right_21 rfl (lv_at hl 0 rfl) ?_
      refine lv_iload_n (pc := 22) hx hb dX1_right_22 rfl (lv_at hl 1 rfl) ?_
      refine li_top (v' := .int (nI c_.toNatClampNeg)) (congrArg Value.int hcn) ?_
      refine lv_iload_n (pc := 23) hx hb dX1_right_23 rfl (lv_at hl 2 rfl) ?_
      refine lv_i2l (pc := 24) (v := t.toInt64) hx hb dX1_right_24 rfl ?_
      refine m_cVi (pc := 25) (As := [.int (nI c_.toNatClampNeg), .long t.toInt64]) (rest := []) E hml hl.1 hw (mt_rightAt l G (st) c_.toNatClampNeg t.toInt64 (by omega) hQ) q1397 q1399 qs38 q1400 hdX1_rightAt ⟨Nat.le_of_ble_eq_true rfl, Nat.le_of_ble_eq_true rfl⟩ rfl rfl rfl (Nat.le_of_ble_eq_true rfl) dX1_right_25 (fun H locs hw => ?_)
      exact m_lret E hr hlk hw dX1_right_28 (by first | (simp only [sp_right, if_pos c_1, if_pos c_2]; done) | contradiction | (simp only [sp_right, c_1, c_2, if_true, if_false]; done)) rfl
    · refine m_cS (pc := 15) (As := []) (rest := []) E hml hl.1 (mt_lost l) q1284 q1285 q1286 hdX1_lost ⟨Nat.le_of_ble_eq_true rfl, Nat.le_of_ble_eq_true rfl⟩ rfl rfl rfl (Nat.le_of_ble_eq_true rfl) dX1_right_15 ?_
      refine lv_goto (pc := 18) (tgt := 28) hx hb dX1_right_18 (by decide) ?_
      exact m_lret E hr hlk hw dX1_right_28 (by first | (simp only [sp_right, if_pos c_1, if_neg c_2]; done) | contradiction | (simp only [sp_right, c_1, c_2, if_true, if_false]; done)) rfl
set_option maxHeartbeats 4000000 in
set_option maxRecDepth 100000 in
theorem mt_strike (l : Launch) (G : mG) (st : mS) (c_ : Int32) (is : Int32)  (hC : 0 ≤ (st 0 30).toInt ∧ (st 0 30).toInt ≤ 8) (his : is = 0 ∨ is = 1) : Met l yX1_strike (ws_ yX1_strike cX1_strike 4 (some .int)) (mR 2) (mP G [.int c_, .int is] st) (mQ G (some (.int (sp_strike st c_ is).1)) ((sp_strike st c_ is).2)) 0 0 (mA G) := by
  refine m_head (As := [.int c_, .int is]) (bytes := cX1_strike) (maxL := 4) (ret := (some .int)) (by decide) rfl (Nat.le_of_ble_eq_true rfl) ?_
  intro p e s m below meth c E hml hr hlk hw ls hl
  have hx := E.1
  have hb := E.2.1
  have hts := E.2.2.1
  have hown := E.2.2.2.1
  have hl : lv_has ls 4 [(0, .ref G.1), (1, .int c_), (2, .int is)] := hl
  have hCn := cnt_n hC.1
  have hCi := cnt_i hC.1
  refine lv_aload_n (pc := 0) hx hb dX1_strike_0 rfl (lv_at hl 0 rfl) ?_
  refine lv_iload_n (pc := 1) hx hb dX1_strike_1 rfl (lv_at hl 1 rfl) ?_
  refine m_cVi (pc := 2) (As := [.int c_]) (rest := []) E hml hl.1 hw (mt_noControl l G (st) c_) q1385 q1387 qs37 q1388 hdX1_noControl ⟨Nat.le_of_ble_eq_true rfl, Nat.le_of_ble_eq_true rfl⟩ rfl rfl rfl (Nat.le_of_ble_eq_true rfl) dX1_strike_2 (fun H locs hw => ?_)
  refine nb_eq (pc := 5) (tgt := 10) hx hb dX1_strike_5 (by decide) (fun c_1 => ?_) (fun c_1 => ?_)
  · refine lv_aload_n (pc := 10) hx hb dX1_strike_10 rfl (lv_at hl 0 rfl) ?_
    refine m_geta (pc := 11) E hw 32 (by decide) (by decide) q1124 dX1_strike_11 ?_
    refine lv_iload_n (pc := 14) hx hb dX1_strike_14 rfl (lv_at hl 1 rfl) ?_
    refine m_zld (pc := 15) E hw 32 (by decide) rfl (show vp_in c_ 8 from vp_in_iff.mpr ⟨by omega, by omega⟩) dX1_strike_15 ?_
    refine lv_iload_n (pc := 16) hx hb dX1_strike_16 rfl (lv_at hl 2 rfl) ?_
    refine lv_icmp_eq (pc := 17) (tgt := 24) hx hb dX1_strike_17 (by decide) (fun c_2 => ?_) (fun c_2 => ?_)
    · refine lv_iconst (pc := 24) (v := 0) hx hb dX1_strike_24 (by decide) ?_
      refine lv_istore_n (pc := 25) (lv' := [(3, .int 0), (0, .ref G.1), (1, .int c_), (2, .int is)]) hx hb dX1_strike_25 rfl hl (by decide) rfl (fun ls hl => ?_)
      refine lv_aload_n (pc := 26) hx hb dX1_strike_26 rfl (lv_at hl 1 rfl) ?_
      refine m_geta (pc := 27) E hw 32 (by decide) (by decide) q1124 dX1_strike_27 ?_
      refine lv_iload_n (pc := 30) hx hb dX1_strike_30 rfl (lv_at hl 2 rfl) ?_
      refine lv_iload_n (pc := 31) hx hb dX1_strike_31 rfl (lv_at hl 3 rfl) ?_
      refine m_zst (pc := 32) (v := is) E hw 32 (by decide) rfl (show vp_in c_ 8 from vp_in_iff.mpr ⟨by omega, by omega⟩) (b01_nar his) dX1_strike_32 (fun H locs hw => ?_)
      refine lv_iload_n (pc := 33) hx hb dX1_strike_33 rfl (lv_at hl 0 rfl) ?_
      refine lv_if_eq (pc := 34) (tgt := 41) hx hb dX1_strike_34 (by decide) (fun _ => ?_) (fun h_ => absurd h_ (by decide))
      refine lv_iconst (pc := 41) (v := 0) hx hb dX1_strike_41 (by decide) ?_
      exact m_iret E hr hlk hw dX1_strike_42 (by first | (simp only [sp_strike, if_pos c_1, if_pos c_2]; done) | contradiction | (simp only [sp_strike, c_1, c_2, if_true, if_false]; done)) (by first | (simp only [sp_strike, if_pos c_1, if_pos c_2]; done) | contradiction | (simp only [sp_strike, c_1, c_2, if_true, if_false]; done))
    · refine lv_iconst (pc := 20) (v := 1) hx hb dX1_strike_20 (by decide) ?_
      refine lv_goto (pc := 21) (tgt := 25) hx hb dX1_strike_21 (by decide) ?_
      refine lv_istore_n (pc := 25) (lv' := [(3, .int 1), (0, .ref G.1), (1, .int c_), (2, .int is)]) hx hb dX1_strike_25 rfl hl (by decide) rfl (fun ls hl => ?_)
      refine lv_aload_n (pc := 26) hx hb dX1_strike_26 rfl (lv_at hl 1 rfl) ?_
      refine m_geta (pc := 27) E hw 32 (by decide) (by decide) q1124 dX1_strike_27 ?_
      refine lv_iload_n (pc := 30) hx hb dX1_strike_30 rfl (lv_at hl 2 rfl) ?_
      refine lv_iload_n (pc := 31) hx hb dX1_strike_31 rfl (lv_at hl 3 rfl) ?_
      refine m_zst (pc := 32) (v := is) E hw 32 (by decide) rfl (show vp_in c_ 8 from vp_in_iff.mpr ⟨by omega, by omega⟩) (b01_nar his) dX1_strike_32 (fun H locs hw => ?_)
      refine lv_iload_n (pc := 33) hx hb dX1_strike_33 rfl (lv_at hl 0 rfl) ?_
      refine lv_if_eq (pc := 34) (tgt := 41) hx hb dX1_strike_34 (by decide) (fun h_ => absurd h_ (by decide)) (fun _ => ?_)
      refine lv_iconst (pc := 37) (v := 1) hx hb dX1_strike_37 (by decide) ?_
      refine lv_goto (pc := 38) (tgt := 42) hx hb dX1_strike_38 (by decide) ?_
      exact m_iret E hr hlk hw dX1_strike_42 (by first | (simp only [sp_strike, if_pos c_1, if_neg c_2]; done) | contradiction | (simp only [sp_strike, c_1, c_2, if_true, if_false]; done)) (by first | (simp only [sp_strike, if_pos c_1, if_neg c_2]; done) | contradiction | (simp only [sp_strike, c_1, c_2, if_true, if_false]; done))
  · refine lv_iconst (pc := 8) (v := (-1)) hx hb dX1_strike_8 (by decide) ?_
    exact m_iret E hr hlk hw dX1_strike_9 (by first | (simp only [sp_strike, if_neg c_1]; done) | contradiction | (simp only [sp_strike, c_1, if_true, if_false]; done)) (by first | (simp only [sp_strike, if_neg c_1]; done) | contradiction | (simp only [sp_strike, c_1, if_true, if_false]; done))
set_option maxHeartbeats 4000000 in
set_option maxRecDepth 100000 in
theorem mt_car (l : Launch) (G : mG) (st : mS) (t : Int32) (k : Int32)  (hK : 0 ≤ (st 0 35).toInt ∧ (st 0 35).toInt ≤ 8) : Met l yX1_car (ws_ yX1_car cX1_car 3 (some .int)) (mR 1) (mP G [.int t, .int k] st) (mQ G (some (.int (sp_car st t k).1)) ((sp_car st t k).2)) 0 0 (mA G) := by
  refine m_head (As := [.int t, .int k]) (bytes := cX1_car) (maxL := 3) (ret := (some .int)) (by decide) rfl (Nat.le_of_ble_eq_true rfl) ?_
  intro p e s m below meth c E hml hr hlk hw ls hl
  have hx := E.1
  have hb := E.2.1
  have hts := E.2.2.1
  have hown := E.2.2.2.1
  have hl : lv_has ls 3 [(0, .ref G.1), (1, .int t), (2, .int k)] := hl
  have hKn := cnt_n hK.1
  have hKi := cnt_i hK.1
  refine lv_iload_n (pc := 0) hx hb dX1_car_0 rfl (lv_at hl 1 rfl) ?_
  refine lv_i2l (pc := 1) (v := t.toInt64) hx hb dX1_car_1 rfl ?_
  refine lv_lconst (pc := 2) (v := 0) hx hb dX1_car_2 (by decide) ?_
  refine lv_ldc2 (pc := 3) hx hb hown (hts _ q1409) dX1_car_3 ?_
  refine m_cS (pc := 6) (As := [.long t.toInt64, .long 0, .long 500000]) (rest := []) E hml hl.1 (mt_inB l t 0 500000 0 500000 rfl rfl) q1231 q1232 q1233 hdX1_in ⟨Nat.le_of_ble_eq_true rfl, Nat.le_of_ble_eq_true rfl⟩ rfl rfl rfl (Nat.le_of_ble_eq_true rfl) dX1_car_6 ?_
  refine lb_eq (pc := 9) (tgt := 24) hx hb dX1_car_9 (by decide) (fun c_1 => ?_) (fun c_1 => ?_)
  · refine lv_bipush (pc := 24) (v := (-2)) hx hb dX1_car_24 (by decide) ?_
    exact m_iret E hr hlk hw dX1_car_26 (by first | (simp only [sp_car, if_neg c_1, Nat.add_sub_cancel]; done) | contradiction | (simp only [sp_car, c_1, Nat.add_sub_cancel, if_true, if_false]; done)) (by first | (simp only [sp_car, if_neg c_1, Nat.add_sub_cancel]; done) | contradiction | (simp only [sp_car, c_1, Nat.add_sub_cancel, if_true, if_false]; done))
  · refine lv_iload_n (pc := 12) hx hb dX1_car_12 rfl (lv_at hl 2 rfl) ?_
    refine lv_i2l (pc := 13) (v := k.toInt64) hx hb dX1_car_13 rfl ?_
    refine lv_lconst (pc := 14) (v := 0) hx hb dX1_car_14 (by decide) ?_
    refine lv_ldc2 (pc := 15) hx hb hown (hts _ q1235) dX1_car_15 ?_
    refine m_cS (pc := 18) (As := [.long k.toInt64, .long 0, .long 2]) (rest := []) E hml hl.1 (mt_inB l k 0 2 0 2 rfl rfl) q1231 q1232 q1233 hdX1_in ⟨Nat.le_of_ble_eq_true rfl, Nat.le_of_ble_eq_true rfl⟩ rfl rfl rfl (Nat.le_of_ble_eq_true rfl) dX1_car_18 ?_
    refine lb_ne (pc := 21) (tgt := 27) hx hb dX1_car_21 (by decide) (fun c_2 => ?_) (fun c_2 => ?_)
    · refine lv_aload_n (pc := 27) hx hb dX1_car_27 rfl (lv_at hl 0 rfl) ?_
      refine m_getv (pc := 28) (v := (nI (cnt st 35))) E hw 35 (by decide) rfl hKn q1127 dX1_car_28 ?_
      refine lv_bipush (pc := 31) (v := 8) hx hb dX1_car_31 (by decide) ?_
      refine li_icmp_neN (pc := 33) (a := cnt st 35) (b := 8) (tgt := 39) hx hb (by omega) (by omega) dX1_car_33 (by decide) (fun c_3 => ?_) (fun c_3 => ?_)
      · refine lv_aload_n (pc := 39) hx hb dX1_car_39 rfl (lv_at hl 0 rfl) ?_
        refine m_geta (pc := 40) E hw 36 (by decide) (by decide) q1128 dX1_car_40 ?_
        refine lv_aload_n (pc := 43) hx hb dX1_car_43 rfl (lv_at hl 0 rfl) ?_
        refine m_getv (pc := 44) (v := (nI (cnt st 35))) E hw 35 (by decide) rfl hKn q1127 dX1_car_44 ?_
        refine lv_iload_n (pc := 47) hx hb dX1_car_47 rfl (lv_at hl 1 rfl) ?_
        refine m_astN (pc := 48) (v := t) E hw 36 (cnt st 35) (by decide) rfl (show cnt st 35 < 8 from (by omega)) (by decide) dX1_car_48 (fun H locs hw => ?_)
        refine lv_aload_n (pc := 49) hx hb dX1_car_49 rfl (lv_at hl 0 rfl) ?_
        refine m_geta (pc := 50) E hw 37 (by decide) (by decide) q1129 dX1_car_50 ?_
        refine lv_aload_n (pc := 53) hx hb dX1_car_53 rfl (lv_at hl 0 rfl) ?_
        refine m_getv (pc := 54) (v := (nI (cnt st 35))) E hw 35 (by decide) rfl hKn q1127 dX1_car_54 ?_
        refine lv_iload_n (pc := 57) hx hb dX1_car_57 rfl (lv_at hl 2 rfl) ?_
        refine m_astN (pc := 58) (v := k) E hw 37 (cnt st 35) (by decide) rfl (show cnt st 35 < 8 from (by omega)) (by decide) dX1_car_58 (fun H locs hw => ?_)
        refine lv_aload_n (pc := 59) hx hb dX1_car_59 rfl (lv_at hl 0 rfl) ?_
        refine lv_dup (pc := 60) hx hb dX1_car_60 rfl ?_
        refine m_getv (pc := 61) (v := (nI (cnt st 35))) E hw 35 (by decide) rfl hKn q1127 dX1_car_61 ?_
        refine lv_iconst (pc := 64) (v := 1) hx hb dX1_car_64 (by decide) ?_
        refine li_addN (pc := 65) (a := cnt st 35) (b := 1) hx hb dX1_car_65 ?_
        refine m_put (pc := 66) (v := (nI ((cnt st 35) + 1))) E hw 35 (by decide) rfl rfl rfl q1127 dX1_car_66 (fun H locs hw => ?_)
        refine lv_aload_n (pc := 69) hx hb dX1_car_69 rfl (lv_at hl 0 rfl) ?_
        refine m_getv (pc := 70) (v := (nI ((cnt st 35) + 1))) E hw 35 (by decide) rfl rfl q1127 dX1_car_70 ?_
        refine lv_iconst (pc := 73) (v := 1) hx hb dX1_car_73 (by decide) ?_
        refine li_subN (pc := 74) (a := (cnt st 35) + 1) (b := 1) hx hb (by omega) dX1_car_74 ?_
        exact m_iret E hr hlk hw dX1_car_75 (by first | (simp only [sp_car, if_pos c_1, if_pos c_2, if_neg c_3, Nat.add_sub_cancel]; done) | contradiction | (simp only [sp_car, c_1, c_2, c_3, Nat.add_sub_cancel, if_true, if_false]; done)) (by first | (simp only [sp_car, if_pos c_1, if_pos c_2, if_neg c_3, Nat.add_sub_cancel]; done) | contradiction | (simp only [sp_car, c_1, c_2, c_3, Nat.add_sub_cancel, if_true, if_false]; done))
      · refine lv_bipush (pc := 36) (v := (-4)) hx hb dX1_car_36 (by decide) ?_
        exact m_iret E hr hlk hw dX1_car_38 (by first | (simp only [sp_car, if_pos c_1, if_pos c_2, if_pos c_3, Nat.add_sub_cancel]; done) | contradiction | (simp only [sp_car, c_1, c_2, c_3, Nat.add_sub_cancel, if_true, if_false]; done)) (by first | (simp only [sp_car, if_pos c_1, if_pos c_2, if_pos c_3, Nat.add_sub_cancel]; done) | contradiction | (simp only [sp_car, c_1, c_2, c_3, Nat.add_sub_cancel, if_true, if_false]; done))
    · refine lv_bipush (pc := 24) (v := (-2)) hx hb dX1_car_24 (by decide) ?_
      exact m_iret E hr hlk hw dX1_car_26 (by first | (simp only [sp_car, if_pos c_1, if_neg c_2, Nat.add_sub_cancel]; done) | contradiction | (simp only [sp_car, c_1, c_2, Nat.add_sub_cancel, if_true, if_false]; done)) (by first | (simp only [sp_car, if_pos c_1, if_neg c_2, Nat.add_sub_cancel]; done) | contradiction | (simp only [sp_car, c_1, c_2, Nat.add_sub_cancel, if_true, if_false]; done))
set_option maxHeartbeats 4000000 in
set_option maxRecDepth 100000 in
theorem mt_clock (l : Launch) (G : mG) (st : mS) (a : Int32) (c_ : Int32) (t : Int32)  (hC : 0 ≤ (st 0 30).toInt ∧ (st 0 30).toInt ≤ 8) (hK : 0 ≤ (st 0 35).toInt ∧ (st 0 35).toInt ≤ 8) (hT : 0 ≤ (st 0 38).toInt ∧ (st 0 38).toInt ≤ 1000) : Met l yX1_clock (ws_ yX1_clock cX1_clock 4 (some .int)) (mR 2) (mP G [.int a, .int c_, .int t] st) (mQ G (some (.int (sp_clock st a c_ t).1)) ((sp_clock st a c_ t).2)) 0 0 (mA G) := by
  refine m_head (As := [.int a, .int c_, .int t]) (bytes := cX1_clock) (maxL := 4) (ret := (some .int)) (by decide) rfl (Nat.le_of_ble_eq_true rfl) ?_
  intro p e s m below meth c E hml hr hlk hw ls hl
  have hx := E.1
  have hb := E.2.1
  have hts := E.2.2.1
  have hown := E.2.2.2.1
  have hl : lv_has ls 4 [(0, .ref G.1), (1, .int a), (2, .int c_), (3, .int t)] := hl
  have hCn := cnt_n hC.1
  have hCi := cnt_i hC.1
  have hKn := cnt_n hK.1
  have hKi := cnt_i hK.1
  have hTn := cnt_n hT.1
  have hTi := cnt_i hT.1
  refine lv_aload_n (pc := 0) hx hb dX1_clock_0 rfl (lv_at hl 0 rfl) ?_
  refine lv_iload_n (pc := 1) hx hb dX1_clock_1 rfl (lv_at hl 1 rfl) ?_
  refine m_cVi (pc := 2) (As := [.int a]) (rest := []) E hml hl.1 hw (mt_noCar l G (st) a) q1414 q1416 qs39 q1417 hdX1_noCar ⟨Nat.le_of_ble_eq_true rfl, Nat.le_of_ble_eq_true rfl⟩ rfl rfl rfl (Nat.le_of_ble_eq_true rfl) dX1_clock_2 (fun H locs hw => ?_)
  refine nb_ne (pc := 5) (tgt := 16) hx hb dX1_clock_5 (by decide) (fun c_1 => ?_) (fun c_1 => ?_)
  · refine lv_iconst (pc := 16) (v := (-1)) hx hb dX1_clock_16 (by decide) ?_
    exact m_iret E hr hlk hw dX1_clock_17 (by first | (simp only [sp_clock, if_neg c_1]; done) | contradiction | (simp only [sp_clock, c_1, if_true, if_false]; done)) (by first | (simp only [sp_clock, if_neg c_1]; done) | contradiction | (simp only [sp_clock, c_1, if_true, if_false]; done))
  · refine lv_aload_n (pc := 8) hx hb dX1_clock_8 rfl (lv_at hl 0 rfl) ?_
    refine lv_iload_n (pc := 9) hx hb dX1_clock_9 rfl (lv_at hl 2 rfl) ?_
    refine m_cVi (pc := 10) (As := [.int c_]) (rest := []) E hml hl.1 hw (mt_noControl l G (st) c_) q1385 q1387 qs37 q1388 hdX1_noControl ⟨Nat.le_of_ble_eq_true rfl, Nat.le_of_ble_eq_true rfl⟩ rfl rfl rfl (Nat.le_of_ble_eq_true rfl) dX1_clock_10 (fun H locs hw => ?_)
    refine nb_eq (pc := 13) (tgt := 18) hx hb dX1_clock_13 (by decide) (fun c_2 => ?_) (fun c_2 => ?_)
    · refine lv_iload_n (pc := 18) hx hb dX1_clock_18 rfl (lv_at hl 3 rfl) ?_
      refine m_cS (pc := 19) (As := [.int t]) (rest := []) E hml hl.1 (mt_isTime l t) q1389 q1390 q1391 hdX1_isTime ⟨Nat.le_of_ble_eq_true rfl, Nat.le_of_ble_eq_true rfl⟩ rfl rfl rfl (Nat.le_of_ble_eq_true rfl) dX1_clock_19 ?_
      refine lb_ne (pc := 22) (tgt := 28) hx hb dX1_clock_22 (by decide) (fun c_3 => ?_) (fun c_3 => ?_)
      · have han := clamp_n (x := a) c_1.1
        have hai := clamp_i (x := a) c_1.1
        have hcn := clamp_n (x := c_) c_2.1
        have hci := clamp_i (x := c_) c_2.1
        refine lv_aload_n (pc := 28) hx hb dX1_clock_28 rfl (lv_at hl 0 rfl) ?_
        refine m_geta (pc := 29) E hw 39 (by decide) (by decide) q1131 dX1_clock_29 ?_
        refine lv_bipush (pc := 32) (v := 8) hx hb dX1_clock_32 (by decide) ?_
        refine lv_iload_n (pc := 34) hx hb dX1_clock_34 rfl (lv_at hl 1 rfl) ?_
        refine li_top (v' := .int (nI a.toNatClampNeg)) (congrArg Value.int han) ?_
        refine li_mulN (pc := 35) (a := 8) (b := a.toNatClampNeg) hx hb dX1_clock_35 ?_
        refine lv_iload_n (pc := 36) hx hb dX1_clock_36 rfl (lv_at hl 2 rfl) ?_
        refine li_top (v' := .int (nI c_.toNatClampNeg)) (congrArg Value.int hcn) ?_
        refine li_addN (pc := 37) (a := 8 * a.toNatClampNeg) (b := c_.toNatClampNeg) hx hb dX1_clock_37 ?_
        refine m_aldN (pc := 38) (v := (st 39 ((8 * a.toNatClampNeg) + c_.toNatClampNeg))) E hw 39 ((8 * a.toNatClampNeg) + c_.toNatClampNeg) (by decide) rfl (show (8 * a.toNatClampNeg) + c_.toNatClampNeg < 64 from (by omega)) (by decide) rfl dX1_clock_38 ?_
        refine li_if_le (pc := 39) (tgt := 45) hx hb dX1_clock_39 (by decide) (fun c_4 => ?_) (fun c_4 => ?_)
        · refine lv_aload_n (pc := 45) hx hb dX1_clock_45 rfl (lv_at hl 0 rfl) ?_
          refine lv_dup (pc := 46) hx hb dX1_clock_46 rfl ?_
          refine m_getv (pc := 47) (v := (nI (cnt st 38))) E hw 38 (by decide) rfl hTn q1130 dX1_clock_47 ?_
          refine lv_iconst (pc := 50) (v := 1) hx hb dX1_clock_50 (by decide) ?_
          refine li_addN (pc := 51) (a := cnt st 38) (b := 1) hx hb dX1_clock_51 ?_
          refine m_put (pc := 52) (v := (nI ((cnt st 38) + 1))) E hw 38 (by decide) rfl rfl rfl q1130 dX1_clock_52 (fun H locs hw => ?_)
          refine lv_aload_n (pc := 55) hx hb dX1_clock_55 rfl (lv_at hl 0 rfl) ?_
          refine m_geta (pc := 56) E hw 39 (by decide) (by decide) q1131 dX1_clock_56 ?_
          refine lv_bipush (pc := 59) (v := 8) hx hb dX1_clock_59 (by decide) ?_
          refine lv_iload_n (pc := 61) hx hb dX1_clock_61 rfl (lv_at hl 1 rfl) ?_
          refine li_top (v' := .int (nI a.toNatClampNeg)) (congrArg Value.int han) ?_
          refine li_mulN (pc := 62) (a := 8) (b := a.toNatClampNeg) hx hb dX1_clock_62 ?_
          refine lv_iload_n (pc := 63) hx hb dX1_clock_63 rfl (lv_at hl 2 rfl) ?_
          refine li_top (v' := .int (nI c_.toNatClampNeg)) (congrArg Value.int hcn) ?_
          refine li_addN (pc := 64) (a := 8 * a.toNatClampNeg) (b := c_.toNatClampNeg) hx hb dX1_clock_64 ?_
          refine lv_aload_n (pc := 65) hx hb dX1_clock_65 rfl (lv_at hl 0 rfl) ?_
          refine m_getv (pc := 66) (v := (nI ((cnt st 38) + 1))) E hw 38 (by decide) rfl rfl q1130 dX1_clock_66 ?_
          refine m_astN (pc := 69) (v := (nI ((cnt st 38) + 1))) E hw 39 ((8 * a.toNatClampNeg) + c_.toNatClampNeg) (by decide) rfl (show (8 * a.toNatClampNeg) + c_.toNatClampNeg < 64 from (by omega)) (by decide) dX1_clock_69 (fun H locs hw => ?_)
          refine lv_aload_n (pc := 70) hx hb dX1_clock_70 rfl (lv_at hl 0 rfl) ?_
          refine m_geta (pc := 71) E hw 40 (by decide) (by decide) q1132 dX1_clock_71 ?_
          refine lv_bipush (pc := 74) (v := 8) hx hb dX1_clock_74 (by decide) ?_
          refine lv_iload_n (pc := 76) hx hb dX1_clock_76 rfl (lv_at hl 1 rfl) ?_
          refine li_top (v' := .int (nI a.toNatClampNeg)) (congrArg Value.int han) ?_
          refine li_mulN (pc := 77) (a := 8) (b := a.toNatClampNeg) hx hb dX1_clock_77 ?_
          refine lv_iload_n (pc := 78) hx hb dX1_clock_78 rfl (lv_at hl 2 rfl) ?_
          refine li_top (v' := .int (nI c_.toNatClampNeg)) (congrArg Value.int hcn) ?_
          refine li_addN (pc := 79) (a := 8 * a.toNatClampNeg) (b := c_.toNatClampNeg) hx hb dX1_clock_79 ?_
          refine lv_iload_n (pc := 80) hx hb dX1_clock_80 rfl (lv_at hl 3 rfl) ?_
          refine m_astN (pc := 81) (v := t) E hw 40 ((8 * a.toNatClampNeg) + c_.toNatClampNeg) (by decide) rfl (show (8 * a.toNatClampNeg) + c_.toNatClampNeg < 64 from (by omega)) (by decide) dX1_clock_81 (fun H locs hw => ?_)
          refine lv_iconst (pc := 82) (v := 1) hx hb dX1_clock_82 (by decide) ?_
          exact m_iret E hr hlk hw dX1_clock_83 (by first | (simp only [sp_clock, if_pos c_1, if_pos c_2, if_pos c_3, if_neg c_4]; done) | contradiction | (simp only [sp_clock, c_1, c_2, c_3, c_4, if_true, if_false]; done)) (by first | (simp only [sp_clock, if_pos c_1, if_pos c_2, if_pos c_3, if_neg c_4]; done) | contradiction | (simp only [sp_clock, c_1, c_2, c_3, c_4, if_true, if_false]; done))
        · refine lv_bipush (pc := 42) (v := (-3)) hx hb dX1_clock_42 (by decide) ?_
          exact m_iret E hr hlk hw dX1_clock_44 (by first | (simp only [sp_clock, if_pos c_1, if_pos c_2, if_pos c_3, if_pos c_4]; done) | contradiction | (simp only [sp_clock, c_1, c_2, c_3, c_4, if_true, if_false]; done)) (by first | (simp only [sp_clock, if_pos c_1, if_pos c_2, if_pos c_3, if_pos c_4]; done) | contradiction | (simp only [sp_clock, c_1, c_2, c_3, c_4, if_true, if_false]; done))
      · refine lv_bipush (pc := 25) (v := (-2)) hx hb dX1_clock_25 (by decide) ?_
        exact m_iret E hr hlk hw dX1_clock_27 (by first | (simp only [sp_clock, if_pos c_1, if_pos c_2, if_neg c_3]; done) | contradiction | (simp only [sp_clock, c_1, c_2, c_3, if_true, if_false]; done)) (by first | (simp only [sp_clock, if_pos c_1, if_pos c_2, if_neg c_3]; done) | contradiction | (simp only [sp_clock, c_1, c_2, c_3, if_true, if_false]; done))
    · refine lv_iconst (pc := 16) (v := (-1)) hx hb dX1_clock_16 (by decide) ?_
      exact m_iret E hr hlk hw dX1_clock_17 (by first | (simp only [sp_clock, if_pos c_1, if_neg c_2]; done) | contradiction | (simp only [sp_clock, c_1, c_2, if_true, if_false]; done)) (by first | (simp only [sp_clock, if_pos c_1, if_neg c_2]; done) | contradiction | (simp only [sp_clock, c_1, c_2, if_true, if_false]; done))
set_option maxHeartbeats 4000000 in
set_option maxRecDepth 100000 in
theorem mt_allow (l : Launch) (G : mG) (st : mS) (a : Int32) (c_ : Int32) (t : Int32)  (hC : 0 ≤ (st 0 30).toInt ∧ (st 0 30).toInt ≤ 8) (hK : 0 ≤ (st 0 35).toInt ∧ (st 0 35).toInt ≤ 8) : Met l yX1_allow (ws_ yX1_allow cX1_allow 5 (some .int)) (mR 2) (mP G [.int a, .int c_, .int t] st) (mQ G (some (.int (sp_allow st a c_ t).1)) ((sp_allow st a c_ t).2)) 0 0 (mA G) := by
  refine m_head (As := [.int a, .int c_, .int t]) (bytes := cX1_allow) (maxL := 5) (ret := (some .int)) (by decide) rfl (Nat.le_of_ble_eq_true rfl) ?_
  intro p e s m below meth c E hml hr hlk hw ls hl
  have hx := E.1
  have hb := E.2.1
  have hts := E.2.2.1
  have hown := E.2.2.2.1
  have hl : lv_has ls 5 [(0, .ref G.1), (1, .int a), (2, .int c_), (3, .int t)] := hl
  have hCn := cnt_n hC.1
  have hCi := cnt_i hC.1
  have hKn := cnt_n hK.1
  have hKi := cnt_i hK.1
  refine lv_aload_n (pc := 0) hx hb dX1_allow_0 rfl (lv_at hl 0 rfl) ?_
  refine lv_iload_n (pc := 1) hx hb dX1_allow_1 rfl (lv_at hl 1 rfl) ?_
  refine m_cVi (pc := 2) (As := [.int a]) (rest := []) E hml hl.1 hw (mt_noCar l G (st) a) q1414 q1416 qs39 q1417 hdX1_noCar ⟨Nat.le_of_ble_eq_true rfl, Nat.le_of_ble_eq_true rfl⟩ rfl rfl rfl (Nat.le_of_ble_eq_true rfl) dX1_allow_2 (fun H locs hw => ?_)
  refine nb_ne (pc := 5) (tgt := 16) hx hb dX1_allow_5 (by decide) (fun c_1 => ?_) (fun c_1 => ?_)
  · refine lv_iconst (pc := 16) (v := (-1)) hx hb dX1_allow_16 (by decide) ?_
    exact m_iret E hr hlk hw dX1_allow_17 (by first | (simp only [sp_allow, if_neg c_1]; done) | contradiction | (simp only [sp_allow, c_1, if_true, if_false]; done)) (by first | (simp only [sp_allow, if_neg c_1]; done) | contradiction | (simp only [sp_allow, c_1, if_true, if_false]; done))
  · refine lv_aload_n (pc := 8) hx hb dX1_allow_8 rfl (lv_at hl 0 rfl) ?_
    refine lv_iload_n (pc := 9) hx hb dX1_allow_9 rfl (lv_at hl 2 rfl) ?_
    refine m_cVi (pc := 10) (As := [.int c_]) (rest := []) E hml hl.1 hw (mt_noControl l G (st) c_) q1385 q1387 qs37 q1388 hdX1_noControl ⟨Nat.le_of_ble_eq_true rfl, Nat.le_of_ble_eq_true rfl⟩ rfl rfl rfl (Nat.le_of_ble_eq_true rfl) dX1_allow_10 (fun H locs hw => ?_)
    refine nb_eq (pc := 13) (tgt := 18) hx hb dX1_allow_13 (by decide) (fun c_2 => ?_) (fun c_2 => ?_)
    · refine lv_iload_n (pc := 18) hx hb dX1_allow_18 rfl (lv_at hl 3 rfl) ?_
      refine lv_i2l (pc := 19) (v := t.toInt64) hx hb dX1_allow_19 rfl ?_
      refine lv_lconst (pc := 20) (v := 0) hx hb dX1_allow_20 (by decide) ?_
      refine lv_ldc2 (pc := 21) hx hb hown (hts _ q1359) dX1_allow_21 ?_
      refine m_cS (pc := 24) (As := [.long t.toInt64, .long 0, .long 3000]) (rest := []) E hml hl.1 (mt_inB l t 0 3000 0 3000 rfl rfl) q1231 q1232 q1233 hdX1_in ⟨Nat.le_of_ble_eq_true rfl, Nat.le_of_ble_eq_true rfl⟩ rfl rfl rfl (Nat.le_of_ble_eq_true rfl) dX1_allow_24 ?_
      refine lb_ne (pc := 27) (tgt := 33) hx hb dX1_allow_27 (by decide) (fun c_3 => ?_) (fun c_3 => ?_)
      · have han := clamp_n (x := a) c_1.1
        have hai := clamp_i (x := a) c_1.1
        have hcn := clamp_n (x := c_) c_2.1
        have hci := clamp_i (x := c_) c_2.1
        refine lv_aload_n (pc := 33) hx hb dX1_allow_33 rfl (lv_at hl 0 rfl) ?_
        refine m_geta (pc := 34) E hw 41 (by decide) (by decide) q1133 dX1_allow_34 ?_
        refine lv_bipush (pc := 37) (v := 8) hx hb dX1_allow_37 (by decide) ?_
        refine lv_iload_n (pc := 39) hx hb dX1_allow_39 rfl (lv_at hl 1 rfl) ?_
        refine li_top (v' := .int (nI a.toNatClampNeg)) (congrArg Value.int han) ?_
        refine li_mulN (pc := 40) (a := 8) (b := a.toNatClampNeg) hx hb dX1_allow_40 ?_
        refine lv_iload_n (pc := 41) hx hb dX1_allow_41 rfl (lv_at hl 2 rfl) ?_
        refine li_top (v' := .int (nI c_.toNatClampNeg)) (congrArg Value.int hcn) ?_
        refine li_addN (pc := 42) (a := 8 * a.toNatClampNeg) (b := c_.toNatClampNeg) hx hb dX1_allow_42 ?_
        refine m_aldN (pc := 43) (v := (st 41 ((8 * a.toNatClampNeg) + c_.toNatClampNeg))) E hw 41 ((8 * a.toNatClampNeg) + c_.toNatClampNeg) (by decide) rfl (show (8 * a.toNatClampNeg) + c_.toNatClampNeg < 64 from (by omega)) (by decide) rfl dX1_allow_43 ?_
        refine lv_istore (pc := 44) (lv' := [(4, .int (st 41 ((8 * a.toNatClampNeg) + c_.toNatClampNeg))), (0, .ref G.1), (1, .int a), (2, .int c_), (3, .int t)]) hx hb dX1_allow_44 hl (by decide) rfl (fun ls hl => ?_)
        refine lv_aload_n (pc := 46) hx hb dX1_allow_46 rfl (lv_at hl 1 rfl) ?_
        refine m_geta (pc := 47) E hw 41 (by decide) (by decide) q1133 dX1_allow_47 ?_
        refine lv_bipush (pc := 50) (v := 8) hx hb dX1_allow_50 (by decide) ?_
        refine lv_iload_n (pc := 52) hx hb dX1_allow_52 rfl (lv_at hl 2 rfl) ?_
        refine li_top (v' := .int (nI a.toNatClampNeg)) (congrArg Value.int han) ?_
        refine li_mulN (pc := 53) (a := 8) (b := a.toNatClampNeg) hx hb dX1_allow_53 ?_
        refine lv_iload_n (pc := 54) hx hb dX1_allow_54 rfl (lv_at hl 3 rfl) ?_
        refine li_top (v' := .int (nI c_.toNatClampNeg)) (congrArg Value.int hcn) ?_
        refine li_addN (pc := 55) (a := 8 * a.toNatClampNeg) (b := c_.toNatClampNeg) hx hb dX1_allow_55 ?_
        refine lv_iload_n (pc := 56) hx hb dX1_allow_56 rfl (lv_at hl 4 rfl) ?_
        refine m_astN (pc := 57) (v := t) E hw 41 ((8 * a.toNatClampNeg) + c_.toNatClampNeg) (by decide) rfl (show (8 * a.toNatClampNeg) + c_.toNatClampNeg < 64 from (by omega)) (by decide) dX1_allow_57 (fun H locs hw => ?_)
        refine lv_iload (pc := 58) hx hb dX1_allow_58 (lv_at hl 0 rfl) ?_
        exact m_iret E hr hlk hw dX1_allow_60 (by first | (simp only [sp_allow, if_pos c_1, if_pos c_2, if_pos c_3]; done) | contradiction | (simp only [sp_allow, c_1, c_2, c_3, if_true, if_false]; done)) (by first | (simp only [sp_allow, if_pos c_1, if_pos c_2, if_pos c_3]; done) | contradiction | (simp only [sp_allow, c_1, c_2, c_3, if_true, if_false]; done))
      · refine lv_bipush (pc := 30) (v := (-2)) hx hb dX1_allow_30 (by decide) ?_
        exact m_iret E hr hlk hw dX1_allow_32 (by first | (simp only [sp_allow, if_pos c_1, if_pos c_2, if_neg c_3]; done) | contradiction | (simp only [sp_allow, c_1, c_2, c_3, if_true, if_false]; done)) (by first | (simp only [sp_allow, if_pos c_1, if_pos c_2, if_neg c_3]; done) | contradiction | (simp only [sp_allow, c_1, c_2, c_3, if_true, if_false]; done))
    · refine lv_iconst (pc := 16) (v := (-1)) hx hb dX1_allow_16 (by decide) ?_
      exact m_iret E hr hlk hw dX1_allow_17 (by first | (simp only [sp_allow, if_pos c_1, if_neg c_2]; done) | contradiction | (simp only [sp_allow, c_1, c_2, if_true, if_false]; done)) (by first | (simp only [sp_allow, if_pos c_1, if_neg c_2]; done) | contradiction | (simp only [sp_allow, c_1, c_2, if_true, if_false]; done))
