/-! the reference's methods, eighth part: ways, lay -/
def sr0 (st : mS) : mS := mu (mu (mu (mu (mu (mu (mu (mu st 0 14 0) 0 15 (-1)) 0 18 0) 0 19 0) 21 0 (st 13 0)) 22 0 1) 23 0 0) 20 0 (-1)
def sr (st : mS) : mS × Bool := dfm (cnt st 1) 10 0 (sr0 st)
def sp_ways (st : mS) : Int32 × mS := if cnt st 12 = 0 then (-3, st) else if (sr st).2 = true then (if ((sr st).1 0 15).toInt < 0 then 0 else 1 + (sr st).1 0 18, (sr st).1) else (-6, (sr st).1)
def cpl : Nat → Nat → mS → mS
  | 0, _, st => st
  | n + 1, i, st => cpl n (i + 1) (mu st 26 i (st 17 i))
def clr : Nat → Nat → mS → mS
  | 0, _, st => st
  | n + 1, i, st => clr n (i + 1) (mu (mu st 39 i 0) 41 i 0)
def lay1 (u : mS) : mS := clr 64 0 (mu (mu (mu (cpl (cnt u 16) 0 (mu (mu u 0 24 (u 0 16)) 0 25 (u 0 15))) 0 27 0) 0 30 0) 0 38 0)
def sp_lay (st : mS) : Int32 × mS := if cnt st 12 = 0 then (-3, st) else if (sr st).2 = true then if ((sr st).1 0 15).toInt < 0 then (-9, (sr st).1) else ((sr st).1 0 16, lay1 (sr st).1) else (-6, (sr st).1)
/-- what a search keeps -/
theorem lpm_P {P : mS → Prop} {f : mS → mS × Bool} {nR many : Nat} (hm : many < 10) (h1 : ∀ (st : mS) (many : Nat), P st → P (mu st 0 19 (nI many - 1))) (h2 : ∀ (st : mS) (many r : Nat), many < 10 → r < nR → P st → st 0 19 = nI many → cnd st many r = true → ¬ st 0 14 = 60000 → P (chd st many r)) (hf : ∀ st, st 0 19 = nI (many + 1) → P st → P (f st).1) (hfd : ∀ st, (f st).2 = true → (f st).1 0 19 = nI (many + 1) - 1) :
    ∀ (n r : Nat) (st : mS), r + n ≤ nR → st 0 19 = nI many → P st → P (lpm f many n r st).1 := by
  intro n
  induction n with
  | zero => intro r st _ _ h; exact h1 st many h
  | succ n ih =>
    intro r st hr hd h
    unfold lpm
    split
    · rename_i hc
      split
      · exact h
      · rename_i ht
        have hch := h2 st many r hm (by omega) h hd hc ht
        have hcd : chd st many r 0 19 = nI (many + 1) := by
          rw [chd_o _ _ _ _ _ (by decide) (by omega)]
          unfold ch0
          rw [mu_n (by omega), mu_n (by omega), mu_n (by omega), mu_n (by omega), mu_s]
        split
        · rename_i hb
          exact ih (r + 1) _ (by omega) (by rw [hfd _ hb]; exact nI_pred many) (hf _ hcd hch)
        · exact hf _ hcd hch
    · exact ih (r + 1) st (by omega) hd h
theorem dfm_P {P : mS → Prop} {nR : Nat} (h1 : ∀ (st : mS) (many : Nat), P st → P (mu st 0 19 (nI many - 1))) (h2 : ∀ (st : mS) (many r : Nat), many < 10 → r < nR → P st → st 0 19 = nI many → cnd st many r = true → ¬ st 0 14 = 60000 → P (chd st many r)) :
    ∀ (d many : Nat) (st : mS), d + many = 10 → st 0 19 = nI many → P st → P (dfm nR d many st).1 := by
  intro d
  induction d with
  | zero => intro many st _ _ h; exact h1 st many h
  | succ d ih => intro many st hm hd h; exact lpm_P (by omega) h1 h2 (fun su hs hp => ih (many + 1) su (by omega) hs hp) (fun su hb => dfm_d d (many + 1) su hb) nR 0 st (by omega) hd h
theorem jnw16 (st : mS) (d : Nat) : jnw st d 0 16 = nI d := by
  have key : ∀ (n i : Nat) (su : mS), cpb n i su 0 16 = su 0 16 := by
    intro n
    induction n with
    | zero => intro i su; rfl
    | succ n ih => intro i su; exact (ih (i + 1) _).trans (mu_r (by decide) 16)
  unfold jnw
  rw [key, mu_n (by omega), mu_s]
def Pbm (st : mS) : Prop := (st 0 15).toInt < 0 ∨ ∃ b, 1 ≤ b ∧ b ≤ 10 ∧ st 0 16 = nI b
theorem chd_Pbm {st : mS} {many r : Nat} (hm : many < 10) (h : Pbm st) : Pbm (chd st many r) := by
  have e15 : ch0 st many r 0 15 = st 0 15 := rfl
  have e16 : ch0 st many r 0 16 = st 0 16 := rfl
  have h0 : Pbm (ch0 st many r) := by unfold Pbm; rw [e15, e16]; exact h
  unfold chd jdg
  have hj : Pbm (jnw (ch0 st many r) (many + 1)) := Or.inr ⟨many + 1, by omega, by omega, jnw16 _ _⟩
  split
  · exact h0
  · split
    · split
      · exact hj
      · split
        · exact hj
        · split
          · exact h0
          · exact h0
    · exact h0
theorem sr_Pbm (st : mS) : Pbm (sr st).1 := dfm_P (P := Pbm) (fun _ _ h => h) (fun st many r hm _ h _ _ _ => chd_Pbm hm h) 10 0 (sr0 st) rfl rfl (Or.inl (show (-1 : Int32).toInt < 0 by decide))
theorem sr_k (st : mS) : kep 0 (sr0 st) (sr st).1 := dfm_k 10 0 (sr0 st)
set_option maxHeartbeats 4000000 in
set_option maxRecDepth 100000 in
theorem mt_search (l : Launch) (G : mG) (st : mS)   (hB1 : 1 ≤ cnt st 12) (hR : 0 ≤ (st 0 1).toInt ∧ (st 0 1).toInt ≤ 16) (hB : 0 ≤ (st 0 12).toInt ∧ (st 0 12).toInt ≤ 8) : Met l yX1_search (ws_ yX1_search cX1_search 3 (some .boolean)) (mR 2) (mP G [] st) (mQ G (some (.int (bI ((sr st).2 = true)))) ((sr st).1)) 0 0 (mA G) := by
  refine m_head (As := []) (bytes := cX1_search) (maxL := 3) (ret := (some .boolean)) (by decide) rfl (Nat.le_of_ble_eq_true rfl) ?_
  intro p e s m below meth c E hml hr hlk hw ls hl
  have hx := E.1
  have hb := E.2.1
  have hts := E.2.2.1
  have hown := E.2.2.2.1
  have hl : lv_has ls 3 [(0, .ref G.1)] := hl
  have hRn := cnt_n hR.1
  have hRi := cnt_i hR.1
  have hBn := cnt_n hB.1
  have hBi := cnt_i hB.1
  refine lv_aload_n (pc := 0) hx hb dX1_search_0 rfl (lv_at hl 0 rfl) ?_
  refine lv_iconst (pc := 1) (v := 0) hx hb dX1_search_1 (by decide) ?_
  refine m_put (pc := 2) (v := 0) E hw 14 (by decide) rfl rfl rfl q1106 dX1_search_2 (fun H locs hw => ?_)
  refine lv_aload_n (pc := 5) hx hb dX1_search_5 rfl (lv_at hl 0 rfl) ?_
  refine lv_iconst (pc := 6) (v := (-1)) hx hb dX1_search_6 (by decide) ?_
  refine m_put (pc := 7) (v := (-1)) E hw 15 (by decide) rfl rfl rfl q1107 dX1_search_7 (fun H locs hw => ?_)
  refine lv_aload_n (pc := 10) hx hb dX1_search_10 rfl (lv_at hl 0 rfl) ?_
  refine lv_iconst (pc := 11) (v := 0) hx hb dX1_search_11 (by decide) ?_
  refine m_put (pc := 12) (v := 0) E hw 18 (by decide) rfl rfl rfl q1110 dX1_search_12 (fun H locs hw => ?_)
  refine lv_aload_n (pc := 15) hx hb dX1_search_15 rfl (lv_at hl 0 rfl) ?_
  refine lv_iconst (pc := 16) (v := 0) hx hb dX1_search_16 (by decide) ?_
  refine m_put (pc := 17) (v := 0) E hw 19 (by decide) rfl rfl rfl q1111 dX1_search_17 (fun H locs hw => ?_)
  refine lv_aload_n (pc := 20) hx hb dX1_search_20 rfl (lv_at hl 0 rfl) ?_
  refine m_geta (pc := 21) E hw 21 (by decide) (by decide) q1113 dX1_search_21 ?_
  refine lv_iconst (pc := 24) (v := 0) hx hb dX1_search_24 (by decide) ?_
  refine lv_aload_n (pc := 25) hx hb dX1_search_25 rfl (lv_at hl 0 rfl) ?_
  refine m_geta (pc := 26) E hw 13 (by decide) (by decide) q1105 dX1_search_26 ?_
  refine lv_iconst (pc := 29) (v := 0) hx hb dX1_search_29 (by decide) ?_
  refine m_aldN (pc := 30) (v := (st 13 0)) E hw 13 (0) (by decide) rfl (show 0 < 8 from (by omega)) (by decide) rfl dX1_search_30 ?_
  refine m_astN (pc := 31) (v := (st 13 0)) E hw 21 (0) (by decide) rfl (show 0 < 11 from (by omega)) (by decide) dX1_search_31 (fun H locs hw => ?_)
  refine lv_aload_n (pc := 32) hx hb dX1_search_32 rfl (lv_at hl 0 rfl) ?_
  refine m_geta (pc := 33) E hw 22 (by decide) (by decide) q1114 dX1_search_33 ?_
  refine lv_iconst (pc := 36) (v := 0) hx hb dX1_search_36 (by decide) ?_
  refine lv_iconst (pc := 37) (v := 1) hx hb dX1_search_37 (by decide) ?_
  refine m_astN (pc := 38) (v := 1) E hw 22 (0) (by decide) rfl (show 0 < 11 from (by omega)) (by decide) dX1_search_38 (fun H locs hw => ?_)
  refine lv_aload_n (pc := 39) hx hb dX1_search_39 rfl (lv_at hl 0 rfl) ?_
  refine m_geta (pc := 40) E hw 23 (by decide) (by decide) q1115 dX1_search_40 ?_
  refine lv_iconst (pc := 43) (v := 0) hx hb dX1_search_43 (by decide) ?_
  refine lv_iconst (pc := 44) (v := 0) hx hb dX1_search_44 (by decide) ?_
  refine m_astN (pc := 45) (v := 0) E hw 23 (0) (by decide) rfl (show 0 < 11 from (by omega)) (by decide) dX1_search_45 (fun H locs hw => ?_)
  refine lv_aload_n (pc := 46) hx hb dX1_search_46 rfl (lv_at hl 0 rfl) ?_
  refine m_geta (pc := 47) E hw 20 (by decide) (by decide) q1112 dX1_search_47 ?_
  refine lv_iconst (pc := 50) (v := 0) hx hb dX1_search_50 (by decide) ?_
  refine lv_iconst (pc := 51) (v := (-1)) hx hb dX1_search_51 (by decide) ?_
  refine m_astN (pc := 52) (v := (-1)) E hw 20 (0) (by decide) rfl (show 0 < 11 from (by omega)) (by decide) dX1_search_52 (fun H locs hw => ?_)
  have hv : sV (cnt st 1) (cnt st 12) (sr0 st) 0 := ⟨rfl, hRn, hBn, show 0 ≤ (1 : Int32).toInt by decide⟩
  refine sr_all l G E hml hr hlk (cnt st 1) (cnt st 12) (by omega) hB1 (by omega) 10 0 (fun R => R) (sr0 st) rfl hv rfl (fun _ => rfl) (fun u hu => ?_) _ _ hw _ (lv_sub hl [0] rfl)
  have hd9 : u 0 19 = (-1) := by have q := dfm_d (nR := cnt st 1) 10 0 (sr0 st); rw [hu] at q; exact q rfl
  intro H locs hw ls hl
  refine lv_aload_n (pc := 53) hx hb dX1_search_53 rfl (lv_at hl 0 rfl) ?_
  refine m_getv (pc := 54) (v := (-1)) E hw 19 (by decide) rfl hd9 q1111 dX1_search_54 ?_
  refine li_if_lt (pc := 57) (tgt := 360) hx hb dX1_search_57 (by decide) (fun _ => ?_) (fun h_ => absurd h_ (by decide))
  refine lv_iconst (pc := 360) (v := 1) hx hb dX1_search_360 (by decide) ?_
  exact m_zret E hr hlk hw dX1_search_361 rfl (bI_t rfl).symm rfl
set_option maxHeartbeats 4000000 in
set_option maxRecDepth 100000 in
theorem mt_ways (l : Launch) (G : mG) (st : mS)   (hR : 0 ≤ (st 0 1).toInt ∧ (st 0 1).toInt ≤ 16) (hB : 0 ≤ (st 0 12).toInt ∧ (st 0 12).toInt ≤ 8) : Met l yX1_ways (ws_ yX1_ways cX1_ways 1 (some .int)) (mR 3) (mP G [] st) (mQ G (some (.int (sp_ways st).1)) ((sp_ways st).2)) 0 0 (mA G) := by
  refine m_head (As := []) (bytes := cX1_ways) (maxL := 1) (ret := (some .int)) (by decide) rfl (Nat.le_of_ble_eq_true rfl) ?_
  intro p e s m below meth c E hml hr hlk hw ls hl
  have hx := E.1
  have hb := E.2.1
  have hts := E.2.2.1
  have hown := E.2.2.2.1
  have hl : lv_has ls 1 [(0, .ref G.1)] := hl
  have hRn := cnt_n hR.1
  have hRi := cnt_i hR.1
  have hBn := cnt_n hB.1
  have hBi := cnt_i hB.1
  refine lv_aload_n (pc := 0) hx hb dX1_ways_0 rfl (lv_at hl 0 rfl) ?_
  refine m_getv (pc := 1) (v := (nI (cnt st 12))) E hw 12 (by decide) rfl hBn q1104 dX1_ways_1 ?_
  refine li_if_neN (pc := 4) (tgt := 10) hx hb (by omega) dX1_ways_4 (by decide) (fun c_1 => ?_) (fun c_1 => ?_)
  · refine lv_aload_n (pc := 10) hx hb dX1_ways_10 rfl (lv_at hl 0 rfl) ?_
    refine m_cVi (pc := 11) (As := []) (rest := []) E hml hl.1 hw (mt_search l G st (by omega) hR hB) q1316 q1318 qs29 q1319 hdX1_search ⟨Nat.le_of_ble_eq_true rfl, Nat.le_of_ble_eq_true rfl⟩ rfl rfl rfl (Nat.le_of_ble_eq_true rfl) dX1_ways_11 (fun H locs hw => ?_)
    refine lb_ne (pc := 14) (tgt := 22) hx hb dX1_ways_14 (by decide) (fun c_2 => ?_) (fun c_2 => ?_)
    · refine lv_aload_n (pc := 22) hx hb dX1_ways_22 rfl (lv_at hl 0 rfl) ?_
      refine m_getv (pc := 23) (v := (((sr st).1) 0 15)) E hw 15 (by decide) rfl rfl q1107 dX1_ways_23 ?_
      refine li_if_ge (pc := 26) (tgt := 33) hx hb dX1_ways_26 (by decide) (fun c_3 => ?_) (fun c_3 => ?_)
      · refine lv_iconst (pc := 33) (v := 1) hx hb dX1_ways_33 (by decide) ?_
        refine lv_aload_n (pc := 34) hx hb dX1_ways_34 rfl (lv_at hl 0 rfl) ?_
        refine m_getv (pc := 35) (v := (((sr st).1) 0 18)) E hw 18 (by decide) rfl rfl q1110 dX1_ways_35 ?_
        refine lv_iadd (pc := 38) hx hb dX1_ways_38 ?_
        exact m_iret E hr hlk hw dX1_ways_39 (by first | (simp only [sp_ways, if_neg c_1, if_pos c_2, if_neg c_3]; done) | contradiction | (simp only [sp_ways, c_1, c_2, c_3, if_true, if_false]; done)) (by first | (simp only [sp_ways, if_neg c_1, if_pos c_2, if_neg c_3]; done) | contradiction | (simp only [sp_ways, c_1, c_2, c_3, if_true, if_false]; done))
      · refine lv_iconst (pc := 29) (v := 0) hx hb dX1_ways_29 (by decide) ?_
        refine lv_goto (pc := 30) (tgt := 39) hx hb dX1_ways_30 (by decide) ?_
        exact m_iret E hr hlk hw dX1_ways_39 (by first | (simp only [sp_ways, if_neg c_1, if_pos c_2, if_pos c_3]; done) | contradiction | (simp only [sp_ways, c_1, c_2, c_3, if_true, if_false]; done)) (by first | (simp only [sp_ways, if_neg c_1, if_pos c_2, if_pos c_3]; done) | contradiction | (simp only [sp_ways, c_1, c_2, c_3, if_true, if_false]; done))
    · refine lv_bipush (pc := 17) (v := (-6)) hx hb dX1_ways_17 (by decide) ?_
      refine lv_goto (pc := 19) (tgt := 39) hx hb dX1_ways_19 (by decide) ?_
      exact m_iret E hr hlk hw dX1_ways_39 (by first | (simp only [sp_ways, if_neg c_1, if_neg c_2]; done) | contradiction | (simp only [sp_ways, c_1, c_2, if_true, if_false]; done)) (by first | (simp only [sp_ways, if_neg c_1, if_neg c_2]; done) | contradiction | (simp only [sp_ways, c_1, c_2, if_true, if_false]; done))
  · refine lv_bipush (pc := 7) (v := (-3)) hx hb dX1_ways_7 (by decide) ?_
    exact m_iret E hr hlk hw dX1_ways_9 (by first | (simp only [sp_ways, if_pos c_1]; done) | contradiction | (simp only [sp_ways, c_1, if_true, if_false]; done)) (by first | (simp only [sp_ways, if_pos c_1]; done) | contradiction | (simp only [sp_ways, c_1, if_true, if_false]; done))
set_option maxHeartbeats 4000000 in
set_option maxRecDepth 100000 in
theorem mt_lay (l : Launch) (G : mG) (st : mS)   (hR : 0 ≤ (st 0 1).toInt ∧ (st 0 1).toInt ≤ 16) (hB : 0 ≤ (st 0 12).toInt ∧ (st 0 12).toInt ≤ 8) : Met l yX1_lay (ws_ yX1_lay cX1_lay 2 (some .int)) (mR 3) (mP G [] st) (mQ G (some (.int (sp_lay st).1)) ((sp_lay st).2)) 0 0 (mA G) := by
  refine m_head (As := []) (bytes := cX1_lay) (maxL := 2) (ret := (some .int)) (by decide) rfl (Nat.le_of_ble_eq_true rfl) ?_
  intro p e s m below meth c E hml hr hlk hw ls hl
  have hx := E.1
  have hb := E.2.1
  have hts := E.2.2.1
  have hown := E.2.2.2.1
  have hl : lv_has ls 2 [(0, .ref G.1)] := hl
  have hRn := cnt_n hR.1
  have hRi := cnt_i hR.1
  have hBn := cnt_n hB.1
  have hBi := cnt_i hB.1
  refine lv_aload_n (pc := 0) hx hb dX1_lay_0 rfl (lv_at hl 0 rfl) ?_
  refine m_getv (pc := 1) (v := (nI (cnt st 12))) E hw 12 (by decide) rfl hBn q1104 dX1_lay_1 ?_
  refine li_if_neN (pc := 4) (tgt := 10) hx hb (by omega) dX1_lay_4 (by decide) (fun c_1 => ?_) (fun c_1 => ?_)
  · refine lv_aload_n (pc := 10) hx hb dX1_lay_10 rfl (lv_at hl 0 rfl) ?_
    refine m_cVi (pc := 11) (As := []) (rest := []) E hml hl.1 hw (mt_search l G st (by omega) hR hB) q1316 q1318 qs29 q1319 hdX1_search ⟨Nat.le_of_ble_eq_true rfl, Nat.le_of_ble_eq_true rfl⟩ rfl rfl rfl (Nat.le_of_ble_eq_true rfl) dX1_lay_11 (fun H locs hw => ?_)
    refine lb_ne (pc := 14) (tgt := 20) hx hb dX1_lay_14 (by decide) (fun c_2 => ?_) (fun c_2 => ?_)
    · refine lv_aload_n (pc := 20) hx hb dX1_lay_20 rfl (lv_at hl 0 rfl) ?_
      refine m_getv (pc := 21) (v := (((sr st).1) 0 15)) E hw 15 (by decide) rfl rfl q1107 dX1_lay_21 ?_
      refine li_if_ge (pc := 24) (tgt := 30) hx hb dX1_lay_24 (by decide) (fun c_3 => ?_) (fun c_3 => ?_)
      · obtain ⟨b, hb1, hb10, hb16⟩ := (sr_Pbm st).resolve_left c_3
        refine lv_aload_n (pc := 30) hx hb dX1_lay_30 rfl (lv_at hl 0 rfl) ?_
        refine lv_aload_n (pc := 31) hx hb dX1_lay_31 rfl (lv_at hl 0 rfl) ?_
        refine m_getv (pc := 32) (v := (nI b)) E hw 16 (by decide) rfl hb16 q1108 dX1_lay_32 ?_
        refine m_put (pc := 35) (v := (nI b)) E hw 24 (by decide) rfl rfl rfl q1116 dX1_lay_35 (fun H locs hw => ?_)
        refine lv_aload_n (pc := 38) hx hb dX1_lay_38 rfl (lv_at hl 0 rfl) ?_
        refine lv_aload_n (pc := 39) hx hb dX1_lay_39 rfl (lv_at hl 0 rfl) ?_
        refine m_getv (pc := 40) (v := (((sr st).1) 0 15)) E hw 15 (by decide) rfl rfl q1107 dX1_lay_40 ?_
        refine m_put (pc := 43) (v := (((sr st).1) 0 15)) E hw 25 (by decide) rfl rfl rfl q1117 dX1_lay_43 (fun H locs hw => ?_)
        refine lv_iconst (pc := 46) (v := 0) hx hb dX1_lay_46 (by decide) ?_
        refine lv_istore_n (pc := 47) (lv' := [(1, .int 0), (0, .ref G.1)]) hx hb dX1_lay_47 rfl hl (by decide) rfl (fun ls hl => ?_)
        have loopA : ∀ (n : Nat) (i : Nat) (su : mS), i + n = b → su 0 16 = nI b → su 0 24 = nI b → ∀ (H : Heap) (locs : List Loc), mWd G s.heap su H locs → ∀ ls : Array Slot, lv_has ls 2 [(0, .ref G.1), (1, .int (nI i))] → W p l e (mR 3) s m (Value.ref G.1 :: [] : List Value).toArray below meth c H locs 0 0 (MQ below (mQ G (some (.int (nI b))) (clr 64 0 (mu (mu (mu (cpl n i su) 0 27 0) 0 30 0) 0 38 0))) (Value.ref G.1 :: [] : List Value).toArray s 0 0 (mA G)) (F0 m 48 ls []) := by
          intro n
          induction n with
          | zero =>
            intro i su hi h16 h24 H locs hw ls hl
            refine lv_iload_n (pc := 48) hx hb dX1_lay_48 rfl (lv_at hl 1 rfl) ?_
            refine lv_aload_n (pc := 49) hx hb dX1_lay_49 rfl (lv_at hl 0 rfl) ?_
            refine m_getv (pc := 50) (v := (nI b)) E hw 16 (by decide) rfl h16 q1108 dX1_lay_50 ?_
            refine li_icmp_geN (pc := 53) (a := i) (b := b) (tgt := 74) hx hb (by omega) (by omega) dX1_lay_53 (by decide) (fun c_4 => ?_) (fun c_4 => absurd c_4 (by omega))
            refine lv_aload_n (pc := 74) hx hb dX1_lay_74 rfl (lv_at hl 0 rfl) ?_
            refine lv_iconst (pc := 75) (v := 0) hx hb dX1_lay_75 (by decide) ?_
            refine m_put (pc := 76) (v := 0) E hw 27 (by decide) rfl rfl rfl q1119 dX1_lay_76 (fun H locs hw => ?_)
            refine lv_aload_n (pc := 79) hx hb dX1_lay_79 rfl (lv_at hl 0 rfl) ?_
            refine lv_iconst (pc := 80) (v := 0) hx hb dX1_lay_80 (by decide) ?_
            refine m_put (pc := 81) (v := 0) E hw 30 (by decide) rfl rfl rfl q1122 dX1_lay_81 (fun H locs hw => ?_)
            refine lv_aload_n (pc := 84) hx hb dX1_lay_84 rfl (lv_at hl 0 rfl) ?_
            refine lv_iconst (pc := 85) (v := 0) hx hb dX1_lay_85 (by decide) ?_
            refine m_put (pc := 86) (v := 0) E hw 38 (by decide) rfl rfl rfl q1130 dX1_lay_86 (fun H locs hw => ?_)
            refine lv_iconst (pc := 89) (v := 0) hx hb dX1_lay_89 (by decide) ?_
            refine lv_istore_n (pc := 90) (lv' := [(1, .int 0), (0, .ref G.1)]) hx hb dX1_lay_90 rfl hl (by decide) rfl (fun ls hl => ?_)
            have loopB : ∀ (n : Nat) (j : Nat) (sv : mS), j + n = 64 → sv 0 24 = nI b → ∀ (H : Heap) (locs : List Loc), mWd G s.heap sv H locs → ∀ ls : Array Slot, lv_has ls 2 [(0, .ref G.1), (1, .int (nI j))] → W p l e (mR 3) s m (Value.ref G.1 :: [] : List Value).toArray below meth c H locs 0 0 (MQ below (mQ G (some (.int (nI b))) (clr n j sv)) (Value.ref G.1 :: [] : List Value).toArray s 0 0 (mA G)) (F0 m 91 ls []) := by
              intro n
              induction n with
              | zero =>
                intro j sv hj h24 H locs hw ls hl
                refine lv_iload_n (pc := 91) hx hb dX1_lay_91 rfl (lv_at hl 1 rfl) ?_
                refine lv_bipush (pc := 92) (v := 64) hx hb dX1_lay_92 (by decide) ?_
                refine li_icmp_geN (pc := 94) (a := j) (b := 64) (tgt := 117) hx hb (by omega) (by omega) dX1_lay_94 (by decide) (fun c_5 => ?_) (fun c_5 => absurd c_5 (by omega))
                refine lv_aload_n (pc := 117) hx hb dX1_lay_117 rfl (lv_at hl 0 rfl) ?_
                refine m_getv (pc := 118) (v := (nI b)) E hw 24 (by decide) rfl h24 q1116 dX1_lay_118 ?_
                exact m_iret E hr hlk hw dX1_lay_121 rfl rfl
              | succ n ih_loopB =>
                intro j sv hj h24 H locs hw ls hl
                refine lv_iload_n (pc := 91) hx hb dX1_lay_91 rfl (lv_at hl 1 rfl) ?_
                refine lv_bipush (pc := 92) (v := 64) hx hb dX1_lay_92 (by decide) ?_
                refine li_icmp_geN (pc := 94) (a := j) (b := 64) (tgt := 117) hx hb (by omega) (by omega) dX1_lay_94 (by decide) (fun c_6 => absurd c_6 (by omega)) (fun c_6 => ?_)
                refine lv_aload_n (pc := 97) hx hb dX1_lay_97 rfl (lv_at hl 0 rfl) ?_
                refine m_geta (pc := 98) E hw 39 (by decide) (by decide) q1131 dX1_lay_98 ?_
                refine lv_iload_n (pc := 101) hx hb dX1_lay_101 rfl (lv_at hl 1 rfl) ?_
                refine lv_iconst (pc := 102) (v := 0) hx hb dX1_lay_102 (by decide) ?_
                refine m_astN (pc := 103) (v := 0) E hw 39 (j) (by decide) rfl (show j < 64 from (by omega)) (by decide) dX1_lay_103 (fun H locs hw => ?_)
                refine lv_aload_n (pc := 104) hx hb dX1_lay_104 rfl (lv_at hl 0 rfl) ?_
                refine m_geta (pc := 105) E hw 41 (by decide) (by decide) q1133 dX1_lay_105 ?_
                refine lv_iload_n (pc := 108) hx hb dX1_lay_108 rfl (lv_at hl 1 rfl) ?_
                refine lv_iconst (pc := 109) (v := 0) hx hb dX1_lay_109 (by decide) ?_
                refine m_astN (pc := 110) (v := 0) E hw 41 (j) (by decide) rfl (show j < 64 from (by omega)) (by decide) dX1_lay_110 (fun H locs hw => ?_)
                refine lv_iinc (pc := 111) (v := (nI (j + 1))) (lv' := [(1, .int (nI (j + 1))), (0, .ref G.1)]) hx hb dX1_lay_111 hl (k := 1) rfl (nI_1 _) (by decide) rfl (fun ls hl => ?_)
                refine lv_goto (pc := 114) (tgt := 91) hx hb dX1_lay_114 (by decide) ?_
                exact m_to rfl rfl (ih_loopB (j + 1) (mu (mu sv 39 j 0) 41 j 0) (by omega) h24 _ _ hw _ (lv_sub hl [1, 0] rfl))
            exact m_to rfl rfl (loopB 64 0 (mu (mu (mu su 0 27 0) 0 30 0) 0 38 0) (by omega) h24 _ _ hw _ (lv_sub hl [1, 0] rfl))
          | succ n ih_loopA =>
            intro i su hi h16 h24 H locs hw ls hl
            refine lv_iload_n (pc := 48) hx hb dX1_lay_48 rfl (lv_at hl 1 rfl) ?_
            refine lv_aload_n (pc := 49) hx hb dX1_lay_49 rfl (lv_at hl 0 rfl) ?_
            refine m_getv (pc := 50) (v := (nI b)) E hw 16 (by decide) rfl h16 q1108 dX1_lay_50 ?_
            refine li_icmp_geN (pc := 53) (a := i) (b := b) (tgt := 74) hx hb (by omega) (by omega) dX1_lay_53 (by decide) (fun c_7 => absurd c_7 (by omega)) (fun c_7 => ?_)
            refine lv_aload_n (pc := 56) hx hb dX1_lay_56 rfl (lv_at hl 0 rfl) ?_
            refine m_geta (pc := 57) E hw 26 (by decide) (by decide) q1118 dX1_lay_57 ?_
            refine lv_iload_n (pc := 60) hx hb dX1_lay_60 rfl (lv_at hl 1 rfl) ?_
            refine lv_aload_n (pc := 61) hx hb dX1_lay_61 rfl (lv_at hl 0 rfl) ?_
            refine m_geta (pc := 62) E hw 17 (by decide) (by decide) q1109 dX1_lay_62 ?_
            refine lv_iload_n (pc := 65) hx hb dX1_lay_65 rfl (lv_at hl 1 rfl) ?_
            refine m_aldN (pc := 66) (v := (su 17 i)) E hw 17 (i) (by decide) rfl (show i < 10 from (by omega)) (by decide) rfl dX1_lay_66 ?_
            refine m_astN (pc := 67) (v := (su 17 i)) E hw 26 (i) (by decide) rfl (show i < 10 from (by omega)) (by decide) dX1_lay_67 (fun H locs hw => ?_)
            refine lv_iinc (pc := 68) (v := (nI (i + 1))) (lv' := [(1, .int (nI (i + 1))), (0, .ref G.1)]) hx hb dX1_lay_68 hl (k := 1) rfl (nI_1 _) (by decide) rfl (fun ls hl => ?_)
            refine lv_goto (pc := 71) (tgt := 48) hx hb dX1_lay_71 (by decide) ?_
            exact m_to rfl rfl (ih_loopA (i + 1) (mu su 26 i (su 17 i)) (by omega) h16 h24 _ _ hw _ (lv_sub hl [1, 0] rfl))
        exact m_to (by simp only [sp_lay, if_neg c_1, if_pos c_2, if_neg c_3, hb16]) (by simp only [sp_lay, lay1, if_neg c_1, if_pos c_2, if_neg c_3]; rw [show cnt (sr st).1 16 = b from by unfold cnt; rw [hb16, nI_clamp (by omega)], hb16]) (loopA b 0 (mu (mu ((sr st).1) 0 24 (nI b)) 0 25 (((sr st).1) 0 15)) (by omega) hb16 rfl _ _ hw _ (lv_sub hl [1, 0] rfl))
      · refine lv_bipush (pc := 27) (v := (-9)) hx hb dX1_lay_27 (by decide) ?_
        exact m_iret E hr hlk hw dX1_lay_29 (by first | (simp only [sp_lay, if_neg c_1, if_pos c_2, if_pos c_3]; done) | contradiction | (simp only [sp_lay, c_1, c_2, c_3, if_true, if_false]; done)) (by first | (simp only [sp_lay, if_neg c_1, if_pos c_2, if_pos c_3]; done) | contradiction | (simp only [sp_lay, c_1, c_2, c_3, if_true, if_false]; done))
    · refine lv_bipush (pc := 17) (v := (-6)) hx hb dX1_lay_17 (by decide) ?_
      exact m_iret E hr hlk hw dX1_lay_19 (by first | (simp only [sp_lay, if_neg c_1, if_neg c_2]; done) | contradiction | (simp only [sp_lay, c_1, c_2, if_true, if_false]; done)) (by first | (simp only [sp_lay, if_neg c_1, if_neg c_2]; done) | contradiction | (simp only [sp_lay, c_1, c_2, if_true, if_false]; done))
  · refine lv_bipush (pc := 7) (v := (-3)) hx hb dX1_lay_7 (by decide) ?_
    exact m_iret E hr hlk hw dX1_lay_9 (by first | (simp only [sp_lay, if_pos c_1]; done) | contradiction | (simp only [sp_lay, c_1, if_true, if_false]; done)) (by first | (simp only [sp_lay, if_pos c_1]; done) | contradiction | (simp only [sp_lay, c_1, if_true, if_false]; done))
