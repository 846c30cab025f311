/-! the reference's methods, third part: copies, the book -/
def fof (st : mS) (k w i n : Int32) : Int32 :=
  if (st 8 k.toNatClampNeg).toInt < 0 then 1 else if st 9 k.toNatClampNeg = w then if n.toInt < 0 then 4 else if bey i n (st 8 k.toNatClampNeg) then 3 else 0 else 2
/-- the cells from b + i on, n of them, are spots, none like the one ahead of it -/
def bok (st : mS) (b : Nat) : Nat → Nat → Bool
  | 0, _ => true
  | n + 1, i => if inB (st 10 (b + i)) 0 9 then if i = 0 then bok st b n (i + 1) else if st 10 (b + i - 1) = st 10 (b + i) then false else bok st b n (i + 1) else false
def isb (st : mS) (b : Nat) (n : Int32) : Bool := if inB n 2 8 then bok st b n.toNatClampNeg 0 else false
def bkc (b : Nat) : Nat → Nat → mS → mS
  | 0, _, st => st
  | n + 1, i, st => bkc b n (i + 1) (mu st 13 i (st 10 (b + i)))
def sp_book (st : mS) (k w i n : Int32) : Int32 × mS :=
  if inB k 0 3 then if inB w 0 2 then if 0 < (fof st k w i n).toInt then ((-10) - fof st k w i n, mu st 0 0 (fof st k w i n)) else if isb st (32 * k.toNatClampNeg + i.toNatClampNeg) n = true then (n, mu (bkc (32 * k.toNatClampNeg + i.toNatClampNeg) n.toNatClampNeg 0 (mu st 0 12 n)) 0 0 0) else (-2, mu st 0 0 0) else (-2, mu st 0 0 0) else (-1, mu st 0 0 0)
theorem fof_ok {st : mS} {k w i n : Int32} (h : ¬ 0 < (fof st k w i n).toInt) : ¬ (st 8 k.toNatClampNeg).toInt < 0 ∧ st 9 k.toNatClampNeg = w ∧ ¬ n.toInt < 0 ∧ ¬ bey i n (st 8 k.toNatClampNeg) := by
  unfold fof at h
  by_cases h1 : (st 8 k.toNatClampNeg).toInt < 0
  · rw [if_pos h1] at h; exact absurd (by decide) h
  · rw [if_neg h1] at h
    by_cases h2 : st 9 k.toNatClampNeg = w
    · rw [if_pos h2] at h
      by_cases h3 : n.toInt < 0
      · rw [if_pos h3] at h; exact absurd (by decide) h
      · rw [if_neg h3] at h
        by_cases h4 : bey i n (st 8 k.toNatClampNeg)
        · rw [if_pos h4] at h; exact absurd (by decide) h
        · exact ⟨h1, h2, h3, h4⟩
    · rw [if_neg h2] at h; exact absurd (by decide) h
set_option maxHeartbeats 4000000 in
set_option maxRecDepth 100000 in
theorem mt_copy (l : Launch) (G : mG) (st : mS) (k : Int32) (i : Int32) (o : Int32) (j : Int32) (n : Int32)  (hS : ∀ j, j < 4 → -1 ≤ (st 8 j).toInt ∧ (st 8 j).toInt ≤ 32) : Met l yX1_copy (ws_ yX1_copy cX1_copy 7 (some .int)) (mR 2) (mP G [.int k, .int i, .int o, .int j, .int n] st) (mQ G (some (.int (sp_copy st k i o j n).1)) ((sp_copy st k i o j n).2)) 0 0 (mA G) := by
  refine m_head (As := [.int k, .int i, .int o, .int j, .int n]) (bytes := cX1_copy) (maxL := 7) (ret := (some .int)) (by decide) rfl (Nat.le_of_ble_eq_true rfl) ?_
  intro p e s m below meth c E hml hr hlk hw ls hl
  have hx := E.1
  have hb := E.2.1
  have hts := E.2.2.1
  have hown := E.2.2.2.1
  have hl : lv_has ls 7 [(0, .ref G.1), (1, .int k), (2, .int i), (3, .int o), (4, .int j), (5, .int n)] := hl
  refine lv_iload_n (pc := 0) hx hb dX1_copy_0 rfl (lv_at hl 1 rfl) ?_
  refine m_cS (pc := 1) (As := [.int k]) (rest := []) E hml hl.1 (mt_noSheet l k) q1264 q1265 q1266 hdX1_noSheet ⟨Nat.le_of_ble_eq_true rfl, Nat.le_of_ble_eq_true rfl⟩ rfl rfl rfl (Nat.le_of_ble_eq_true rfl) dX1_copy_1 ?_
  refine nb_ne (pc := 4) (tgt := 14) hx hb dX1_copy_4 (by decide) (fun c_1 => ?_) (fun c_1 => ?_)
  · refine lv_aload_n (pc := 14) hx hb dX1_copy_14 rfl (lv_at hl 0 rfl) ?_
    refine lv_iconst (pc := 15) (v := (-1)) hx hb dX1_copy_15 (by decide) ?_
    refine m_cVi (pc := 16) (As := [.int (-1)]) (rest := []) E hml hl.1 hw (mt_refused l G (st) (-1)) q1248 q1250 qs23 q1251 hdX1_refused ⟨Nat.le_of_ble_eq_true rfl, Nat.le_of_ble_eq_true rfl⟩ rfl rfl rfl (Nat.le_of_ble_eq_true rfl) dX1_copy_16 (fun H locs hw => ?_)
    exact m_iret E hr hlk hw dX1_copy_19 (by first | (simp only [sp_copy, if_neg c_1]; done) | contradiction | (simp only [sp_copy, c_1, if_true, if_false]; done)) (by first | (simp only [sp_copy, if_neg c_1]; done) | contradiction | (simp only [sp_copy, c_1, if_true, if_false]; done))
  · refine lv_iload_n (pc := 7) hx hb dX1_copy_7 rfl (lv_at hl 3 rfl) ?_
    refine m_cS (pc := 8) (As := [.int o]) (rest := []) E hml hl.1 (mt_noSheet l o) q1264 q1265 q1266 hdX1_noSheet ⟨Nat.le_of_ble_eq_true rfl, Nat.le_of_ble_eq_true rfl⟩ rfl rfl rfl (Nat.le_of_ble_eq_true rfl) dX1_copy_8 ?_
    refine nb_eq (pc := 11) (tgt := 20) hx hb dX1_copy_11 (by decide) (fun c_2 => ?_) (fun c_2 => ?_)
    · refine lv_aload_n (pc := 20) hx hb dX1_copy_20 rfl (lv_at hl 0 rfl) ?_
      refine m_geta (pc := 21) E hw 8 (by decide) (by decide) q1100 dX1_copy_21 ?_
      refine lv_iload_n (pc := 24) hx hb dX1_copy_24 rfl (lv_at hl 1 rfl) ?_
      refine m_ald (pc := 25) E hw 8 (by decide) rfl (show vp_in k 4 from vp_in_iff.mpr ⟨by omega, by omega⟩) dX1_copy_25 ?_
      refine li_if_lt (pc := 26) (tgt := 38) hx hb dX1_copy_26 (by decide) (fun c_3 => ?_) (fun c_3 => ?_)
      · refine lv_aload_n (pc := 38) hx hb dX1_copy_38 rfl (lv_at hl 0 rfl) ?_
        refine lv_iconst (pc := 39) (v := 1) hx hb dX1_copy_39 (by decide) ?_
        refine m_cVi (pc := 40) (As := [.int 1]) (rest := []) E hml hl.1 hw (mt_failed l G (st) 1 (-11) (by decide)) q1252 q1254 qs24 q1255 hdX1_failed ⟨Nat.le_of_ble_eq_true rfl, Nat.le_of_ble_eq_true rfl⟩ rfl rfl rfl (Nat.le_of_ble_eq_true rfl) dX1_copy_40 (fun H locs hw => ?_)
        exact m_iret E hr hlk hw dX1_copy_43 (by first | (simp only [sp_copy, if_pos c_1, if_pos c_2, if_pos c_3]; done) | contradiction | (simp only [sp_copy, c_1, c_2, c_3, if_true, if_false]; done)) (by first | (simp only [sp_copy, if_pos c_1, if_pos c_2, if_pos c_3]; done) | contradiction | (simp only [sp_copy, c_1, c_2, c_3, if_true, if_false]; done))
      · refine lv_aload_n (pc := 29) hx hb dX1_copy_29 rfl (lv_at hl 0 rfl) ?_
        refine m_geta (pc := 30) E hw 8 (by decide) (by decide) q1100 dX1_copy_30 ?_
        refine lv_iload_n (pc := 33) hx hb dX1_copy_33 rfl (lv_at hl 3 rfl) ?_
        refine m_ald (pc := 34) E hw 8 (by decide) rfl (show vp_in o 4 from vp_in_iff.mpr ⟨by omega, by omega⟩) dX1_copy_34 ?_
        refine li_if_ge (pc := 35) (tgt := 44) hx hb dX1_copy_35 (by decide) (fun c_4 => ?_) (fun c_4 => ?_)
        · refine lv_aload_n (pc := 44) hx hb dX1_copy_44 rfl (lv_at hl 0 rfl) ?_
          refine m_geta (pc := 45) E hw 9 (by decide) (by decide) q1101 dX1_copy_45 ?_
          refine lv_iload_n (pc := 48) hx hb dX1_copy_48 rfl (lv_at hl 1 rfl) ?_
          refine m_ald (pc := 49) E hw 9 (by decide) rfl (show vp_in k 4 from vp_in_iff.mpr ⟨by omega, by omega⟩) dX1_copy_49 ?_
          refine lv_aload_n (pc := 50) hx hb dX1_copy_50 rfl (lv_at hl 0 rfl) ?_
          refine m_geta (pc := 51) E hw 9 (by decide) (by decide) q1101 dX1_copy_51 ?_
          refine lv_iload_n (pc := 54) hx hb dX1_copy_54 rfl (lv_at hl 3 rfl) ?_
          refine m_ald (pc := 55) E hw 9 (by decide) rfl (show vp_in o 4 from vp_in_iff.mpr ⟨by omega, by omega⟩) dX1_copy_55 ?_
          refine lv_icmp_eq (pc := 56) (tgt := 65) hx hb dX1_copy_56 (by decide) (fun c_5 => ?_) (fun c_5 => ?_)
          · refine lv_iload_n (pc := 65) hx hb dX1_copy_65 rfl (lv_at hl 2 rfl) ?_
            refine lv_iload (pc := 66) hx hb dX1_copy_66 (lv_at hl 5 rfl) ?_
            refine lv_aload_n (pc := 68) hx hb dX1_copy_68 rfl (lv_at hl 0 rfl) ?_
            refine m_geta (pc := 69) E hw 8 (by decide) (by decide) q1100 dX1_copy_69 ?_
            refine lv_iload_n (pc := 72) hx hb dX1_copy_72 rfl (lv_at hl 1 rfl) ?_
            refine m_ald (pc := 73) E hw 8 (by decide) rfl (show vp_in k 4 from vp_in_iff.mpr ⟨by omega, by omega⟩) dX1_copy_73 ?_
            refine m_cS (pc := 74) (As := [.int i, .int n, .int (st 8 k.toNatClampNeg)]) (rest := []) E hml hl.1 (mt_isBeyond l i n (st 8 k.toNatClampNeg)) q1296 q1297 q1298 hdX1_isBeyond ⟨Nat.le_of_ble_eq_true rfl, Nat.le_of_ble_eq_true rfl⟩ rfl rfl rfl (Nat.le_of_ble_eq_true rfl) dX1_copy_74 ?_
            refine lb_ne (pc := 77) (tgt := 96) hx hb dX1_copy_77 (by decide) (fun c_6 => ?_) (fun c_6 => ?_)
            · refine lv_aload_n (pc := 96) hx hb dX1_copy_96 rfl (lv_at hl 0 rfl) ?_
              refine lv_iconst (pc := 97) (v := 3) hx hb dX1_copy_97 (by decide) ?_
              refine m_cVi (pc := 98) (As := [.int 3]) (rest := []) E hml hl.1 hw (mt_failed l G (st) 3 (-13) (by decide)) q1252 q1254 qs24 q1255 hdX1_failed ⟨Nat.le_of_ble_eq_true rfl, Nat.le_of_ble_eq_true rfl⟩ rfl rfl rfl (Nat.le_of_ble_eq_true rfl) dX1_copy_98 (fun H locs hw => ?_)
              exact m_iret E hr hlk hw dX1_copy_101 (by first | (simp only [sp_copy, if_pos c_1, if_pos c_2, if_neg c_3, if_neg c_4, if_pos c_5, if_pos c_6]; done) | contradiction | (simp only [sp_copy, c_1, c_2, c_3, c_4, c_5, c_6, if_true, if_false]; done)) (by first | (simp only [sp_copy, if_pos c_1, if_pos c_2, if_neg c_3, if_neg c_4, if_pos c_5, if_pos c_6]; done) | contradiction | (simp only [sp_copy, c_1, c_2, c_3, c_4, c_5, c_6, if_true, if_false]; done))
            · refine lv_iload (pc := 80) hx hb dX1_copy_80 (lv_at hl 4 rfl) ?_
              refine lv_iload (pc := 82) hx hb dX1_copy_82 (lv_at hl 5 rfl) ?_
              refine lv_aload_n (pc := 84) hx hb dX1_copy_84 rfl (lv_at hl 0 rfl) ?_
              refine m_geta (pc := 85) E hw 8 (by decide) (by decide) q1100 dX1_copy_85 ?_
              refine lv_iload_n (pc := 88) hx hb dX1_copy_88 rfl (lv_at hl 3 rfl) ?_
              refine m_ald (pc := 89) E hw 8 (by decide) rfl (show vp_in o 4 from vp_in_iff.mpr ⟨by omega, by omega⟩) dX1_copy_89 ?_
              refine m_cS (pc := 90) (As := [.int j, .int n, .int (st 8 o.toNatClampNeg)]) (rest := []) E hml hl.1 (mt_isBeyond l j n (st 8 o.toNatClampNeg)) q1296 q1297 q1298 hdX1_isBeyond ⟨Nat.le_of_ble_eq_true rfl, Nat.le_of_ble_eq_true rfl⟩ rfl rfl rfl (Nat.le_of_ble_eq_true rfl) dX1_copy_90 ?_
              refine lb_eq (pc := 93) (tgt := 102) hx hb dX1_copy_93 (by decide) (fun c_7 => ?_) (fun c_7 => ?_)
              · have hkn := clamp_n (x := k) c_1.1
                have hki := clamp_i (x := k) c_1.1
                have hon := clamp_n (x := o) c_2.1
                have hoi := clamp_i (x := o) c_2.1
                have hS1 := hS k.toNatClampNeg (by omega)
                have hS2 := hS o.toNatClampNeg (by omega)
                have hin := clamp_n (x := i) (by omega)
                have hii := clamp_i (x := i) (by omega)
                have hjn := clamp_n (x := j) (by omega)
                have hji := clamp_i (x := j) (by omega)
                have hnn := clamp_n (x := n) (by omega)
                have hni := clamp_i (x := n) (by omega)
                refine lv_iconst (pc := 102) (v := 0) hx hb dX1_copy_102 (by decide) ?_
                refine lv_istore (pc := 103) (lv' := [(6, .int 0), (0, .ref G.1), (1, .int k), (2, .int i), (3, .int o), (4, .int j), (5, .int n)]) hx hb dX1_copy_103 hl (by decide) rfl (fun ls hl => ?_)
                have loop : ∀ (n_ : Nat) (x : Nat) (su : mS), x + n_ = n.toNatClampNeg → ∀ (H : Heap) (locs : List Loc), mWd G s.heap su H locs → ∀ ls : Array Slot, lv_has ls 7 [(0, .ref G.1), (1, .int k), (2, .int i), (3, .int o), (4, .int j), (5, .int n), (6, .int (nI x))] → W p l e (mR 2) s m (Value.ref G.1 :: [.int k, .int i, .int o, .int j, .int n] : List Value).toArray below meth c H locs 0 0 (MQ below (mQ G (some (.int n)) (mu (cp2 (32 * o.toNatClampNeg + j.toNatClampNeg) n.toNatClampNeg 0 (cp1 (32 * k.toNatClampNeg + i.toNatClampNeg) n_ x su)) 0 0 0)) (Value.ref G.1 :: [.int k, .int i, .int o, .int j, .int n] : List Value).toArray s 0 0 (mA G)) (F0 m 105 ls []) := by
                  intro n_
                  induction n_ with
                  | zero =>
                    intro x su hi H locs hw ls hl
                    refine lv_iload (pc := 105) hx hb dX1_copy_105 (lv_at hl 6 rfl) ?_
                    refine lv_iload (pc := 107) hx hb dX1_copy_107 (lv_at hl 5 rfl) ?_
                    refine li_top (v' := .int (nI n.toNatClampNeg)) (congrArg Value.int hnn) ?_
                    refine li_icmp_geN (pc := 109) (a := x) (b := n.toNatClampNeg) (tgt := 139) hx hb (by omega) (by omega) dX1_copy_109 (by decide) (fun c_8 => ?_) (fun c_8 => absurd c_8 (by omega))
                    refine lv_iconst (pc := 139) (v := 0) hx hb dX1_copy_139 (by decide) ?_
                    refine lv_istore (pc := 140) (lv' := [(6, .int 0), (0, .ref G.1), (1, .int k), (2, .int i), (3, .int o), (4, .int j), (5, .int n)]) hx hb dX1_copy_140 hl (by decide) rfl (fun ls hl => ?_)
                    have loop2 : ∀ (n_ : Nat) (x : Nat) (sv : mS), x + n_ = n.toNatClampNeg → ∀ (H : Heap) (locs : List Loc), mWd G s.heap sv H locs → ∀ ls : Array Slot, lv_has ls 7 [(0, .ref G.1), (1, .int k), (2, .int i), (3, .int o), (4, .int j), (5, .int n), (6, .int (nI x))] → W p l e (mR 2) s m (Value.ref G.1 :: [.int k, .int i, .int o, .int j, .int n] : List Value).toArray below meth c H locs 0 0 (MQ below (mQ G (some (.int n)) (mu (cp2 (32 * o.toNatClampNeg + j.toNatClampNeg) n_ x sv) 0 0 0)) (Value.ref G.1 :: [.int k, .int i, .int o, .int j, .int n] : List Value).toArray s 0 0 (mA G)) (F0 m 142 ls []) := by
                      intro n_
                      induction n_ with
                      | zero =>
                        intro x sv hi2 H locs hw ls hl
                        refine lv_iload (pc := 142) hx hb dX1_copy_142 (lv_at hl 6 rfl) ?_
                        refine lv_iload (pc := 144) hx hb dX1_copy_144 (lv_at hl 5 rfl) ?_
                        refine li_top (v' := .int (nI n.toNatClampNeg)) (congrArg Value.int hnn) ?_
                        refine li_icmp_geN (pc := 146) (a := x) (b := n.toNatClampNeg) (tgt := 177) hx hb (by omega) (by omega) dX1_copy_146 (by decide) (fun c_9 => ?_) (fun c_9 => absurd c_9 (by omega))
                        refine lv_aload_n (pc := 177) hx hb dX1_copy_177 rfl (lv_at hl 0 rfl) ?_
                        refine lv_iload (pc := 178) hx hb dX1_copy_178 (lv_at hl 5 rfl) ?_
                        refine m_cVi (pc := 180) (As := [.int n]) (rest := []) E hml hl.1 hw (mt_refused l G (sv) n) q1248 q1250 qs23 q1251 hdX1_refused ⟨Nat.le_of_ble_eq_true rfl, Nat.le_of_ble_eq_true rfl⟩ rfl rfl rfl (Nat.le_of_ble_eq_true rfl) dX1_copy_180 (fun H locs hw => ?_)
                        exact m_iret E hr hlk hw dX1_copy_183 rfl (by simp only [cp2])
                      | succ n_ ih_loop2 =>
                        intro x sv hi2 H locs hw ls hl
                        refine lv_iload (pc := 142) hx hb dX1_copy_142 (lv_at hl 6 rfl) ?_
                        refine lv_iload (pc := 144) hx hb dX1_copy_144 (lv_at hl 5 rfl) ?_
                        refine li_top (v' := .int (nI n.toNatClampNeg)) (congrArg Value.int hnn) ?_
                        refine li_icmp_geN (pc := 146) (a := x) (b := n.toNatClampNeg) (tgt := 177) hx hb (by omega) (by omega) dX1_copy_146 (by decide) (fun c_10 => absurd c_10 (by omega)) (fun c_10 => ?_)
                        refine lv_aload_n (pc := 149) hx hb dX1_copy_149 rfl (lv_at hl 0 rfl) ?_
                        refine m_geta (pc := 150) E hw 10 (by decide) (by decide) q1102 dX1_copy_150 ?_
                        refine lv_bipush (pc := 153) (v := 32) hx hb dX1_copy_153 (by decide) ?_
                        refine lv_iload_n (pc := 155) hx hb dX1_copy_155 rfl (lv_at hl 3 rfl) ?_
                        refine li_top (v' := .int (nI o.toNatClampNeg)) (congrArg Value.int hon) ?_
                        refine li_mulN (pc := 156) (a := 32) (b := o.toNatClampNeg) hx hb dX1_copy_156 ?_
                        refine lv_iload (pc := 157) hx hb dX1_copy_157 (lv_at hl 4 rfl) ?_
                        refine li_top (v' := .int (nI j.toNatClampNeg)) (congrArg Value.int hjn) ?_
                        refine li_addN (pc := 159) (a := 32 * o.toNatClampNeg) (b := j.toNatClampNeg) hx hb dX1_copy_159 ?_
                        refine lv_iload (pc := 160) hx hb dX1_copy_160 (lv_at hl 6 rfl) ?_
                        refine li_addN (pc := 162) (a := (32 * o.toNatClampNeg) + j.toNatClampNeg) (b := x) hx hb dX1_copy_162 ?_
                        refine lv_aload_n (pc := 163) hx hb dX1_copy_163 rfl (lv_at hl 0 rfl) ?_
                        refine m_geta (pc := 164) E hw 11 (by decide) (by decide) q1103 dX1_copy_164 ?_
                        refine lv_iload (pc := 167) hx hb dX1_copy_167 (lv_at hl 6 rfl) ?_
                        refine m_aldN (pc := 169) (v := (sv 11 x)) E hw 11 (x) (by decide) rfl (show x < 32 from (by omega)) (by decide) rfl dX1_copy_169 ?_
                        refine m_astN (pc := 170) (v := (sv 11 x)) E hw 10 (((32 * o.toNatClampNeg) + j.toNatClampNeg) + x) (by decide) rfl (show ((32 * o.toNatClampNeg) + j.toNatClampNeg) + x < 128 from (by omega)) (by decide) dX1_copy_170 (fun H locs hw => ?_)
                        refine lv_iinc (pc := 171) (v := (nI (x + 1))) (lv' := [(6, .int (nI (x + 1))), (0, .ref G.1), (1, .int k), (2, .int i), (3, .int o), (4, .int j), (5, .int n)]) hx hb dX1_copy_171 hl (k := 6) rfl (nI_1 _) (by decide) rfl (fun ls hl => ?_)
                        refine lv_goto (pc := 174) (tgt := 142) hx hb dX1_copy_174 (by decide) ?_
                        exact m_to rfl (by simp only [cp2]) (ih_loop2 (x + 1) (mu sv 10 (((32 * o.toNatClampNeg) + j.toNatClampNeg) + x) (sv 11 x)) (by omega) _ _ hw _ (lv_sub hl [1, 2, 3, 4, 5, 6, 0] rfl))
                    exact m_to rfl (by simp only [cp1]) (loop2 n.toNatClampNeg 0 su (by omega) _ _ hw _ (lv_sub hl [1, 2, 3, 4, 5, 6, 0] rfl))
                  | succ n_ ih_loop =>
                    intro x su hi H locs hw ls hl
                    refine lv_iload (pc := 105) hx hb dX1_copy_105 (lv_at hl 6 rfl) ?_
                    refine lv_iload (pc := 107) hx hb dX1_copy_107 (lv_at hl 5 rfl) ?_
                    refine li_top (v' := .int (nI n.toNatClampNeg)) (congrArg Value.int hnn) ?_
                    refine li_icmp_geN (pc := 109) (a := x) (b := n.toNatClampNeg) (tgt := 139) hx hb (by omega) (by omega) dX1_copy_109 (by decide) (fun c_11 => absurd c_11 (by omega)) (fun c_11 => ?_)
                    refine lv_aload_n (pc := 112) hx hb dX1_copy_112 rfl (lv_at hl 0 rfl) ?_
                    refine m_geta (pc := 113) E hw 11 (by decide) (by decide) q1103 dX1_copy_113 ?_
                    refine lv_iload (pc := 116) hx hb dX1_copy_116 (lv_at hl 6 rfl) ?_
                    refine lv_aload_n (pc := 118) hx hb dX1_copy_118 rfl (lv_at hl 0 rfl) ?_
                    refine m_geta (pc := 119) E hw 10 (by decide) (by decide) q1102 dX1_copy_119 ?_
                    refine lv_bipush (pc := 122) (v := 32) hx hb dX1_copy_122 (by decide) ?_
                    refine lv_iload_n (pc := 124) hx hb dX1_copy_124 rfl (lv_at hl 1 rfl) ?_
                    refine li_top (v' := .int (nI k.toNatClampNeg)) (congrArg Value.int hkn) ?_
                    refine li_mulN (pc := 125) (a := 32) (b := k.toNatClampNeg) hx hb dX1_copy_125 ?_
                    refine lv_iload_n (pc := 126) hx hb dX1_copy_126 rfl (lv_at hl 2 rfl) ?_
                    refine li_top (v' := .int (nI i.toNatClampNeg)) (congrArg Value.int hin) ?_
                    refine li_addN (pc := 127) (a := 32 * k.toNatClampNeg) (b := i.toNatClampNeg) hx hb dX1_copy_127 ?_
                    refine lv_iload (pc := 128) hx hb dX1_copy_128 (lv_at hl 6 rfl) ?_
                    refine li_addN (pc := 130) (a := (32 * k.toNatClampNeg) + i.toNatClampNeg) (b := x) hx hb dX1_copy_130 ?_
                    refine m_aldN (pc := 131) (v := (su 10 (((32 * k.toNatClampNeg) + i.toNatClampNeg) + x))) E hw 10 (((32 * k.toNatClampNeg) + i.toNatClampNeg) + x) (by decide) rfl (show ((32 * k.toNatClampNeg) + i.toNatClampNeg) + x < 128 from (by omega)) (by decide) rfl dX1_copy_131 ?_
                    refine m_astN (pc := 132) (v := (su 10 (((32 * k.toNatClampNeg) + i.toNatClampNeg) + x))) E hw 11 (x) (by decide) rfl (show x < 32 from (by omega)) (by decide) dX1_copy_132 (fun H locs hw => ?_)
                    refine lv_iinc (pc := 133) (v := (nI (x + 1))) (lv' := [(6, .int (nI (x + 1))), (0, .ref G.1), (1, .int k), (2, .int i), (3, .int o), (4, .int j), (5, .int n)]) hx hb dX1_copy_133 hl (k := 6) rfl (nI_1 _) (by decide) rfl (fun ls hl => ?_)
                    refine lv_goto (pc := 136) (tgt := 105) hx hb dX1_copy_136 (by decide) ?_
                    exact m_to rfl (by simp only [cp1]) (ih_loop (x + 1) (mu su 11 x (su 10 (((32 * k.toNatClampNeg) + i.toNatClampNeg) + x))) (by omega) _ _ hw _ (lv_sub hl [1, 2, 3, 4, 5, 6, 0] rfl))
                exact m_to (by simp only [sp_copy, if_pos c_1, if_pos c_2, if_neg c_3, if_neg c_4, if_pos c_5, if_neg c_6, if_neg c_7]) (by simp only [sp_copy, if_pos c_1, if_pos c_2, if_neg c_3, if_neg c_4, if_pos c_5, if_neg c_6, if_neg c_7]) (loop n.toNatClampNeg 0 st (by omega) _ _ hw _ (lv_sub hl [1, 2, 3, 4, 5, 6, 0] rfl))
              · refine lv_aload_n (pc := 96) hx hb dX1_copy_96 rfl (lv_at hl 0 rfl) ?_
                refine lv_iconst (pc := 97) (v := 3) hx hb dX1_copy_97 (by decide) ?_
                refine m_cVi (pc := 98) (As := [.int 3]) (rest := []) E hml hl.1 hw (mt_failed l G (st) 3 (-13) (by decide)) q1252 q1254 qs24 q1255 hdX1_failed ⟨Nat.le_of_ble_eq_true rfl, Nat.le_of_ble_eq_true rfl⟩ rfl rfl rfl (Nat.le_of_ble_eq_true rfl) dX1_copy_98 (fun H locs hw => ?_)
                exact m_iret E hr hlk hw dX1_copy_101 (by first | (simp only [sp_copy, if_pos c_1, if_pos c_2, if_neg c_3, if_neg c_4, if_pos c_5, if_neg c_6, if_pos c_7]; done) | contradiction | (simp only [sp_copy, c_1, c_2, c_3, c_4, c_5, c_6, c_7, if_true, if_false]; done)) (by first | (simp only [sp_copy, if_pos c_1, if_pos c_2, if_neg c_3, if_neg c_4, if_pos c_5, if_neg c_6, if_pos c_7]; done) | contradiction | (simp only [sp_copy, c_1, c_2, c_3, c_4, c_5, c_6, c_7, if_true, if_false]; done))
          · refine lv_aload_n (pc := 59) hx hb dX1_copy_59 rfl (lv_at hl 0 rfl) ?_
            refine lv_iconst (pc := 60) (v := 2) hx hb dX1_copy_60 (by decide) ?_
            refine m_cVi (pc := 61) (As := [.int 2]) (rest := []) E hml hl.1 hw (mt_failed l G (st) 2 (-12) (by decide)) q1252 q1254 qs24 q1255 hdX1_failed ⟨Nat.le_of_ble_eq_true rfl, Nat.le_of_ble_eq_true rfl⟩ rfl rfl rfl (Nat.le_of_ble_eq_true rfl) dX1_copy_61 (fun H locs hw => ?_)
            exact m_iret E hr hlk hw dX1_copy_64 (by first | (simp only [sp_copy, if_pos c_1, if_pos c_2, if_neg c_3, if_neg c_4, if_neg c_5]; done) | contradiction | (simp only [sp_copy, c_1, c_2, c_3, c_4, c_5, if_true, if_false]; done)) (by first | (simp only [sp_copy, if_pos c_1, if_pos c_2, if_neg c_3, if_neg c_4, if_neg c_5]; done) | contradiction | (simp only [sp_copy, c_1, c_2, c_3, c_4, c_5, if_true, if_false]; done))
        · refine lv_aload_n (pc := 38) hx hb dX1_copy_38 rfl (lv_at hl 0 rfl) ?_
          refine lv_iconst (pc := 39) (v := 1) hx hb dX1_copy_39 (by decide) ?_
          refine m_cVi (pc := 40) (As := [.int 1]) (rest := []) E hml hl.1 hw (mt_failed l G (st) 1 (-11) (by decide)) q1252 q1254 qs24 q1255 hdX1_failed ⟨Nat.le_of_ble_eq_true rfl, Nat.le_of_ble_eq_true rfl⟩ rfl rfl rfl (Nat.le_of_ble_eq_true rfl) dX1_copy_40 (fun H locs hw => ?_)
          exact m_iret E hr hlk hw dX1_copy_43 (by first | (simp only [sp_copy, if_pos c_1, if_pos c_2, if_neg c_3, if_pos c_4]; done) | contradiction | (simp only [sp_copy, c_1, c_2, c_3, c_4, if_true, if_false]; done)) (by first | (simp only [sp_copy, if_pos c_1, if_pos c_2, if_neg c_3, if_pos c_4]; done) | contradiction | (simp only [sp_copy, c_1, c_2, c_3, c_4, if_true, if_false]; done))
    · refine lv_aload_n (pc := 14) hx hb dX1_copy_14 rfl (lv_at hl 0 rfl) ?_
      refine lv_iconst (pc := 15) (v := (-1)) hx hb dX1_copy_15 (by decide) ?_
      refine m_cVi (pc := 16) (As := [.int (-1)]) (rest := []) E hml hl.1 hw (mt_refused l G (st) (-1)) q1248 q1250 qs23 q1251 hdX1_refused ⟨Nat.le_of_ble_eq_true rfl, Nat.le_of_ble_eq_true rfl⟩ rfl rfl rfl (Nat.le_of_ble_eq_true rfl) dX1_copy_16 (fun H locs hw => ?_)
      exact m_iret E hr hlk hw dX1_copy_19 (by first | (simp only [sp_copy, if_pos c_1, if_neg c_2]; done) | contradiction | (simp only [sp_copy, c_1, c_2, if_true, if_false]; done)) (by first | (simp only [sp_copy, if_pos c_1, if_neg c_2]; done) | contradiction | (simp only [sp_copy, c_1, c_2, if_true, if_false]; done))
set_option maxHeartbeats 4000000 in
set_option maxRecDepth 100000 in
theorem mt_faultOf (l : Launch) (G : mG) (st : mS) (k : Int32) (x : Int32) (i : Int32) (n : Int32)  (hk : inB k 0 3) : Met l yX1_faultOf (ws_ yX1_faultOf cX1_faultOf 5 (some .int)) (mR 1) (mP G [.int k, .int x, .int i, .int n] st) (mQ G (some (.int (fof st k x i n))) (st)) 0 0 (mA G) := by
  refine m_head (As := [.int k, .int x, .int i, .int n]) (bytes := cX1_faultOf) (maxL := 5) (ret := (some .int)) (by decide) rfl (Nat.le_of_ble_eq_true rfl) ?_
  intro p e s m below meth c E hml hr hlk hw ls hl
  have hx := E.1
  have hb := E.2.1
  have hts := E.2.2.1
  have hown := E.2.2.2.1
  have hl : lv_has ls 5 [(0, .ref G.1), (1, .int k), (2, .int x), (3, .int i), (4, .int n)] := hl
  refine lv_aload_n (pc := 0) hx hb dX1_faultOf_0 rfl (lv_at hl 0 rfl) ?_
  refine m_geta (pc := 1) E hw 8 (by decide) (by decide) q1100 dX1_faultOf_1 ?_
  refine lv_iload_n (pc := 4) hx hb dX1_faultOf_4 rfl (lv_at hl 1 rfl) ?_
  refine m_ald (pc := 5) E hw 8 (by decide) rfl (show vp_in k 4 from vp_in_iff.mpr ⟨by omega, by omega⟩) dX1_faultOf_5 ?_
  refine li_if_lt (pc := 6) (tgt := 21) hx hb dX1_faultOf_6 (by decide) (fun c_1 => ?_) (fun c_1 => ?_)
  · refine lv_aload_n (pc := 21) hx hb dX1_faultOf_21 rfl (lv_at hl 0 rfl) ?_
    refine m_geta (pc := 22) E hw 8 (by decide) (by decide) q1100 dX1_faultOf_22 ?_
    refine lv_iload_n (pc := 25) hx hb dX1_faultOf_25 rfl (lv_at hl 1 rfl) ?_
    refine m_ald (pc := 26) E hw 8 (by decide) rfl (show vp_in k 4 from vp_in_iff.mpr ⟨by omega, by omega⟩) dX1_faultOf_26 ?_
    refine li_if_ge (pc := 27) (tgt := 34) hx hb dX1_faultOf_27 (by decide) (fun c_2 => ?_) (fun c_2 => ?_)
    · refine lv_iload (pc := 34) hx hb dX1_faultOf_34 (lv_at hl 4 rfl) ?_
      refine li_if_ge (pc := 36) (tgt := 43) hx hb dX1_faultOf_36 (by decide) (fun c_3 => ?_) (fun c_3 => ?_)
      · refine lv_iload_n (pc := 43) hx hb dX1_faultOf_43 rfl (lv_at hl 3 rfl) ?_
        refine lv_iload (pc := 44) hx hb dX1_faultOf_44 (lv_at hl 4 rfl) ?_
        refine lv_aload_n (pc := 46) hx hb dX1_faultOf_46 rfl (lv_at hl 0 rfl) ?_
        refine m_geta (pc := 47) E hw 8 (by decide) (by decide) q1100 dX1_faultOf_47 ?_
        refine lv_iload_n (pc := 50) hx hb dX1_faultOf_50 rfl (lv_at hl 1 rfl) ?_
        refine m_ald (pc := 51) E hw 8 (by decide) rfl (show vp_in k 4 from vp_in_iff.mpr ⟨by omega, by omega⟩) dX1_faultOf_51 ?_
        refine m_cS (pc := 52) (As := [.int i, .int n, .int (st 8 k.toNatClampNeg)]) (rest := []) E hml hl.1 (mt_isBeyond l i n (st 8 k.toNatClampNeg)) q1296 q1297 q1298 hdX1_isBeyond ⟨Nat.le_of_ble_eq_true rfl, Nat.le_of_ble_eq_true rfl⟩ rfl rfl rfl (Nat.le_of_ble_eq_true rfl) dX1_faultOf_52 ?_
        refine lb_eq (pc := 55) (tgt := 62) hx hb dX1_faultOf_55 (by decide) (fun c_4 => ?_) (fun c_4 => ?_)
        · refine lv_iconst (pc := 62) (v := 0) hx hb dX1_faultOf_62 (by decide) ?_
          exact m_iret E hr hlk hw dX1_faultOf_63 (by first | (simp only [fof, if_pos c_1, if_neg c_2, if_neg c_3, if_neg c_4]; done) | contradiction | (simp only [fof, c_1, c_2, c_3, c_4, if_true, if_false]; done)) rfl
        · refine lv_iconst (pc := 58) (v := 3) hx hb dX1_faultOf_58 (by decide) ?_
          refine lv_goto (pc := 59) (tgt := 63) hx hb dX1_faultOf_59 (by decide) ?_
          exact m_iret E hr hlk hw dX1_faultOf_63 (by first | (simp only [fof, if_pos c_1, if_neg c_2, if_neg c_3, if_pos c_4]; done) | contradiction | (simp only [fof, c_1, c_2, c_3, c_4, if_true, if_false]; done)) rfl
      · refine lv_iconst (pc := 39) (v := 4) hx hb dX1_faultOf_39 (by decide) ?_
        refine lv_goto (pc := 40) (tgt := 63) hx hb dX1_faultOf_40 (by decide) ?_
        exact m_iret E hr hlk hw dX1_faultOf_63 (by first | (simp only [fof, if_pos c_1, if_neg c_2, if_pos c_3]; done) | contradiction | (simp only [fof, c_1, c_2, c_3, if_true, if_false]; done)) rfl
    · refine lv_iconst (pc := 30) (v := 1) hx hb dX1_faultOf_30 (by decide) ?_
      refine lv_goto (pc := 31) (tgt := 63) hx hb dX1_faultOf_31 (by decide) ?_
      exact m_iret E hr hlk hw dX1_faultOf_63 (by first | (simp only [fof, if_pos c_1, if_pos c_2]; done) | contradiction | (simp only [fof, c_1, c_2, if_true, if_false]; done)) rfl
  · refine lv_aload_n (pc := 9) hx hb dX1_faultOf_9 rfl (lv_at hl 0 rfl) ?_
    refine m_geta (pc := 10) E hw 9 (by decide) (by decide) q1101 dX1_faultOf_10 ?_
    refine lv_iload_n (pc := 13) hx hb dX1_faultOf_13 rfl (lv_at hl 1 rfl) ?_
    refine m_ald (pc := 14) E hw 9 (by decide) rfl (show vp_in k 4 from vp_in_iff.mpr ⟨by omega, by omega⟩) dX1_faultOf_14 ?_
    refine lv_iload_n (pc := 15) hx hb dX1_faultOf_15 rfl (lv_at hl 2 rfl) ?_
    refine lv_icmp_eq (pc := 16) (tgt := 21) hx hb dX1_faultOf_16 (by decide) (fun c_5 => ?_) (fun c_5 => ?_)
    · refine lv_aload_n (pc := 21) hx hb dX1_faultOf_21 rfl (lv_at hl 0 rfl) ?_
      refine m_geta (pc := 22) E hw 8 (by decide) (by decide) q1100 dX1_faultOf_22 ?_
      refine lv_iload_n (pc := 25) hx hb dX1_faultOf_25 rfl (lv_at hl 1 rfl) ?_
      refine m_ald (pc := 26) E hw 8 (by decide) rfl (show vp_in k 4 from vp_in_iff.mpr ⟨by omega, by omega⟩) dX1_faultOf_26 ?_
      refine li_if_ge (pc := 27) (tgt := 34) hx hb dX1_faultOf_27 (by decide) (fun c_6 => ?_) (fun c_6 => ?_)
      · refine lv_iload (pc := 34) hx hb dX1_faultOf_34 (lv_at hl 4 rfl) ?_
        refine li_if_ge (pc := 36) (tgt := 43) hx hb dX1_faultOf_36 (by decide) (fun c_7 => ?_) (fun c_7 => ?_)
        · refine lv_iload_n (pc := 43) hx hb dX1_faultOf_43 rfl (lv_at hl 3 rfl) ?_
          refine lv_iload (pc := 44) hx hb dX1_faultOf_44 (lv_at hl 4 rfl) ?_
          refine lv_aload_n (pc := 46) hx hb dX1_faultOf_46 rfl (lv_at hl 0 rfl) ?_
          refine m_geta (pc := 47) E hw 8 (by decide) (by decide) q1100 dX1_faultOf_47 ?_
          refine lv_iload_n (pc := 50) hx hb dX1_faultOf_50 rfl (lv_at hl 1 rfl) ?_
          refine m_ald (pc := 51) E hw 8 (by decide) rfl (show vp_in k 4 from vp_in_iff.mpr ⟨by omega, by omega⟩) dX1_faultOf_51 ?_
          refine m_cS (pc := 52) (As := [.int i, .int n, .int (st 8 k.toNatClampNeg)]) (rest := []) E hml hl.1 (mt_isBeyond l i n (st 8 k.toNatClampNeg)) q1296 q1297 q1298 hdX1_isBeyond ⟨Nat.le_of_ble_eq_true rfl, Nat.le_of_ble_eq_true rfl⟩ rfl rfl rfl (Nat.le_of_ble_eq_true rfl) dX1_faultOf_52 ?_
          refine lb_eq (pc := 55) (tgt := 62) hx hb dX1_faultOf_55 (by decide) (fun c_8 => ?_) (fun c_8 => ?_)
          · refine lv_iconst (pc := 62) (v := 0) hx hb dX1_faultOf_62 (by decide) ?_
            exact m_iret E hr hlk hw dX1_faultOf_63 (by first | (simp only [fof, if_neg c_1, if_pos c_5, if_neg c_6, if_neg c_7, if_neg c_8]; done) | contradiction | (simp only [fof, c_1, c_5, c_6, c_7, c_8, if_true, if_false]; done)) rfl
          · refine lv_iconst (pc := 58) (v := 3) hx hb dX1_faultOf_58 (by decide) ?_
            refine lv_goto (pc := 59) (tgt := 63) hx hb dX1_faultOf_59 (by decide) ?_
            exact m_iret E hr hlk hw dX1_faultOf_63 (by first | (simp only [fof, if_neg c_1, if_pos c_5, if_neg c_6, if_neg c_7, if_pos c_8]; done) | contradiction | (simp only [fof, c_1, c_5, c_6, c_7, c_8, if_true, if_false]; done)) rfl
        · refine lv_iconst (pc := 39) (v := 4) hx hb dX1_faultOf_39 (by decide) ?_
          refine lv_goto (pc := 40) (tgt := 63) hx hb dX1_faultOf_40 (by decide) ?_
          exact m_iret E hr hlk hw dX1_faultOf_63 (by first | (simp only [fof, if_neg c_1, if_pos c_5, if_neg c_6, if_pos c_7]; done) | contradiction | (simp only [fof, c_1, c_5, c_6, c_7, if_true, if_false]; done)) rfl
      · refine lv_iconst (pc := 30) (v := 1) hx hb dX1_faultOf_30 (by decide) ?_
        refine lv_goto (pc := 31) (tgt := 63) hx hb dX1_faultOf_31 (by decide) ?_
        exact m_iret E hr hlk hw dX1_faultOf_63 (by first | (simp only [fof, if_neg c_1, if_pos c_5, if_pos c_6]; done) | contradiction | (simp only [fof, c_1, c_5, c_6, if_true, if_false]; done)) rfl
    · refine lv_iconst (pc := 19) (v := 2) hx hb dX1_faultOf_19 (by decide) ?_
      exact m_iret E hr hlk hw dX1_faultOf_20 (by first | (simp only [fof, if_neg c_1, if_neg c_5]; done) | contradiction | (simp only [fof, c_1, c_5, if_true, if_false]; done)) rfl
set_option maxHeartbeats 4000000 in
set_option maxRecDepth 100000 in
theorem mt_isBook (l : Launch) (G : mG) (st : mS) (k : Int32) (i : Int32) (n : Int32)  (hk : inB k 0 3) (hb9 : ¬ bey i n (st 8 k.toNatClampNeg)) (hs9 : (st 8 k.toNatClampNeg).toInt ≤ 32) : Met l yX1_isBook (ws_ yX1_isBook cX1_isBook 7 (some .boolean)) (mR 2) (mP G [.int k, .int i, .int n] st) (mQ G (some (.int (bI (isb st (32 * k.toNatClampNeg + i.toNatClampNeg) n = true)))) (st)) 0 0 (mA G) := by
  refine m_head (As := [.int k, .int i, .int n]) (bytes := cX1_isBook) (maxL := 7) (ret := (some .boolean)) (by decide) rfl (Nat.le_of_ble_eq_true rfl) ?_
  intro p e s m below meth c E hml hr hlk hw ls hl
  have hx := E.1
  have hb := E.2.1
  have hts := E.2.2.1
  have hown := E.2.2.2.1
  have hl : lv_has ls 7 [(0, .ref G.1), (1, .int k), (2, .int i), (3, .int n)] := hl
  refine lv_iload_n (pc := 0) hx hb dX1_isBook_0 rfl (lv_at hl 3 rfl) ?_
  refine lv_i2l (pc := 1) (v := n.toInt64) hx hb dX1_isBook_1 rfl ?_
  refine lv_ldc2 (pc := 2) hx hb hown (hts _ q1235) dX1_isBook_2 ?_
  refine lv_ldc2 (pc := 5) hx hb hown (hts _ q1311) dX1_isBook_5 ?_
  refine m_cS (pc := 8) (As := [.long n.toInt64, .long 2, .long 8]) (rest := []) E hml hl.1 (mt_inB l n 2 8 2 8 rfl rfl) q1231 q1232 q1233 hdX1_in ⟨Nat.le_of_ble_eq_true rfl, Nat.le_of_ble_eq_true rfl⟩ rfl rfl rfl (Nat.le_of_ble_eq_true rfl) dX1_isBook_8 ?_
  refine lv_istore (pc := 11) (lv' := [(4, .int (bI (inB n 2 8))), (0, .ref G.1), (1, .int k), (2, .int i), (3, .int n)]) hx hb dX1_isBook_11 hl (by decide) rfl (fun ls hl => ?_)
  refine lv_iconst (pc := 13) (v := 0) hx hb dX1_isBook_13 (by decide) ?_
  refine lv_istore (pc := 14) (lv' := [(5, .int 0), (4, .int (bI (inB n 2 8))), (0, .ref G.1), (1, .int k), (2, .int i), (3, .int n)]) hx hb dX1_isBook_14 hl (by decide) rfl (fun ls hl => ?_)
  by_cases c_g : inB n 2 8
  · have hl : lv_has ls 7 [(5, .int 0), (4, .int 1), (0, .ref G.1), (1, .int k), (2, .int i), (3, .int n)] := by rw [bI_t c_g] at hl; exact hl
    have hkn := clamp_n (x := k) hk.1
    have hki := clamp_i (x := k) hk.1
    have hin := clamp_n (x := i) (by omega)
    have hii := clamp_i (x := i) (by omega)
    have hnn := clamp_n (x := n) (by omega)
    have hni := clamp_i (x := n) (by omega)
    have loop : ∀ (n_ : Nat) (x : Nat), x + n_ = n.toNatClampNeg → ∀ (H : Heap) (locs : List Loc), mWd G s.heap st H locs → ∀ ls : Array Slot, lv_has ls 7 [(0, .ref G.1), (1, .int k), (2, .int i), (3, .int n), (4, .int 1), (5, .int (nI x))] → W p l e (mR 2) s m (Value.ref G.1 :: [.int k, .int i, .int n] : List Value).toArray below meth c H locs 0 0 (MQ below (mQ G (some (.int (bI (bok st (32 * k.toNatClampNeg + i.toNatClampNeg) n_ x = true)))) (st)) (Value.ref G.1 :: [.int k, .int i, .int n] : List Value).toArray s 0 0 (mA G)) (F0 m 16 ls []) := by
      intro n_
      induction n_ with
      | zero =>
        intro x hi H locs hw ls hl
        refine lv_iload (pc := 16) hx hb dX1_isBook_16 (lv_at hl 5 rfl) ?_
        refine lv_iload_n (pc := 18) hx hb dX1_isBook_18 rfl (lv_at hl 3 rfl) ?_
        refine li_top (v' := .int (nI n.toNatClampNeg)) (congrArg Value.int hnn) ?_
        refine li_icmp_geN (pc := 19) (a := x) (b := n.toNatClampNeg) (tgt := 90) hx hb (by omega) (by omega) dX1_isBook_19 (by decide) (fun c_1 => ?_) (fun c_1 => absurd c_1 (by omega))
        refine lv_iload (pc := 90) hx hb dX1_isBook_90 (lv_at hl 4 rfl) ?_
        exact m_zret E hr hlk hw dX1_isBook_92 rfl (bI_t (by simp only [bok])).symm rfl
      | succ n_ ih_loop =>
        intro x hi H locs hw ls hl
        refine lv_iload (pc := 16) hx hb dX1_isBook_16 (lv_at hl 5 rfl) ?_
        refine lv_iload_n (pc := 18) hx hb dX1_isBook_18 rfl (lv_at hl 3 rfl) ?_
        refine li_top (v' := .int (nI n.toNatClampNeg)) (congrArg Value.int hnn) ?_
        refine li_icmp_geN (pc := 19) (a := x) (b := n.toNatClampNeg) (tgt := 90) hx hb (by omega) (by omega) dX1_isBook_19 (by decide) (fun c_2 => absurd c_2 (by omega)) (fun c_2 => ?_)
        refine lv_iload (pc := 22) hx hb dX1_isBook_22 (lv_at hl 4 rfl) ?_
        refine lv_if_eq (pc := 24) (tgt := 90) hx hb dX1_isBook_24 (by decide) (fun h_ => absurd h_ (by decide)) (fun _ => ?_)
        refine lv_aload_n (pc := 27) hx hb dX1_isBook_27 rfl (lv_at hl 0 rfl) ?_
        refine m_geta (pc := 28) E hw 10 (by decide) (by decide) q1102 dX1_isBook_28 ?_
        refine lv_bipush (pc := 31) (v := 32) hx hb dX1_isBook_31 (by decide) ?_
        refine lv_iload_n (pc := 33) hx hb dX1_isBook_33 rfl (lv_at hl 1 rfl) ?_
        refine li_top (v' := .int (nI k.toNatClampNeg)) (congrArg Value.int hkn) ?_
        refine li_mulN (pc := 34) (a := 32) (b := k.toNatClampNeg) hx hb dX1_isBook_34 ?_
        refine lv_iload_n (pc := 35) hx hb dX1_isBook_35 rfl (lv_at hl 2 rfl) ?_
        refine li_top (v' := .int (nI i.toNatClampNeg)) (congrArg Value.int hin) ?_
        refine li_addN (pc := 36) (a := 32 * k.toNatClampNeg) (b := i.toNatClampNeg) hx hb dX1_isBook_36 ?_
        refine lv_iload (pc := 37) hx hb dX1_isBook_37 (lv_at hl 5 rfl) ?_
        refine li_addN (pc := 39) (a := (32 * k.toNatClampNeg) + i.toNatClampNeg) (b := x) hx hb dX1_isBook_39 ?_
        refine m_aldN (pc := 40) (v := (st 10 (((32 * k.toNatClampNeg) + i.toNatClampNeg) + x))) E hw 10 (((32 * k.toNatClampNeg) + i.toNatClampNeg) + x) (by decide) rfl (show ((32 * k.toNatClampNeg) + i.toNatClampNeg) + x < 128 from (by omega)) (by decide) rfl dX1_isBook_40 ?_
        refine lv_istore (pc := 41) (lv' := [(6, .int (st 10 (((32 * k.toNatClampNeg) + i.toNatClampNeg) + x))), (0, .ref G.1), (1, .int k), (2, .int i), (3, .int n), (4, .int 1), (5, .int (nI x))]) hx hb dX1_isBook_41 hl (by decide) rfl (fun ls hl => ?_)
        refine lv_iload (pc := 43) hx hb dX1_isBook_43 (lv_at hl 0 rfl) ?_
        refine m_cS (pc := 45) (As := [.int (st 10 (((32 * k.toNatClampNeg) + i.toNatClampNeg) + x))]) (rest := []) E hml hl.1 (mt_isSpot l (st 10 (((32 * k.toNatClampNeg) + i.toNatClampNeg) + x))) q1227 q1228 q1229 hdX1_isSpot ⟨Nat.le_of_ble_eq_true rfl, Nat.le_of_ble_eq_true rfl⟩ rfl rfl rfl (Nat.le_of_ble_eq_true rfl) dX1_isBook_45 ?_
        refine lb_eq (pc := 48) (tgt := 81) hx hb dX1_isBook_48 (by decide) (fun c_3 => ?_) (fun c_3 => ?_)
        · refine lv_iconst (pc := 81) (v := 0) hx hb dX1_isBook_81 (by decide) ?_
          refine lv_istore (pc := 82) (lv' := [(4, .int 0), (6, .int (st 10 (((32 * k.toNatClampNeg) + i.toNatClampNeg) + x))), (0, .ref G.1), (1, .int k), (2, .int i), (3, .int n), (5, .int (nI x))]) hx hb dX1_isBook_82 hl (by decide) rfl (fun ls hl => ?_)
          refine lv_iinc (pc := 84) (v := (nI (x + 1))) (lv' := [(5, .int (nI (x + 1))), (4, .int 0), (6, .int (st 10 (((32 * k.toNatClampNeg) + i.toNatClampNeg) + x))), (0, .ref G.1), (1, .int k), (2, .int i), (3, .int n)]) hx hb dX1_isBook_84 hl (k := 6) rfl (nI_1 _) (by decide) rfl (fun ls hl => ?_)
          refine lv_goto (pc := 87) (tgt := 16) hx hb dX1_isBook_87 (by decide) ?_
          refine lv_iload (pc := 16) hx hb dX1_isBook_16 (lv_at hl 0 rfl) ?_
          refine lv_iload_n (pc := 18) hx hb dX1_isBook_18 rfl (lv_at hl 6 rfl) ?_
          refine li_top (v' := .int (nI n.toNatClampNeg)) (congrArg Value.int hnn) ?_
          refine li_icmp_geN (pc := 19) (a := x + 1) (b := n.toNatClampNeg) (tgt := 90) hx hb (by omega) (by omega) dX1_isBook_19 (by decide) (fun c_4 => ?_) (fun c_4 => ?_)
          · refine lv_iload (pc := 90) hx hb dX1_isBook_90 (lv_at hl 1 rfl) ?_
            exact m_zret E hr hlk hw dX1_isBook_92 rfl (bI_f (by simp only [bok, if_neg c_3]; exact Bool.false_ne_true)).symm rfl
          · refine lv_iload (pc := 22) hx hb dX1_isBook_22 (lv_at hl 1 rfl) ?_
            refine lv_if_eq (pc := 24) (tgt := 90) hx hb dX1_isBook_24 (by decide) (fun _ => ?_) (fun h_ => absurd h_ (by decide))
            refine lv_iload (pc := 90) hx hb dX1_isBook_90 (lv_at hl 1 rfl) ?_
            exact m_zret E hr hlk hw dX1_isBook_92 rfl (bI_f (by simp only [bok, if_neg c_3]; exact Bool.false_ne_true)).symm rfl
        · refine lv_iload (pc := 51) hx hb dX1_isBook_51 (lv_at hl 6 rfl) ?_
          refine li_if_eqN (pc := 53) (tgt := 77) hx hb (by omega) dX1_isBook_53 (by decide) (fun c_5 => ?_) (fun c_5 => ?_)
          · refine lv_iconst (pc := 77) (v := 1) hx hb dX1_isBook_77 (by decide) ?_
            refine lv_goto (pc := 78) (tgt := 82) hx hb dX1_isBook_78 (by decide) ?_
            refine lv_istore (pc := 82) (lv' := [(4, .int 1), (6, .int (st 10 (((32 * k.toNatClampNeg) + i.toNatClampNeg) + x))), (0, .ref G.1), (1, .int k), (2, .int i), (3, .int n), (5, .int (nI x))]) hx hb dX1_isBook_82 hl (by decide) rfl (fun ls hl => ?_)
            refine lv_iinc (pc := 84) (v := (nI (x + 1))) (lv' := [(5, .int (nI (x + 1))), (4, .int 1), (6, .int (st 10 (((32 * k.toNatClampNeg) + i.toNatClampNeg) + x))), (0, .ref G.1), (1, .int k), (2, .int i), (3, .int n)]) hx hb dX1_isBook_84 hl (k := 6) rfl (nI_1 _) (by decide) rfl (fun ls hl => ?_)
            refine lv_goto (pc := 87) (tgt := 16) hx hb dX1_isBook_87 (by decide) ?_
            exact m_to (by simp only [bok, if_pos c_2, if_pos c_3, if_pos c_5]) rfl (ih_loop (x + 1) (by omega) _ _ hw _ (lv_sub hl [3, 4, 5, 6, 1, 0] rfl))
          · refine lv_aload_n (pc := 56) hx hb dX1_isBook_56 rfl (lv_at hl 1 rfl) ?_
            refine m_geta (pc := 57) E hw 10 (by decide) (by decide) q1102 dX1_isBook_57 ?_
            refine lv_bipush (pc := 60) (v := 32) hx hb dX1_isBook_60 (by decide) ?_
            refine lv_iload_n (pc := 62) hx hb dX1_isBook_62 rfl (lv_at hl 2 rfl) ?_
            refine li_top (v' := .int (nI k.toNatClampNeg)) (congrArg Value.int hkn) ?_
            refine li_mulN (pc := 63) (a := 32) (b := k.toNatClampNeg) hx hb dX1_isBook_63 ?_
            refine lv_iload_n (pc := 64) hx hb dX1_isBook_64 rfl (lv_at hl 3 rfl) ?_
            refine li_top (v' := .int (nI i.toNatClampNeg)) (congrArg Value.int hin) ?_
            refine li_addN (pc := 65) (a := 32 * k.toNatClampNeg) (b := i.toNatClampNeg) hx hb dX1_isBook_65 ?_
            refine lv_iload (pc := 66) hx hb dX1_isBook_66 (lv_at hl 6 rfl) ?_
            refine li_addN (pc := 68) (a := (32 * k.toNatClampNeg) + i.toNatClampNeg) (b := x) hx hb dX1_isBook_68 ?_
            refine lv_iconst (pc := 69) (v := 1) hx hb dX1_isBook_69 (by decide) ?_
            refine li_subN (pc := 70) (a := ((32 * k.toNatClampNeg) + i.toNatClampNeg) + x) (b := 1) hx hb (by omega) dX1_isBook_70 ?_
            refine m_aldN (pc := 71) (v := (st 10 ((((32 * k.toNatClampNeg) + i.toNatClampNeg) + x) - 1))) E hw 10 ((((32 * k.toNatClampNeg) + i.toNatClampNeg) + x) - 1) (by decide) rfl (show (((32 * k.toNatClampNeg) + i.toNatClampNeg) + x) - 1 < 128 from (by omega)) (by decide) rfl dX1_isBook_71 ?_
            refine lv_iload (pc := 72) hx hb dX1_isBook_72 (lv_at hl 0 rfl) ?_
            refine lv_icmp_eq (pc := 74) (tgt := 81) hx hb dX1_isBook_74 (by decide) (fun c_6 => ?_) (fun c_6 => ?_)
            · refine lv_iconst (pc := 81) (v := 0) hx hb dX1_isBook_81 (by decide) ?_
              refine lv_istore (pc := 82) (lv' := [(4, .int 0), (6, .int (st 10 (((32 * k.toNatClampNeg) + i.toNatClampNeg) + x))), (0, .ref G.1), (1, .int k), (2, .int i), (3, .int n), (5, .int (nI x))]) hx hb dX1_isBook_82 hl (by decide) rfl (fun ls hl => ?_)
              refine lv_iinc (pc := 84) (v := (nI (x + 1))) (lv' := [(5, .int (nI (x + 1))), (4, .int 0), (6, .int (st 10 (((32 * k.toNatClampNeg) + i.toNatClampNeg) + x))), (0, .ref G.1), (1, .int k), (2, .int i), (3, .int n)]) hx hb dX1_isBook_84 hl (k := 6) rfl (nI_1 _) (by decide) rfl (fun ls hl => ?_)
              refine lv_goto (pc := 87) (tgt := 16) hx hb dX1_isBook_87 (by decide) ?_
              refine lv_iload (pc := 16) hx hb dX1_isBook_16 (lv_at hl 0 rfl) ?_
              refine lv_iload_n (pc := 18) hx hb dX1_isBook_18 rfl (lv_at hl 6 rfl) ?_
              refine li_top (v' := .int (nI n.toNatClampNeg)) (congrArg Value.int hnn) ?_
              refine li_icmp_geN (pc := 19) (a := x + 1) (b := n.toNatClampNeg) (tgt := 90) hx hb (by omega) (by omega) dX1_isBook_19 (by decide) (fun c_7 => ?_) (fun c_7 => ?_)
              · refine lv_iload (pc := 90) hx hb dX1_isBook_90 (lv_at hl 1 rfl) ?_
                exact m_zret E hr hlk hw dX1_isBook_92 rfl (bI_f (by simp only [bok, if_pos c_3, if_neg c_5, if_pos c_6]; exact Bool.false_ne_true)).symm rfl
              · refine lv_iload (pc := 22) hx hb dX1_isBook_22 (lv_at hl 1 rfl) ?_
                refine lv_if_eq (pc := 24) (tgt := 90) hx hb dX1_isBook_24 (by decide) (fun _ => ?_) (fun h_ => absurd h_ (by decide))
                refine lv_iload (pc := 90) hx hb dX1_isBook_90 (lv_at hl 1 rfl) ?_
                exact m_zret E hr hlk hw dX1_isBook_92 rfl (bI_f (by simp only [bok, if_pos c_3, if_neg c_5, if_pos c_6]; exact Bool.false_ne_true)).symm rfl
            · refine lv_iconst (pc := 77) (v := 1) hx hb dX1_isBook_77 (by decide) ?_
              refine lv_goto (pc := 78) (tgt := 82) hx hb dX1_isBook_78 (by decide) ?_
              refine lv_istore (pc := 82) (lv' := [(4, .int 1), (6, .int (st 10 (((32 * k.toNatClampNeg) + i.toNatClampNeg) + x))), (0, .ref G.1), (1, .int k), (2, .int i), (3, .int n), (5, .int (nI x))]) hx hb dX1_isBook_82 hl (by decide) rfl (fun ls hl => ?_)
              refine lv_iinc (pc := 84) (v := (nI (x + 1))) (lv' := [(5, .int (nI (x + 1))), (4, .int 1), (6, .int (st 10 (((32 * k.toNatClampNeg) + i.toNatClampNeg) + x))), (0, .ref G.1), (1, .int k), (2, .int i), (3, .int n)]) hx hb dX1_isBook_84 hl (k := 6) rfl (nI_1 _) (by decide) rfl (fun ls hl => ?_)
              refine lv_goto (pc := 87) (tgt := 16) hx hb dX1_isBook_87 (by decide) ?_
              exact m_to (by simp only [bok, if_pos c_2, if_pos c_3, if_neg c_5, if_neg c_6]) rfl (ih_loop (x + 1) (by omega) _ _ hw _ (lv_sub hl [3, 4, 5, 6, 1, 0] rfl))
    exact m_to (by simp only [isb, if_pos c_g]) rfl (loop n.toNatClampNeg 0 (by omega) _ _ hw _ (lv_sub hl [2, 3, 4, 5, 1, 0] rfl))
  · have hl : lv_has ls 7 [(5, .int 0), (4, .int 0), (0, .ref G.1), (1, .int k), (2, .int i), (3, .int n)] := by rw [bI_f c_g] at hl; exact hl
    refine lv_iload (pc := 16) hx hb dX1_isBook_16 (lv_at hl 0 rfl) ?_
    refine lv_iload_n (pc := 18) hx hb dX1_isBook_18 rfl (lv_at hl 5 rfl) ?_
    refine li_icmp_ge (pc := 19) (tgt := 90) hx hb dX1_isBook_19 (by decide) (fun c_8 => ?_) (fun c_8 => ?_)
    · refine lv_iload (pc := 90) hx hb dX1_isBook_90 (lv_at hl 1 rfl) ?_
      exact m_zret E hr hlk hw dX1_isBook_92 rfl (bI_f (by simp only [isb, if_neg c_g]; exact Bool.false_ne_true)).symm rfl
    · refine lv_iload (pc := 22) hx hb dX1_isBook_22 (lv_at hl 1 rfl) ?_
      refine lv_if_eq (pc := 24) (tgt := 90) hx hb dX1_isBook_24 (by decide) (fun _ => ?_) (fun h_ => absurd h_ (by decide))
      refine lv_iload (pc := 90) hx hb dX1_isBook_90 (lv_at hl 1 rfl) ?_
      exact m_zret E hr hlk hw dX1_isBook_92 rfl (bI_f (by simp only [isb, if_neg c_g]; exact Bool.false_ne_true)).symm rfl
theorem isb_n {st : mS} {b : Nat} {n : Int32} (h : isb st b n = true) : inB n 2 8 := by
  unfold isb at h
  by_cases h1 : inB n 2 8
  · exact h1
  · rw [if_neg h1] at h; cases h
set_option maxHeartbeats 4000000 in
set_option maxRecDepth 100000 in
theorem mt_book (l : Launch) (G : mG) (st : mS) (k : Int32) (x : Int32) (i : Int32) (n : Int32)  (hS : ∀ j, j < 4 → -1 ≤ (st 8 j).toInt ∧ (st 8 j).toInt ≤ 32) : Met l yX1_book (ws_ yX1_book cX1_book 7 (some .int)) (mR 3) (mP G [.int k, .int x, .int i, .int n] st) (mQ G (some (.int (sp_book st k x i n).1)) ((sp_book st k x i n).2)) 0 0 (mA G) := by
  refine m_head (As := [.int k, .int x, .int i, .int n]) (bytes := cX1_book) (maxL := 7) (ret := (some .int)) (by decide) rfl (Nat.le_of_ble_eq_true rfl) ?_
  intro p e s m below meth c E hml hr hlk hw ls hl
  have hx := E.1
  have hb := E.2.1
  have hts := E.2.2.1
  have hown := E.2.2.2.1
  have hl : lv_has ls 7 [(0, .ref G.1), (1, .int k), (2, .int x), (3, .int i), (4, .int n)] := hl
  refine lv_iload_n (pc := 0) hx hb dX1_book_0 rfl (lv_at hl 1 rfl) ?_
  refine m_cS (pc := 1) (As := [.int k]) (rest := []) E hml hl.1 (mt_noSheet l k) q1264 q1265 q1266 hdX1_noSheet ⟨Nat.le_of_ble_eq_true rfl, Nat.le_of_ble_eq_true rfl⟩ rfl rfl rfl (Nat.le_of_ble_eq_true rfl) dX1_book_1 ?_
  refine nb_eq (pc := 4) (tgt := 13) hx hb dX1_book_4 (by decide) (fun c_1 => ?_) (fun c_1 => ?_)
  · refine lv_iload_n (pc := 13) hx hb dX1_book_13 rfl (lv_at hl 2 rfl) ?_
    refine lv_i2l (pc := 14) (v := x.toInt64) hx hb dX1_book_14 rfl ?_
    refine lv_lconst (pc := 15) (v := 0) hx hb dX1_book_15 (by decide) ?_
    refine lv_ldc2 (pc := 16) hx hb hown (hts _ q1235) dX1_book_16 ?_
    refine m_cS (pc := 19) (As := [.long x.toInt64, .long 0, .long 2]) (rest := []) E hml hl.1 (mt_inB l x 0 2 0 2 rfl rfl) q1231 q1232 q1233 hdX1_in ⟨Nat.le_of_ble_eq_true rfl, Nat.le_of_ble_eq_true rfl⟩ rfl rfl rfl (Nat.le_of_ble_eq_true rfl) dX1_book_19 ?_
    refine lb_ne (pc := 22) (tgt := 32) hx hb dX1_book_22 (by decide) (fun c_2 => ?_) (fun c_2 => ?_)
    · refine lv_aload_n (pc := 32) hx hb dX1_book_32 rfl (lv_at hl 0 rfl) ?_
      refine lv_iload_n (pc := 33) hx hb dX1_book_33 rfl (lv_at hl 1 rfl) ?_
      refine lv_iload_n (pc := 34) hx hb dX1_book_34 rfl (lv_at hl 2 rfl) ?_
      refine lv_iload_n (pc := 35) hx hb dX1_book_35 rfl (lv_at hl 3 rfl) ?_
      refine lv_iload (pc := 36) hx hb dX1_book_36 (lv_at hl 4 rfl) ?_
      refine m_cVi (pc := 38) (As := [.int k, .int x, .int i, .int n]) (rest := []) E hml hl.1 hw (mt_faultOf l G (st) k x i n c_1) q1303 q1305 qs27 q1306 hdX1_faultOf ⟨Nat.le_of_ble_eq_true rfl, Nat.le_of_ble_eq_true rfl⟩ rfl rfl rfl (Nat.le_of_ble_eq_true rfl) dX1_book_38 (fun H locs hw => ?_)
      refine lv_istore (pc := 41) (lv' := [(5, .int (fof st k x i n)), (0, .ref G.1), (1, .int k), (2, .int x), (3, .int i), (4, .int n)]) hx hb dX1_book_41 hl (by decide) rfl (fun ls hl => ?_)
      refine lv_iload (pc := 43) hx hb dX1_book_43 (lv_at hl 0 rfl) ?_
      refine li_if_le (pc := 45) (tgt := 55) hx hb dX1_book_45 (by decide) (fun c_3 => ?_) (fun c_3 => ?_)
      · have hf_ := fof_ok c_3
        have hki := clamp_i (x := k) c_1.1
        have hS1 := hS k.toNatClampNeg (by omega)
        refine lv_aload_n (pc := 55) hx hb dX1_book_55 rfl (lv_at hl 1 rfl) ?_
        refine lv_iload_n (pc := 56) hx hb dX1_book_56 rfl (lv_at hl 2 rfl) ?_
        refine lv_iload_n (pc := 57) hx hb dX1_book_57 rfl (lv_at hl 4 rfl) ?_
        refine lv_iload (pc := 58) hx hb dX1_book_58 (lv_at hl 5 rfl) ?_
        refine m_cVi (pc := 60) (As := [.int k, .int i, .int n]) (rest := []) E hml hl.1 hw (mt_isBook l G (st) k i n c_1 hf_.2.2.2 hS1.2) q1307 q1309 qs28 q1310 hdX1_isBook ⟨Nat.le_of_ble_eq_true rfl, Nat.le_of_ble_eq_true rfl⟩ rfl rfl rfl (Nat.le_of_ble_eq_true rfl) dX1_book_60 (fun H locs hw => ?_)
        refine lb_ne (pc := 63) (tgt := 73) hx hb dX1_book_63 (by decide) (fun c_4 => ?_) (fun c_4 => ?_)
        · have hn8 := isb_n c_4
          have hkn := clamp_n (x := k) c_1.1
          have hin := clamp_n (x := i) (by omega)
          have hii := clamp_i (x := i) (by omega)
          have hnn := clamp_n (x := n) (by omega)
          have hni := clamp_i (x := n) (by omega)
          refine lv_aload_n (pc := 73) hx hb dX1_book_73 rfl (lv_at hl 1 rfl) ?_
          refine lv_iload (pc := 74) hx hb dX1_book_74 (lv_at hl 5 rfl) ?_
          refine m_put (pc := 76) (v := n) E hw 12 (by decide) rfl rfl rfl q1104 dX1_book_76 (fun H locs hw => ?_)
          refine lv_iconst (pc := 79) (v := 0) hx hb dX1_book_79 (by decide) ?_
          refine lv_istore (pc := 80) (lv' := [(6, .int 0), (5, .int (fof st k x i n)), (0, .ref G.1), (1, .int k), (2, .int x), (3, .int i), (4, .int n)]) hx hb dX1_book_80 hl (by decide) rfl (fun ls hl => ?_)
          have loop : ∀ (n_ : Nat) (y : Nat) (su : mS), y + n_ = n.toNatClampNeg → ∀ (H : Heap) (locs : List Loc), mWd G s.heap su H locs → ∀ ls : Array Slot, lv_has ls 7 [(0, .ref G.1), (1, .int k), (3, .int i), (4, .int n), (6, .int (nI y))] → W p l e (mR 3) s m (Value.ref G.1 :: [.int k, .int x, .int i, .int n] : List Value).toArray below meth c H locs 0 0 (MQ below (mQ G (some (.int n)) (mu (bkc (32 * k.toNatClampNeg + i.toNatClampNeg) n_ y su) 0 0 0)) (Value.ref G.1 :: [.int k, .int x, .int i, .int n] : List Value).toArray s 0 0 (mA G)) (F0 m 82 ls []) := by
            intro n_
            induction n_ with
            | zero =>
              intro y su hi H locs hw ls hl
              refine lv_iload (pc := 82) hx hb dX1_book_82 (lv_at hl 4 rfl) ?_
              refine lv_iload (pc := 84) hx hb dX1_book_84 (lv_at hl 3 rfl) ?_
              refine li_top (v' := .int (nI n.toNatClampNeg)) (congrArg Value.int hnn) ?_
              refine li_icmp_geN (pc := 86) (a := y) (b := n.toNatClampNeg) (tgt := 116) hx hb (by omega) (by omega) dX1_book_86 (by decide) (fun c_5 => ?_) (fun c_5 => absurd c_5 (by omega))
              refine lv_aload_n (pc := 116) hx hb dX1_book_116 rfl (lv_at hl 0 rfl) ?_
              refine lv_iload (pc := 117) hx hb dX1_book_117 (lv_at hl 3 rfl) ?_
              refine m_cVi (pc := 119) (As := [.int n]) (rest := []) E hml hl.1 hw (mt_refused l G (su) n) q1248 q1250 qs23 q1251 hdX1_refused ⟨Nat.le_of_ble_eq_true rfl, Nat.le_of_ble_eq_true rfl⟩ rfl rfl rfl (Nat.le_of_ble_eq_true rfl) dX1_book_119 (fun H locs hw => ?_)
              exact m_iret E hr hlk hw dX1_book_122 rfl (by simp only [bkc])
            | succ n_ ih_loop =>
              intro y su hi H locs hw ls hl
              refine lv_iload (pc := 82) hx hb dX1_book_82 (lv_at hl 4 rfl) ?_
              refine lv_iload (pc := 84) hx hb dX1_book_84 (lv_at hl 3 rfl) ?_
              refine li_top (v' := .int (nI n.toNatClampNeg)) (congrArg Value.int hnn) ?_
              refine li_icmp_geN (pc := 86) (a := y) (b := n.toNatClampNeg) (tgt := 116) hx hb (by omega) (by omega) dX1_book_86 (by decide) (fun c_6 => absurd c_6 (by omega)) (fun c_6 => ?_)
              refine lv_aload_n (pc := 89) hx hb dX1_book_89 rfl (lv_at hl 0 rfl) ?_
              refine m_geta (pc := 90) E hw 13 (by decide) (by decide) q1105 dX1_book_90 ?_
              refine lv_iload (pc := 93) hx hb dX1_book_93 (lv_at hl 4 rfl) ?_
              refine lv_aload_n (pc := 95) hx hb dX1_book_95 rfl (lv_at hl 0 rfl) ?_
              refine m_geta (pc := 96) E hw 10 (by decide) (by decide) q1102 dX1_book_96 ?_
              refine lv_bipush (pc := 99) (v := 32) hx hb dX1_book_99 (by decide) ?_
              refine lv_iload_n (pc := 101) hx hb dX1_book_101 rfl (lv_at hl 1 rfl) ?_
              refine li_top (v' := .int (nI k.toNatClampNeg)) (congrArg Value.int hkn) ?_
              refine li_mulN (pc := 102) (a := 32) (b := k.toNatClampNeg) hx hb dX1_book_102 ?_
              refine lv_iload_n (pc := 103) hx hb dX1_book_103 rfl (lv_at hl 2 rfl) ?_
              refine li_top (v' := .int (nI i.toNatClampNeg)) (congrArg Value.int hin) ?_
              refine li_addN (pc := 104) (a := 32 * k.toNatClampNeg) (b := i.toNatClampNeg) hx hb dX1_book_104 ?_
              refine lv_iload (pc := 105) hx hb dX1_book_105 (lv_at hl 4 rfl) ?_
              refine li_addN (pc := 107) (a := (32 * k.toNatClampNeg) + i.toNatClampNeg) (b := y) hx hb dX1_book_107 ?_
              refine m_aldN (pc := 108) (v := (su 10 (((32 * k.toNatClampNeg) + i.toNatClampNeg) + y))) E hw 10 (((32 * k.toNatClampNeg) + i.toNatClampNeg) + y) (by decide) rfl (show ((32 * k.toNatClampNeg) + i.toNatClampNeg) + y < 128 from (by omega)) (by decide) rfl dX1_book_108 ?_
              refine m_astN (pc := 109) (v := (su 10 (((32 * k.toNatClampNeg) + i.toNatClampNeg) + y))) E hw 13 (y) (by decide) rfl (show y < 8 from (by omega)) (by decide) dX1_book_109 (fun H locs hw => ?_)
              refine lv_iinc (pc := 110) (v := (nI (y + 1))) (lv' := [(6, .int (nI (y + 1))), (0, .ref G.1), (1, .int k), (3, .int i), (4, .int n)]) hx hb dX1_book_110 hl (k := 4) rfl (nI_1 _) (by decide) rfl (fun ls hl => ?_)
              refine lv_goto (pc := 113) (tgt := 82) hx hb dX1_book_113 (by decide) ?_
              exact m_to rfl (by simp only [bkc]) (ih_loop (y + 1) (mu su 13 y (su 10 (((32 * k.toNatClampNeg) + i.toNatClampNeg) + y))) (by omega) _ _ hw _ (lv_sub hl [1, 2, 3, 4, 0] rfl))
          exact m_to (by simp only [sp_book, if_pos c_1, if_pos c_2, if_neg c_3, if_pos c_4]) (by simp only [sp_book, if_pos c_1, if_pos c_2, if_neg c_3, if_pos c_4]) (loop n.toNatClampNeg 0 (mu st 0 12 n) (by omega) _ _ hw _ (lv_sub hl [2, 3, 5, 6, 0] rfl))
        · refine lv_aload_n (pc := 66) hx hb dX1_book_66 rfl (lv_at hl 1 rfl) ?_
          refine lv_bipush (pc := 67) (v := (-2)) hx hb dX1_book_67 (by decide) ?_
          refine m_cVi (pc := 69) (As := [.int (-2)]) (rest := []) E hml hl.1 hw (mt_refused l G (st) (-2)) q1248 q1250 qs23 q1251 hdX1_refused ⟨Nat.le_of_ble_eq_true rfl, Nat.le_of_ble_eq_true rfl⟩ rfl rfl rfl (Nat.le_of_ble_eq_true rfl) dX1_book_69 (fun H locs hw => ?_)
          exact m_iret E hr hlk hw dX1_book_72 (by first | (simp only [sp_book, if_pos c_1, if_pos c_2, if_neg c_3, if_neg c_4]; done) | contradiction | (simp only [sp_book, c_1, c_2, c_3, c_4, if_true, if_false]; done)) (by first | (simp only [sp_book, if_pos c_1, if_pos c_2, if_neg c_3, if_neg c_4]; done) | contradiction | (simp only [sp_book, c_1, c_2, c_3, c_4, if_true, if_false]; done))
      · refine lv_aload_n (pc := 48) hx hb dX1_book_48 rfl (lv_at hl 1 rfl) ?_
        refine lv_iload (pc := 49) hx hb dX1_book_49 (lv_at hl 0 rfl) ?_
        refine m_cVi (pc := 51) (As := [.int (fof st k x i n)]) (rest := []) E hml hl.1 hw (mt_failed l G (st) (fof st k x i n) ((-10) - (fof st k x i n)) rfl) q1252 q1254 qs24 q1255 hdX1_failed ⟨Nat.le_of_ble_eq_true rfl, Nat.le_of_ble_eq_true rfl⟩ rfl rfl rfl (Nat.le_of_ble_eq_true rfl) dX1_book_51 (fun H locs hw => ?_)
        exact m_iret E hr hlk hw dX1_book_54 (by first | (simp only [sp_book, if_pos c_1, if_pos c_2, if_pos c_3]; done) | contradiction | (simp only [sp_book, c_1, c_2, c_3, if_true, if_false]; done)) (by first | (simp only [sp_book, if_pos c_1, if_pos c_2, if_pos c_3]; done) | contradiction | (simp only [sp_book, c_1, c_2, c_3, if_true, if_false]; done))
    · refine lv_aload_n (pc := 25) hx hb dX1_book_25 rfl (lv_at hl 0 rfl) ?_
      refine lv_bipush (pc := 26) (v := (-2)) hx hb dX1_book_26 (by decide) ?_
      refine m_cVi (pc := 28) (As := [.int (-2)]) (rest := []) E hml hl.1 hw (mt_refused l G (st) (-2)) q1248 q1250 qs23 q1251 hdX1_refused ⟨Nat.le_of_ble_eq_true rfl, Nat.le_of_ble_eq_true rfl⟩ rfl rfl rfl (Nat.le_of_ble_eq_true rfl) dX1_book_28 (fun H locs hw => ?_)
      exact m_iret E hr hlk hw dX1_book_31 (by first | (simp only [sp_book, if_pos c_1, if_neg c_2]; done) | contradiction | (simp only [sp_book, c_1, c_2, if_true, if_false]; done)) (by first | (simp only [sp_book, if_pos c_1, if_neg c_2]; done) | contradiction | (simp only [sp_book, c_1, c_2, if_true, if_false]; done))
  · refine lv_aload_n (pc := 7) hx hb dX1_book_7 rfl (lv_at hl 0 rfl) ?_
    refine lv_iconst (pc := 8) (v := (-1)) hx hb dX1_book_8 (by decide) ?_
    refine m_cVi (pc := 9) (As := [.int (-1)]) (rest := []) E hml hl.1 hw (mt_refused l G (st) (-1)) q1248 q1250 qs23 q1251 hdX1_refused ⟨Nat.le_of_ble_eq_true rfl, Nat.le_of_ble_eq_true rfl⟩ rfl rfl rfl (Nat.le_of_ble_eq_true rfl) dX1_book_9 (fun H locs hw => ?_)
    exact m_iret E hr hlk hw dX1_book_12 (by first | (simp only [sp_book, if_neg c_1]; done) | contradiction | (simp only [sp_book, c_1, if_true, if_false]; done)) (by first | (simp only [sp_book, if_neg c_1]; done) | contradiction | (simp only [sp_book, c_1, if_true, if_false]; done))
