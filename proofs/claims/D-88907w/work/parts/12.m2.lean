/-! the reference's methods, second part: roads and sheets -/
theorem cnt_i {st : mS} {k : Nat} (h : 0 ≤ (st 0 k).toInt) : (cnt st k : Int) = (st 0 k).toInt := by
  unfold cnt
  rw [i32_clamp h]
  omega
theorem cnt_n {st : mS} {k : Nat} (h : 0 ≤ (st 0 k).toInt) : st 0 k = nI (cnt st k) := by
  have h1 := i32_nI h
  unfold cnt
  rw [i32_clamp h]
  exact h1
theorem clamp_i {x : Int32} (h : 0 ≤ x.toInt) : (x.toNatClampNeg : Int) = x.toInt := by
  rw [i32_clamp h]
  omega
theorem clamp_n {x : Int32} (h : 0 ≤ x.toInt) : x = nI x.toNatClampNeg := by
  have h1 := i32_nI h
  rw [i32_clamp h]
  exact h1
theorem b01_nar {x : Int32} (h : x = 0 ∨ x = 1) : narrow .boolean (.int x) = .int x := by
  rcases h with h | h <;> rw [h] <;> rfl
def sp_road (st : mS) (a b d k : Int32) : Int32 × mS :=
  if inB a 0 9 then if inB b 0 9 then if a = b then (-2, st) else if inB d 1 20000 then if inB k 0 2 then if cnt st 1 = 16 then (-4, st) else (nI (cnt st 1), mu (mu (mu (mu (mu st 2 (cnt st 1) a) 3 (cnt st 1) b) 4 (cnt st 1) d) 5 (cnt st 1) k) 0 1 (nI (cnt st 1 + 1))) else (-2, st) else (-2, st) else (-1, st) else (-1, st)
def sp_shut (st : mS) (r is : Int32) : Int32 × mS :=
  if inN r (st 0 1) then (if st 6 r.toNatClampNeg = is then 0 else 1, mu st 6 r.toNatClampNeg is) else (-1, st)
def sp_wet (st : mS) (r is : Int32) : Int32 × mS :=
  if inN r (st 0 1) then if st 5 r.toNatClampNeg = 2 then (if st 7 r.toNatClampNeg = is then 0 else 1, mu (mu st 7 r.toNatClampNeg is) 0 0 0) else (-12, mu st 0 0 2) else (-1, mu st 0 0 0)
/-- where the road j leads from the spot x; -1: it doesn't -/
def ldr (st : mS) (j : Nat) (x : Int32) : Int32 :=
  if st 6 j = 0 then if st 7 j = 0 then if st 2 j = x then st 3 j else if st 3 j = x then if st 5 j = 1 then -1 else st 2 j else -1 else -1 else -1
/-- the first place from i on, of n places, where r is laid -/
def lat (st : mS) (r : Int32) : Nat → Nat → Int32
  | 0, _ => -9
  | n + 1, i => if st 26 i = r then nI i else lat st r n (i + 1)
def sp_about (st : mS) (r w : Int32) : Int32 :=
  if inN r (st 0 1) then if w = 0 then st 2 r.toNatClampNeg else if w = 1 then st 3 r.toNatClampNeg else if w = 2 then st 4 r.toNatClampNeg else if w = 3 then st 5 r.toNatClampNeg else if w = 4 then if st 6 r.toNatClampNeg = 0 then if st 7 r.toNatClampNeg = 0 then 0 else 1 else 1 else if w = 5 then lat st r (cnt st 24) 0 else -2 else -1
/-- n places of the sheets' row, from b + i on, are made 0 -/
def zr (b : Nat) : Nat → Nat → mS → mS
  | 0, _, st => st
  | n + 1, i, st => zr b n (i + 1) (mu st 10 (b + i) 0)
def sp_sheet (st : mS) (k w n : Int32) : Int32 × mS :=
  if inB k 0 3 then if inB w 0 2 then if 32 < n.toInt then (-2, mu st 0 0 0) else if n.toInt < 0 then (-14, mu st 0 0 4) else (1, mu (zr (32 * k.toNatClampNeg) n.toNatClampNeg 0 (mu (mu st 8 k.toNatClampNeg n) 9 k.toNatClampNeg w)) 0 0 0) else (-2, mu st 0 0 0) else (-1, mu st 0 0 0)
def sp_lose (st : mS) (k : Int32) : Int32 × mS :=
  if inB k 0 3 then (if (st 8 k.toNatClampNeg).toInt < 0 then 0 else 1, mu st 8 k.toNatClampNeg (-1)) else (-1, st)
/-- what is against the cell i of the sheet k: 0 nothing -/
def nce (st : mS) (k i : Int32) : Int32 := if (st 8 k.toNatClampNeg).toInt < 0 then 1 else if inN i (st 8 k.toNatClampNeg) then 0 else 3
def sp_put (st : mS) (k i v : Int32) : Int32 × mS :=
  if inB k 0 3 then if 0 < (nce st k i).toInt then ((-10) - nce st k i, mu st 0 0 (nce st k i)) else (1, mu (mu st 10 (32 * k.toNatClampNeg + i.toNatClampNeg) (if st 9 k.toNatClampNeg = 0 then v.toInt8.toInt32 else if st 9 k.toNatClampNeg = 1 then v.toInt16.toInt32 else v)) 0 0 0) else (-1, mu st 0 0 0)
abbrev LOST : Int64 := -9223372036854775808
def cel (st : mS) (k i : Int32) : Int64 × mS := if 0 < (nce (mu st 0 0 0) k i).toInt then (LOST, mu (mu st 0 0 0) 0 0 (nce (mu st 0 0 0) k i)) else ((st 10 (32 * k.toNatClampNeg + i.toNatClampNeg)).toInt64, mu st 0 0 0)
def sp_cell (st : mS) (k i w : Int32) : Int64 × mS :=
  if inB k 0 3 then if inB w 0 2 then if (st 8 k.toNatClampNeg).toInt < 0 then cel st k i else if st 9 k.toNatClampNeg = w then cel st k i else (LOST, mu (mu st 0 0 0) 0 0 2) else (LOST, mu st 0 0 0) else (LOST, mu st 0 0 0)
abbrev bey (i n a : Int32) : Prop := i.toInt < 0 ∨ n.toInt < 0 ∨ a.toInt < i.toInt + n.toInt
def cp1 (b : Nat) : Nat → Nat → mS → mS
  | 0, _, st => st
  | n + 1, i, st => cp1 b n (i + 1) (mu st 11 i (st 10 (b + i)))
def cp2 (b : Nat) : Nat → Nat → mS → mS
  | 0, _, st => st
  | n + 1, i, st => cp2 b n (i + 1) (mu st 10 (b + i) (st 11 i))
def sp_copy (st : mS) (k i o j n : Int32) : Int32 × mS :=
  if inB k 0 3 then if inB o 0 3 then if (st 8 k.toNatClampNeg).toInt < 0 then (-11, mu st 0 0 1) else if (st 8 o.toNatClampNeg).toInt < 0 then (-11, mu st 0 0 1) else if st 9 k.toNatClampNeg = st 9 o.toNatClampNeg then if bey i n (st 8 k.toNatClampNeg) then (-13, mu st 0 0 3) else if bey j n (st 8 o.toNatClampNeg) then (-13, mu st 0 0 3) else (n, mu (cp2 (32 * o.toNatClampNeg + j.toNatClampNeg) n.toNatClampNeg 0 (cp1 (32 * k.toNatClampNeg + i.toNatClampNeg) n.toNatClampNeg 0 st)) 0 0 0) else (-12, mu st 0 0 2) else (-1, mu st 0 0 0) else (-1, mu st 0 0 0)
theorem nce_ok {st : mS} {k i : Int32} (h : ¬ 0 < (nce st k i).toInt) : ¬ (st 8 k.toNatClampNeg).toInt < 0 ∧ inN i (st 8 k.toNatClampNeg) := by
  unfold nce at h
  by_cases h1 : (st 8 k.toNatClampNeg).toInt < 0
  · rw [if_pos h1] at h; exact absurd (by decide) h
  · rw [if_neg h1] at h
    by_cases h2 : inN i (st 8 k.toNatClampNeg)
    · exact ⟨h1, h2⟩
    · rw [if_neg h2] at h; exact absurd (by decide) h
set_option maxHeartbeats 4000000 in
set_option maxRecDepth 100000 in
theorem mt_road (l : Launch) (G : mG) (st : mS) (a : Int32) (b : Int32) (d : Int32) (k : Int32)  (hR : 0 ≤ (st 0 1).toInt ∧ (st 0 1).toInt ≤ 16) : Met l yX1_road (ws_ yX1_road cX1_road 5 (some .int)) (mR 2) (mP G [.int a, .int b, .int d, .int k] st) (mQ G (some (.int (sp_road st a b d k).1)) ((sp_road st a b d k).2)) 0 0 (mA G) := by
  refine m_head (As := [.int a, .int b, .int d, .int k]) (bytes := cX1_road) (maxL := 5) (ret := (some .int)) (by decide) rfl (Nat.le_of_ble_eq_true rfl) ?_
  intro p e s m below meth c E hml hr hlk hw ls hl
  have hx := E.1
  have hb := E.2.1
  have hts := E.2.2.1
  have hown := E.2.2.2.1
  have hl : lv_has ls 5 [(0, .ref G.1), (1, .int a), (2, .int b), (3, .int d), (4, .int k)] := hl
  have hRn := cnt_n hR.1
  have hRi := cnt_i hR.1
  refine lv_iload_n (pc := 0) hx hb dX1_road_0 rfl (lv_at hl 1 rfl) ?_
  refine m_cS (pc := 1) (As := [.int a]) (rest := []) E hml hl.1 (mt_isSpot l a) q1227 q1228 q1229 hdX1_isSpot ⟨Nat.le_of_ble_eq_true rfl, Nat.le_of_ble_eq_true rfl⟩ rfl rfl rfl (Nat.le_of_ble_eq_true rfl) dX1_road_1 ?_
  refine lb_eq (pc := 4) (tgt := 14) hx hb dX1_road_4 (by decide) (fun c_1 => ?_) (fun c_1 => ?_)
  · refine lv_iconst (pc := 14) (v := (-1)) hx hb dX1_road_14 (by decide) ?_
    exact m_iret E hr hlk hw dX1_road_15 (by first | (simp only [sp_road, if_neg c_1, Nat.add_sub_cancel]; done) | contradiction | (simp only [sp_road, c_1, Nat.add_sub_cancel, if_true, if_false]; done)) (by first | (simp only [sp_road, if_neg c_1, Nat.add_sub_cancel]; done) | contradiction | (simp only [sp_road, c_1, Nat.add_sub_cancel, if_true, if_false]; done))
  · refine lv_iload_n (pc := 7) hx hb dX1_road_7 rfl (lv_at hl 2 rfl) ?_
    refine m_cS (pc := 8) (As := [.int b]) (rest := []) E hml hl.1 (mt_isSpot l b) q1227 q1228 q1229 hdX1_isSpot ⟨Nat.le_of_ble_eq_true rfl, Nat.le_of_ble_eq_true rfl⟩ rfl rfl rfl (Nat.le_of_ble_eq_true rfl) dX1_road_8 ?_
    refine lb_ne (pc := 11) (tgt := 16) hx hb dX1_road_11 (by decide) (fun c_2 => ?_) (fun c_2 => ?_)
    · refine lv_iload_n (pc := 16) hx hb dX1_road_16 rfl (lv_at hl 1 rfl) ?_
      refine lv_iload_n (pc := 17) hx hb dX1_road_17 rfl (lv_at hl 2 rfl) ?_
      refine lv_icmp_eq (pc := 18) (tgt := 46) hx hb dX1_road_18 (by decide) (fun c_3 => ?_) (fun c_3 => ?_)
      · refine lv_bipush (pc := 46) (v := (-2)) hx hb dX1_road_46 (by decide) ?_
        exact m_iret E hr hlk hw dX1_road_48 (by first | (simp only [sp_road, if_pos c_1, if_pos c_2, if_pos c_3, Nat.add_sub_cancel]; done) | contradiction | (simp only [sp_road, c_1, c_2, c_3, Nat.add_sub_cancel, if_true, if_false]; done)) (by first | (simp only [sp_road, if_pos c_1, if_pos c_2, if_pos c_3, Nat.add_sub_cancel]; done) | contradiction | (simp only [sp_road, c_1, c_2, c_3, Nat.add_sub_cancel, if_true, if_false]; done))
      · refine lv_iload_n (pc := 21) hx hb dX1_road_21 rfl (lv_at hl 3 rfl) ?_
        refine lv_i2l (pc := 22) (v := d.toInt64) hx hb dX1_road_22 rfl ?_
        refine lv_lconst (pc := 23) (v := 1) hx hb dX1_road_23 (by decide) ?_
        refine lv_ldc2 (pc := 24) hx hb hown (hts _ q1234) dX1_road_24 ?_
        refine m_cS (pc := 27) (As := [.long d.toInt64, .long 1, .long 20000]) (rest := []) E hml hl.1 (mt_inB l d 1 20000 1 20000 rfl rfl) q1231 q1232 q1233 hdX1_in ⟨Nat.le_of_ble_eq_true rfl, Nat.le_of_ble_eq_true rfl⟩ rfl rfl rfl (Nat.le_of_ble_eq_true rfl) dX1_road_27 ?_
        refine lb_eq (pc := 30) (tgt := 46) hx hb dX1_road_30 (by decide) (fun c_4 => ?_) (fun c_4 => ?_)
        · refine lv_bipush (pc := 46) (v := (-2)) hx hb dX1_road_46 (by decide) ?_
          exact m_iret E hr hlk hw dX1_road_48 (by first | (simp only [sp_road, if_pos c_1, if_pos c_2, if_neg c_3, if_neg c_4, Nat.add_sub_cancel]; done) | contradiction | (simp only [sp_road, c_1, c_2, c_3, c_4, Nat.add_sub_cancel, if_true, if_false]; done)) (by first | (simp only [sp_road, if_pos c_1, if_pos c_2, if_neg c_3, if_neg c_4, Nat.add_sub_cancel]; done) | contradiction | (simp only [sp_road, c_1, c_2, c_3, c_4, Nat.add_sub_cancel, if_true, if_false]; done))
        · refine lv_iload (pc := 33) hx hb dX1_road_33 (lv_at hl 4 rfl) ?_
          refine lv_i2l (pc := 35) (v := k.toInt64) hx hb dX1_road_35 rfl ?_
          refine lv_lconst (pc := 36) (v := 0) hx hb dX1_road_36 (by decide) ?_
          refine lv_ldc2 (pc := 37) hx hb hown (hts _ q1235) dX1_road_37 ?_
          refine m_cS (pc := 40) (As := [.long k.toInt64, .long 0, .long 2]) (rest := []) E hml hl.1 (mt_inB l k 0 2 0 2 rfl rfl) q1231 q1232 q1233 hdX1_in ⟨Nat.le_of_ble_eq_true rfl, Nat.le_of_ble_eq_true rfl⟩ rfl rfl rfl (Nat.le_of_ble_eq_true rfl) dX1_road_40 ?_
          refine lb_ne (pc := 43) (tgt := 49) hx hb dX1_road_43 (by decide) (fun c_5 => ?_) (fun c_5 => ?_)
          · refine lv_aload_n (pc := 49) hx hb dX1_road_49 rfl (lv_at hl 0 rfl) ?_
            refine m_getv (pc := 50) (v := (nI (cnt st 1))) E hw 1 (by decide) rfl hRn q1093 dX1_road_50 ?_
            refine lv_bipush (pc := 53) (v := 16) hx hb dX1_road_53 (by decide) ?_
            refine li_icmp_neN (pc := 55) (a := cnt st 1) (b := 16) (tgt := 61) hx hb (by omega) (by omega) dX1_road_55 (by decide) (fun c_6 => ?_) (fun c_6 => ?_)
            · refine lv_aload_n (pc := 61) hx hb dX1_road_61 rfl (lv_at hl 0 rfl) ?_
              refine m_geta (pc := 62) E hw 2 (by decide) (by decide) q1094 dX1_road_62 ?_
              refine lv_aload_n (pc := 65) hx hb dX1_road_65 rfl (lv_at hl 0 rfl) ?_
              refine m_getv (pc := 66) (v := (nI (cnt st 1))) E hw 1 (by decide) rfl hRn q1093 dX1_road_66 ?_
              refine lv_iload_n (pc := 69) hx hb dX1_road_69 rfl (lv_at hl 1 rfl) ?_
              refine m_astN (pc := 70) (v := a) E hw 2 (cnt st 1) (by decide) rfl (show cnt st 1 < 16 from (by omega)) (by decide) dX1_road_70 (fun H locs hw => ?_)
              refine lv_aload_n (pc := 71) hx hb dX1_road_71 rfl (lv_at hl 0 rfl) ?_
              refine m_geta (pc := 72) E hw 3 (by decide) (by decide) q1095 dX1_road_72 ?_
              refine lv_aload_n (pc := 75) hx hb dX1_road_75 rfl (lv_at hl 0 rfl) ?_
              refine m_getv (pc := 76) (v := (nI (cnt st 1))) E hw 1 (by decide) rfl hRn q1093 dX1_road_76 ?_
              refine lv_iload_n (pc := 79) hx hb dX1_road_79 rfl (lv_at hl 2 rfl) ?_
              refine m_astN (pc := 80) (v := b) E hw 3 (cnt st 1) (by decide) rfl (show cnt st 1 < 16 from (by omega)) (by decide) dX1_road_80 (fun H locs hw => ?_)
              refine lv_aload_n (pc := 81) hx hb dX1_road_81 rfl (lv_at hl 0 rfl) ?_
              refine m_geta (pc := 82) E hw 4 (by decide) (by decide) q1096 dX1_road_82 ?_
              refine lv_aload_n (pc := 85) hx hb dX1_road_85 rfl (lv_at hl 0 rfl) ?_
              refine m_getv (pc := 86) (v := (nI (cnt st 1))) E hw 1 (by decide) rfl hRn q1093 dX1_road_86 ?_
              refine lv_iload_n (pc := 89) hx hb dX1_road_89 rfl (lv_at hl 3 rfl) ?_
              refine m_astN (pc := 90) (v := d) E hw 4 (cnt st 1) (by decide) rfl (show cnt st 1 < 16 from (by omega)) (by decide) dX1_road_90 (fun H locs hw => ?_)
              refine lv_aload_n (pc := 91) hx hb dX1_road_91 rfl (lv_at hl 0 rfl) ?_
              refine m_geta (pc := 92) E hw 5 (by decide) (by decide) q1097 dX1_road_92 ?_
              refine lv_aload_n (pc := 95) hx hb dX1_road_95 rfl (lv_at hl 0 rfl) ?_
              refine m_getv (pc := 96) (v := (nI (cnt st 1))) E hw 1 (by decide) rfl hRn q1093 dX1_road_96 ?_
              refine lv_iload (pc := 99) hx hb dX1_road_99 (lv_at hl 4 rfl) ?_
              refine m_astN (pc := 101) (v := k) E hw 5 (cnt st 1) (by decide) rfl (show cnt st 1 < 16 from (by omega)) (by decide) dX1_road_101 (fun H locs hw => ?_)
              refine lv_aload_n (pc := 102) hx hb dX1_road_102 rfl (lv_at hl 0 rfl) ?_
              refine lv_dup (pc := 103) hx hb dX1_road_103 rfl ?_
              refine m_getv (pc := 104) (v := (nI (cnt st 1))) E hw 1 (by decide) rfl hRn q1093 dX1_road_104 ?_
              refine lv_iconst (pc := 107) (v := 1) hx hb dX1_road_107 (by decide) ?_
              refine li_addN (pc := 108) (a := cnt st 1) (b := 1) hx hb dX1_road_108 ?_
              refine m_put (pc := 109) (v := (nI ((cnt st 1) + 1))) E hw 1 (by decide) rfl rfl rfl q1093 dX1_road_109 (fun H locs hw => ?_)
              refine lv_aload_n (pc := 112) hx hb dX1_road_112 rfl (lv_at hl 0 rfl) ?_
              refine m_getv (pc := 113) (v := (nI ((cnt st 1) + 1))) E hw 1 (by decide) rfl rfl q1093 dX1_road_113 ?_
              refine lv_iconst (pc := 116) (v := 1) hx hb dX1_road_116 (by decide) ?_
              refine li_subN (pc := 117) (a := (cnt st 1) + 1) (b := 1) hx hb (by omega) dX1_road_117 ?_
              exact m_iret E hr hlk hw dX1_road_118 (by first | (simp only [sp_road, if_pos c_1, if_pos c_2, if_neg c_3, if_pos c_4, if_pos c_5, if_neg c_6, Nat.add_sub_cancel]; done) | contradiction | (simp only [sp_road, c_1, c_2, c_3, c_4, c_5, c_6, Nat.add_sub_cancel, if_true, if_false]; done)) (by first | (simp only [sp_road, if_pos c_1, if_pos c_2, if_neg c_3, if_pos c_4, if_pos c_5, if_neg c_6, Nat.add_sub_cancel]; done) | contradiction | (simp only [sp_road, c_1, c_2, c_3, c_4, c_5, c_6, Nat.add_sub_cancel, if_true, if_false]; done))
            · refine lv_bipush (pc := 58) (v := (-4)) hx hb dX1_road_58 (by decide) ?_
              exact m_iret E hr hlk hw dX1_road_60 (by first | (simp only [sp_road, if_pos c_1, if_pos c_2, if_neg c_3, if_pos c_4, if_pos c_5, if_pos c_6, Nat.add_sub_cancel]; done) | contradiction | (simp only [sp_road, c_1, c_2, c_3, c_4, c_5, c_6, Nat.add_sub_cancel, if_true, if_false]; done)) (by first | (simp only [sp_road, if_pos c_1, if_pos c_2, if_neg c_3, if_pos c_4, if_pos c_5, if_pos c_6, Nat.add_sub_cancel]; done) | contradiction | (simp only [sp_road, c_1, c_2, c_3, c_4, c_5, c_6, Nat.add_sub_cancel, if_true, if_false]; done))
          · refine lv_bipush (pc := 46) (v := (-2)) hx hb dX1_road_46 (by decide) ?_
            exact m_iret E hr hlk hw dX1_road_48 (by first | (simp only [sp_road, if_pos c_1, if_pos c_2, if_neg c_3, if_pos c_4, if_neg c_5, Nat.add_sub_cancel]; done) | contradiction | (simp only [sp_road, c_1, c_2, c_3, c_4, c_5, Nat.add_sub_cancel, if_true, if_false]; done)) (by first | (simp only [sp_road, if_pos c_1, if_pos c_2, if_neg c_3, if_pos c_4, if_neg c_5, Nat.add_sub_cancel]; done) | contradiction | (simp only [sp_road, c_1, c_2, c_3, c_4, c_5, Nat.add_sub_cancel, if_true, if_false]; done))
    · refine lv_iconst (pc := 14) (v := (-1)) hx hb dX1_road_14 (by decide) ?_
      exact m_iret E hr hlk hw dX1_road_15 (by first | (simp only [sp_road, if_pos c_1, if_neg c_2, Nat.add_sub_cancel]; done) | contradiction | (simp only [sp_road, c_1, c_2, Nat.add_sub_cancel, if_true, if_false]; done)) (by first | (simp only [sp_road, if_pos c_1, if_neg c_2, Nat.add_sub_cancel]; done) | contradiction | (simp only [sp_road, c_1, c_2, Nat.add_sub_cancel, if_true, if_false]; done))
set_option maxHeartbeats 4000000 in
set_option maxRecDepth 100000 in
theorem mt_shut (l : Launch) (G : mG) (st : mS) (r : Int32) (is : Int32)  (hR : 0 ≤ (st 0 1).toInt ∧ (st 0 1).toInt ≤ 16) (his : is = 0 ∨ is = 1) : Met l yX1_shut (ws_ yX1_shut cX1_shut 4 (some .int)) (mR 2) (mP G [.int r, .int is] st) (mQ G (some (.int (sp_shut st r is).1)) ((sp_shut st r is).2)) 0 0 (mA G) := by
  refine m_head (As := [.int r, .int is]) (bytes := cX1_shut) (maxL := 4) (ret := (some .int)) (by decide) rfl (Nat.le_of_ble_eq_true rfl) ?_
  intro p e s m below meth c E hml hr hlk hw ls hl
  have hx := E.1
  have hb := E.2.1
  have hts := E.2.2.1
  have hown := E.2.2.2.1
  have hl : lv_has ls 4 [(0, .ref G.1), (1, .int r), (2, .int is)] := hl
  have hRn := cnt_n hR.1
  have hRi := cnt_i hR.1
  refine lv_aload_n (pc := 0) hx hb dX1_shut_0 rfl (lv_at hl 0 rfl) ?_
  refine lv_iload_n (pc := 1) hx hb dX1_shut_1 rfl (lv_at hl 1 rfl) ?_
  refine m_cVi (pc := 2) (As := [.int r]) (rest := []) E hml hl.1 hw (mt_noRoad l G (st) r) q1240 q1242 qs22 q1243 hdX1_noRoad ⟨Nat.le_of_ble_eq_true rfl, Nat.le_of_ble_eq_true rfl⟩ rfl rfl rfl (Nat.le_of_ble_eq_true rfl) dX1_shut_2 (fun H locs hw => ?_)
  refine nb_eq (pc := 5) (tgt := 10) hx hb dX1_shut_5 (by decide) (fun c_1 => ?_) (fun c_1 => ?_)
  · refine lv_aload_n (pc := 10) hx hb dX1_shut_10 rfl (lv_at hl 0 rfl) ?_
    refine m_geta (pc := 11) E hw 6 (by decide) (by decide) q1098 dX1_shut_11 ?_
    refine lv_iload_n (pc := 14) hx hb dX1_shut_14 rfl (lv_at hl 1 rfl) ?_
    refine m_zld (pc := 15) E hw 6 (by decide) rfl (show vp_in r 16 from vp_in_iff.mpr ⟨by omega, by omega⟩) dX1_shut_15 ?_
    refine lv_iload_n (pc := 16) hx hb dX1_shut_16 rfl (lv_at hl 2 rfl) ?_
    refine lv_icmp_eq (pc := 17) (tgt := 24) hx hb dX1_shut_17 (by decide) (fun c_2 => ?_) (fun c_2 => ?_)
    · refine lv_iconst (pc := 24) (v := 0) hx hb dX1_shut_24 (by decide) ?_
      refine lv_istore_n (pc := 25) (lv' := [(3, .int 0), (0, .ref G.1), (1, .int r), (2, .int is)]) hx hb dX1_shut_25 rfl hl (by decide) rfl (fun ls hl => ?_)
      refine lv_aload_n (pc := 26) hx hb dX1_shut_26 rfl (lv_at hl 1 rfl) ?_
      refine m_geta (pc := 27) E hw 6 (by decide) (by decide) q1098 dX1_shut_27 ?_
      refine lv_iload_n (pc := 30) hx hb dX1_shut_30 rfl (lv_at hl 2 rfl) ?_
      refine lv_iload_n (pc := 31) hx hb dX1_shut_31 rfl (lv_at hl 3 rfl) ?_
      refine m_zst (pc := 32) (v := is) E hw 6 (by decide) rfl (show vp_in r 16 from vp_in_iff.mpr ⟨by omega, by omega⟩) (b01_nar his) dX1_shut_32 (fun H locs hw => ?_)
      refine lv_iload_n (pc := 33) hx hb dX1_shut_33 rfl (lv_at hl 0 rfl) ?_
      refine lv_if_eq (pc := 34) (tgt := 41) hx hb dX1_shut_34 (by decide) (fun _ => ?_) (fun h_ => absurd h_ (by decide))
      refine lv_iconst (pc := 41) (v := 0) hx hb dX1_shut_41 (by decide) ?_
      exact m_iret E hr hlk hw dX1_shut_42 (by first | (simp only [sp_shut, if_pos c_1, if_pos c_2]; done) | contradiction | (simp only [sp_shut, c_1, c_2, if_true, if_false]; done)) (by first | (simp only [sp_shut, if_pos c_1, if_pos c_2]; done) | contradiction | (simp only [sp_shut, c_1, c_2, if_true, if_false]; done))
    · refine lv_iconst (pc := 20) (v := 1) hx hb dX1_shut_20 (by decide) ?_
      refine lv_goto (pc := 21) (tgt := 25) hx hb dX1_shut_21 (by decide) ?_
      refine lv_istore_n (pc := 25) (lv' := [(3, .int 1), (0, .ref G.1), (1, .int r), (2, .int is)]) hx hb dX1_shut_25 rfl hl (by decide) rfl (fun ls hl => ?_)
      refine lv_aload_n (pc := 26) hx hb dX1_shut_26 rfl (lv_at hl 1 rfl) ?_
      refine m_geta (pc := 27) E hw 6 (by decide) (by decide) q1098 dX1_shut_27 ?_
      refine lv_iload_n (pc := 30) hx hb dX1_shut_30 rfl (lv_at hl 2 rfl) ?_
      refine lv_iload_n (pc := 31) hx hb dX1_shut_31 rfl (lv_at hl 3 rfl) ?_
      refine m_zst (pc := 32) (v := is) E hw 6 (by decide) rfl (show vp_in r 16 from vp_in_iff.mpr ⟨by omega, by omega⟩) (b01_nar his) dX1_shut_32 (fun H locs hw => ?_)
      refine lv_iload_n (pc := 33) hx hb dX1_shut_33 rfl (lv_at hl 0 rfl) ?_
      refine lv_if_eq (pc := 34) (tgt := 41) hx hb dX1_shut_34 (by decide) (fun h_ => absurd h_ (by decide)) (fun _ => ?_)
      refine lv_iconst (pc := 37) (v := 1) hx hb dX1_shut_37 (by decide) ?_
      refine lv_goto (pc := 38) (tgt := 42) hx hb dX1_shut_38 (by decide) ?_
      exact m_iret E hr hlk hw dX1_shut_42 (by first | (simp only [sp_shut, if_pos c_1, if_neg c_2]; done) | contradiction | (simp only [sp_shut, c_1, c_2, if_true, if_false]; done)) (by first | (simp only [sp_shut, if_pos c_1, if_neg c_2]; done) | contradiction | (simp only [sp_shut, c_1, c_2, if_true, if_false]; done))
  · refine lv_iconst (pc := 8) (v := (-1)) hx hb dX1_shut_8 (by decide) ?_
    exact m_iret E hr hlk hw dX1_shut_9 (by first | (simp only [sp_shut, if_neg c_1]; done) | contradiction | (simp only [sp_shut, c_1, if_true, if_false]; done)) (by first | (simp only [sp_shut, if_neg c_1]; done) | contradiction | (simp only [sp_shut, c_1, if_true, if_false]; done))
set_option maxHeartbeats 4000000 in
set_option maxRecDepth 100000 in
theorem mt_wet (l : Launch) (G : mG) (st : mS) (r : Int32) (is : Int32)  (hR : 0 ≤ (st 0 1).toInt ∧ (st 0 1).toInt ≤ 16) (his : is = 0 ∨ is = 1) : Met l yX1_wet (ws_ yX1_wet cX1_wet 4 (some .int)) (mR 2) (mP G [.int r, .int is] st) (mQ G (some (.int (sp_wet st r is).1)) ((sp_wet st r is).2)) 0 0 (mA G) := by
  refine m_head (As := [.int r, .int is]) (bytes := cX1_wet) (maxL := 4) (ret := (some .int)) (by decide) rfl (Nat.le_of_ble_eq_true rfl) ?_
  intro p e s m below meth c E hml hr hlk hw ls hl
  have hx := E.1
  have hb := E.2.1
  have hts := E.2.2.1
  have hown := E.2.2.2.1
  have hl : lv_has ls 4 [(0, .ref G.1), (1, .int r), (2, .int is)] := hl
  have hRn := cnt_n hR.1
  have hRi := cnt_i hR.1
  refine lv_aload_n (pc := 0) hx hb dX1_wet_0 rfl (lv_at hl 0 rfl) ?_
  refine lv_iload_n (pc := 1) hx hb dX1_wet_1 rfl (lv_at hl 1 rfl) ?_
  refine m_cVi (pc := 2) (As := [.int r]) (rest := []) E hml hl.1 hw (mt_noRoad l G (st) r) q1240 q1242 qs22 q1243 hdX1_noRoad ⟨Nat.le_of_ble_eq_true rfl, Nat.le_of_ble_eq_true rfl⟩ rfl rfl rfl (Nat.le_of_ble_eq_true rfl) dX1_wet_2 (fun H locs hw => ?_)
  refine nb_eq (pc := 5) (tgt := 14) hx hb dX1_wet_5 (by decide) (fun c_1 => ?_) (fun c_1 => ?_)
  · refine lv_aload_n (pc := 14) hx hb dX1_wet_14 rfl (lv_at hl 0 rfl) ?_
    refine m_geta (pc := 15) E hw 5 (by decide) (by decide) q1097 dX1_wet_15 ?_
    refine lv_iload_n (pc := 18) hx hb dX1_wet_18 rfl (lv_at hl 1 rfl) ?_
    refine m_ald (pc := 19) E hw 5 (by decide) rfl (show vp_in r 16 from vp_in_iff.mpr ⟨by omega, by omega⟩) dX1_wet_19 ?_
    refine lv_iconst (pc := 20) (v := 2) hx hb dX1_wet_20 (by decide) ?_
    refine lv_icmp_eq (pc := 21) (tgt := 30) hx hb dX1_wet_21 (by decide) (fun c_2 => ?_) (fun c_2 => ?_)
    · refine lv_aload_n (pc := 30) hx hb dX1_wet_30 rfl (lv_at hl 0 rfl) ?_
      refine m_geta (pc := 31) E hw 7 (by decide) (by decide) q1099 dX1_wet_31 ?_
      refine lv_iload_n (pc := 34) hx hb dX1_wet_34 rfl (lv_at hl 1 rfl) ?_
      refine m_zld (pc := 35) E hw 7 (by decide) rfl (show vp_in r 16 from vp_in_iff.mpr ⟨by omega, by omega⟩) dX1_wet_35 ?_
      refine lv_iload_n (pc := 36) hx hb dX1_wet_36 rfl (lv_at hl 2 rfl) ?_
      refine lv_icmp_eq (pc := 37) (tgt := 44) hx hb dX1_wet_37 (by decide) (fun c_3 => ?_) (fun c_3 => ?_)
      · refine lv_iconst (pc := 44) (v := 0) hx hb dX1_wet_44 (by decide) ?_
        refine lv_istore_n (pc := 45) (lv' := [(3, .int 0), (0, .ref G.1), (1, .int r), (2, .int is)]) hx hb dX1_wet_45 rfl hl (by decide) rfl (fun ls hl => ?_)
        refine lv_aload_n (pc := 46) hx hb dX1_wet_46 rfl (lv_at hl 1 rfl) ?_
        refine m_geta (pc := 47) E hw 7 (by decide) (by decide) q1099 dX1_wet_47 ?_
        refine lv_iload_n (pc := 50) hx hb dX1_wet_50 rfl (lv_at hl 2 rfl) ?_
        refine lv_iload_n (pc := 51) hx hb dX1_wet_51 rfl (lv_at hl 3 rfl) ?_
        refine m_zst (pc := 52) (v := is) E hw 7 (by decide) rfl (show vp_in r 16 from vp_in_iff.mpr ⟨by omega, by omega⟩) (b01_nar his) dX1_wet_52 (fun H locs hw => ?_)
        refine lv_aload_n (pc := 53) hx hb dX1_wet_53 rfl (lv_at hl 1 rfl) ?_
        refine lv_iload_n (pc := 54) hx hb dX1_wet_54 rfl (lv_at hl 0 rfl) ?_
        refine lv_if_eq (pc := 55) (tgt := 62) hx hb dX1_wet_55 (by decide) (fun _ => ?_) (fun h_ => absurd h_ (by decide))
        refine lv_iconst (pc := 62) (v := 0) hx hb dX1_wet_62 (by decide) ?_
        refine m_cVi (pc := 63) (As := [.int 0]) (rest := []) E hml hl.1 hw (mt_refused l G (mu st 7 r.toNatClampNeg is) 0) q1248 q1250 qs23 q1251 hdX1_refused ⟨Nat.le_of_ble_eq_true rfl, Nat.le_of_ble_eq_true rfl⟩ rfl rfl rfl (Nat.le_of_ble_eq_true rfl) dX1_wet_63 (fun H locs hw => ?_)
        exact m_iret E hr hlk hw dX1_wet_66 (by first | (simp only [sp_wet, if_pos c_1, if_pos c_2, if_pos c_3]; done) | contradiction | (simp only [sp_wet, c_1, c_2, c_3, if_true, if_false]; done)) (by first | (simp only [sp_wet, if_pos c_1, if_pos c_2, if_pos c_3]; done) | contradiction | (simp only [sp_wet, c_1, c_2, c_3, if_true, if_false]; done))
      · refine lv_iconst (pc := 40) (v := 1) hx hb dX1_wet_40 (by decide) ?_
        refine lv_goto (pc := 41) (tgt := 45) hx hb dX1_wet_41 (by decide) ?_
        refine lv_istore_n (pc := 45) (lv' := [(3, .int 1), (0, .ref G.1), (1, .int r), (2, .int is)]) hx hb dX1_wet_45 rfl hl (by decide) rfl (fun ls hl => ?_)
        refine lv_aload_n (pc := 46) hx hb dX1_wet_46 rfl (lv_at hl 1 rfl) ?_
        refine m_geta (pc := 47) E hw 7 (by decide) (by decide) q1099 dX1_wet_47 ?_
        refine lv_iload_n (pc := 50) hx hb dX1_wet_50 rfl (lv_at hl 2 rfl) ?_
        refine lv_iload_n (pc := 51) hx hb dX1_wet_51 rfl (lv_at hl 3 rfl) ?_
        refine m_zst (pc := 52) (v := is) E hw 7 (by decide) rfl (show vp_in r 16 from vp_in_iff.mpr ⟨by omega, by omega⟩) (b01_nar his) dX1_wet_52 (fun H locs hw => ?_)
        refine lv_aload_n (pc := 53) hx hb dX1_wet_53 rfl (lv_at hl 1 rfl) ?_
        refine lv_iload_n (pc := 54) hx hb dX1_wet_54 rfl (lv_at hl 0 rfl) ?_
        refine lv_if_eq (pc := 55) (tgt := 62) hx hb dX1_wet_55 (by decide) (fun h_ => absurd h_ (by decide)) (fun _ => ?_)
        refine lv_iconst (pc := 58) (v := 1) hx hb dX1_wet_58 (by decide) ?_
        refine lv_goto (pc := 59) (tgt := 63) hx hb dX1_wet_59 (by decide) ?_
        refine m_cVi (pc := 63) (As := [.int 1]) (rest := []) E hml hl.1 hw (mt_refused l G (mu st 7 r.toNatClampNeg is) 1) q1248 q1250 qs23 q1251 hdX1_refused ⟨Nat.le_of_ble_eq_true rfl, Nat.le_of_ble_eq_true rfl⟩ rfl rfl rfl (Nat.le_of_ble_eq_true rfl) dX1_wet_63 (fun H locs hw => ?_)
        exact m_iret E hr hlk hw dX1_wet_66 (by first | (simp only [sp_wet, if_pos c_1, if_pos c_2, if_neg c_3]; done) | contradiction | (simp only [sp_wet, c_1, c_2, c_3, if_true, if_false]; done)) (by first | (simp only [sp_wet, if_pos c_1, if_pos c_2, if_neg c_3]; done) | contradiction | (simp only [sp_wet, c_1, c_2, c_3, if_true, if_false]; done))
    · refine lv_aload_n (pc := 24) hx hb dX1_wet_24 rfl (lv_at hl 0 rfl) ?_
      refine lv_iconst (pc := 25) (v := 2) hx hb dX1_wet_25 (by decide) ?_
      refine m_cVi (pc := 26) (As := [.int 2]) (rest := []) E hml hl.1 hw (mt_failed l G (st) 2 (-12) (by decide)) q1252 q1254 qs24 q1255 hdX1_failed ⟨Nat.le_of_ble_eq_true rfl, Nat.le_of_ble_eq_true rfl⟩ rfl rfl rfl (Nat.le_of_ble_eq_true rfl) dX1_wet_26 (fun H locs hw => ?_)
      exact m_iret E hr hlk hw dX1_wet_29 (by first | (simp only [sp_wet, if_pos c_1, if_neg c_2]; done) | contradiction | (simp only [sp_wet, c_1, c_2, if_true, if_false]; done)) (by first | (simp only [sp_wet, if_pos c_1, if_neg c_2]; done) | contradiction | (simp only [sp_wet, c_1, c_2, if_true, if_false]; done))
  · refine lv_aload_n (pc := 8) hx hb dX1_wet_8 rfl (lv_at hl 0 rfl) ?_
    refine lv_iconst (pc := 9) (v := (-1)) hx hb dX1_wet_9 (by decide) ?_
    refine m_cVi (pc := 10) (As := [.int (-1)]) (rest := []) E hml hl.1 hw (mt_refused l G (st) (-1)) q1248 q1250 qs23 q1251 hdX1_refused ⟨Nat.le_of_ble_eq_true rfl, Nat.le_of_ble_eq_true rfl⟩ rfl rfl rfl (Nat.le_of_ble_eq_true rfl) dX1_wet_10 (fun H locs hw => ?_)
    exact m_iret E hr hlk hw dX1_wet_13 (by first | (simp only [sp_wet, if_neg c_1]; done) | contradiction | (simp only [sp_wet, c_1, if_true, if_false]; done)) (by first | (simp only [sp_wet, if_neg c_1]; done) | contradiction | (simp only [sp_wet, c_1, if_true, if_false]; done))
set_option maxHeartbeats 4000000 in
set_option maxRecDepth 100000 in
theorem mt_leads (l : Launch) (G : mG) (st : mS) (r : Int32) (x : Int32)  (h16 : inB r 0 15) : Met l yX1_leads (ws_ yX1_leads cX1_leads 3 (some .int)) (mR 0) (mP G [.int r, .int x] st) (mQ G (some (.int (ldr st r.toNatClampNeg x))) (st)) 0 0 (mA G) := by
  refine m_head (As := [.int r, .int x]) (bytes := cX1_leads) (maxL := 3) (ret := (some .int)) (by decide) rfl (Nat.le_of_ble_eq_true rfl) ?_
  intro p e s m below meth c E hml hr hlk hw ls hl
  have hx := E.1
  have hb := E.2.1
  have hts := E.2.2.1
  have hown := E.2.2.2.1
  have hl : lv_has ls 3 [(0, .ref G.1), (1, .int r), (2, .int x)] := hl
  refine lv_aload_n (pc := 0) hx hb dX1_leads_0 rfl (lv_at hl 0 rfl) ?_
  refine m_geta (pc := 1) E hw 6 (by decide) (by decide) q1098 dX1_leads_1 ?_
  refine lv_iload_n (pc := 4) hx hb dX1_leads_4 rfl (lv_at hl 1 rfl) ?_
  refine m_zld (pc := 5) E hw 6 (by decide) rfl (show vp_in r 16 from vp_in_iff.mpr ⟨by omega, by omega⟩) dX1_leads_5 ?_
  refine li_ne (pc := 6) (tgt := 18) hx hb dX1_leads_6 (by decide) (fun c_1 => ?_) (fun c_1 => ?_)
  · refine lv_iconst (pc := 18) (v := (-1)) hx hb dX1_leads_18 (by decide) ?_
    exact m_iret E hr hlk hw dX1_leads_19 (by first | (simp only [ldr, if_neg c_1]; done) | contradiction | (simp only [ldr, c_1, if_true, if_false]; done)) rfl
  · refine lv_aload_n (pc := 9) hx hb dX1_leads_9 rfl (lv_at hl 0 rfl) ?_
    refine m_geta (pc := 10) E hw 7 (by decide) (by decide) q1099 dX1_leads_10 ?_
    refine lv_iload_n (pc := 13) hx hb dX1_leads_13 rfl (lv_at hl 1 rfl) ?_
    refine m_zld (pc := 14) E hw 7 (by decide) rfl (show vp_in r 16 from vp_in_iff.mpr ⟨by omega, by omega⟩) dX1_leads_14 ?_
    refine lv_if_eq (pc := 15) (tgt := 20) hx hb dX1_leads_15 (by decide) (fun c_2 => ?_) (fun c_2 => ?_)
    · refine lv_aload_n (pc := 20) hx hb dX1_leads_20 rfl (lv_at hl 0 rfl) ?_
      refine m_geta (pc := 21) E hw 2 (by decide) (by decide) q1094 dX1_leads_21 ?_
      refine lv_iload_n (pc := 24) hx hb dX1_leads_24 rfl (lv_at hl 1 rfl) ?_
      refine m_ald (pc := 25) E hw 2 (by decide) rfl (show vp_in r 16 from vp_in_iff.mpr ⟨by omega, by omega⟩) dX1_leads_25 ?_
      refine lv_iload_n (pc := 26) hx hb dX1_leads_26 rfl (lv_at hl 2 rfl) ?_
      refine li_icne (pc := 27) (tgt := 39) hx hb dX1_leads_27 (by decide) (fun c_3 => ?_) (fun c_3 => ?_)
      · refine lv_aload_n (pc := 39) hx hb dX1_leads_39 rfl (lv_at hl 0 rfl) ?_
        refine m_geta (pc := 40) E hw 3 (by decide) (by decide) q1095 dX1_leads_40 ?_
        refine lv_iload_n (pc := 43) hx hb dX1_leads_43 rfl (lv_at hl 1 rfl) ?_
        refine m_ald (pc := 44) E hw 3 (by decide) rfl (show vp_in r 16 from vp_in_iff.mpr ⟨by omega, by omega⟩) dX1_leads_44 ?_
        refine lv_iload_n (pc := 45) hx hb dX1_leads_45 rfl (lv_at hl 2 rfl) ?_
        refine li_icne (pc := 46) (tgt := 68) hx hb dX1_leads_46 (by decide) (fun c_4 => ?_) (fun c_4 => ?_)
        · refine lv_iconst (pc := 68) (v := (-1)) hx hb dX1_leads_68 (by decide) ?_
          exact m_iret E hr hlk hw dX1_leads_69 (by first | (simp only [ldr, if_pos c_1, if_pos c_2, if_neg c_3, if_neg c_4]; done) | contradiction | (simp only [ldr, c_1, c_2, c_3, c_4, if_true, if_false]; done)) rfl
        · refine lv_aload_n (pc := 49) hx hb dX1_leads_49 rfl (lv_at hl 0 rfl) ?_
          refine m_geta (pc := 50) E hw 5 (by decide) (by decide) q1097 dX1_leads_50 ?_
          refine lv_iload_n (pc := 53) hx hb dX1_leads_53 rfl (lv_at hl 1 rfl) ?_
          refine m_ald (pc := 54) E hw 5 (by decide) rfl (show vp_in r 16 from vp_in_iff.mpr ⟨by omega, by omega⟩) dX1_leads_54 ?_
          refine lv_iconst (pc := 55) (v := 1) hx hb dX1_leads_55 (by decide) ?_
          refine lv_icmp_eq (pc := 56) (tgt := 68) hx hb dX1_leads_56 (by decide) (fun c_5 => ?_) (fun c_5 => ?_)
          · refine lv_iconst (pc := 68) (v := (-1)) hx hb dX1_leads_68 (by decide) ?_
            exact m_iret E hr hlk hw dX1_leads_69 (by first | (simp only [ldr, if_pos c_1, if_pos c_2, if_neg c_3, if_pos c_4, if_pos c_5]; done) | contradiction | (simp only [ldr, c_1, c_2, c_3, c_4, c_5, if_true, if_false]; done)) rfl
          · refine lv_aload_n (pc := 59) hx hb dX1_leads_59 rfl (lv_at hl 0 rfl) ?_
            refine m_geta (pc := 60) E hw 2 (by decide) (by decide) q1094 dX1_leads_60 ?_
            refine lv_iload_n (pc := 63) hx hb dX1_leads_63 rfl (lv_at hl 1 rfl) ?_
            refine m_ald (pc := 64) E hw 2 (by decide) rfl (show vp_in r 16 from vp_in_iff.mpr ⟨by omega, by omega⟩) dX1_leads_64 ?_
            refine lv_goto (pc := 65) (tgt := 69) hx hb dX1_leads_65 (by decide) ?_
            exact m_iret E hr hlk hw dX1_leads_69 (by first | (simp only [ldr, if_pos c_1, if_pos c_2, if_neg c_3, if_pos c_4, if_neg c_5]; done) | contradiction | (simp only [ldr, c_1, c_2, c_3, c_4, c_5, if_true, if_false]; done)) rfl
      · refine lv_aload_n (pc := 30) hx hb dX1_leads_30 rfl (lv_at hl 0 rfl) ?_
        refine m_geta (pc := 31) E hw 3 (by decide) (by decide) q1095 dX1_leads_31 ?_
        refine lv_iload_n (pc := 34) hx hb dX1_leads_34 rfl (lv_at hl 1 rfl) ?_
        refine m_ald (pc := 35) E hw 3 (by decide) rfl (show vp_in r 16 from vp_in_iff.mpr ⟨by omega, by omega⟩) dX1_leads_35 ?_
        refine lv_goto (pc := 36) (tgt := 69) hx hb dX1_leads_36 (by decide) ?_
        exact m_iret E hr hlk hw dX1_leads_69 (by first | (simp only [ldr, if_pos c_1, if_pos c_2, if_pos c_3]; done) | contradiction | (simp only [ldr, c_1, c_2, c_3, if_true, if_false]; done)) rfl
    · refine lv_iconst (pc := 18) (v := (-1)) hx hb dX1_leads_18 (by decide) ?_
      exact m_iret E hr hlk hw dX1_leads_19 (by first | (simp only [ldr, if_pos c_1, if_neg c_2]; done) | contradiction | (simp only [ldr, c_1, c_2, if_true, if_false]; done)) rfl
set_option maxHeartbeats 4000000 in
set_option maxRecDepth 100000 in
theorem mt_about (l : Launch) (G : mG) (st : mS) (r : Int32) (x : Int32)  (hR : 0 ≤ (st 0 1).toInt ∧ (st 0 1).toInt ≤ 16) (hL : 0 ≤ (st 0 24).toInt ∧ (st 0 24).toInt ≤ 10) : Met l yX1_about (ws_ yX1_about cX1_about 4 (some .int)) (mR 2) (mP G [.int r, .int x] st) (mQ G (some (.int (sp_about st r x))) (st)) 0 0 (mA G) := by
  refine m_head (As := [.int r, .int x]) (bytes := cX1_about) (maxL := 4) (ret := (some .int)) (by decide) rfl (Nat.le_of_ble_eq_true rfl) ?_
  intro p e s m below meth c E hml hr hlk hw ls hl
  have hx := E.1
  have hb := E.2.1
  have hts := E.2.2.1
  have hown := E.2.2.2.1
  have hl : lv_has ls 4 [(0, .ref G.1), (1, .int r), (2, .int x)] := hl
  have hRn := cnt_n hR.1
  have hRi := cnt_i hR.1
  have hLn := cnt_n hL.1
  have hLi := cnt_i hL.1
  refine lv_aload_n (pc := 0) hx hb dX1_about_0 rfl (lv_at hl 0 rfl) ?_
  refine lv_iload_n (pc := 1) hx hb dX1_about_1 rfl (lv_at hl 1 rfl) ?_
  refine m_cVi (pc := 2) (As := [.int r]) (rest := []) E hml hl.1 hw (mt_noRoad l G (st) r) q1240 q1242 qs22 q1243 hdX1_noRoad ⟨Nat.le_of_ble_eq_true rfl, Nat.le_of_ble_eq_true rfl⟩ rfl rfl rfl (Nat.le_of_ble_eq_true rfl) dX1_about_2 (fun H locs hw => ?_)
  refine nb_eq (pc := 5) (tgt := 10) hx hb dX1_about_5 (by decide) (fun c_1 => ?_) (fun c_1 => ?_)
  · refine lv_iload_n (pc := 10) hx hb dX1_about_10 rfl (lv_at hl 2 rfl) ?_
    by_cases t_2 : x = 0
    · refine lv_tableIn (pc := 11) (off := 37) (tgt := 48) hx hb dX1_about_11 (by rw [t_2]; decide) (by rw [t_2]; decide) (by rw [t_2]; rfl) (by decide) ?_
      refine lv_aload_n (pc := 48) hx hb dX1_about_48 rfl (lv_at hl 0 rfl) ?_
      refine m_geta (pc := 49) E hw 2 (by decide) (by decide) q1094 dX1_about_49 ?_
      refine lv_iload_n (pc := 52) hx hb dX1_about_52 rfl (lv_at hl 1 rfl) ?_
      refine m_ald (pc := 53) E hw 2 (by decide) rfl (show vp_in r 16 from vp_in_iff.mpr ⟨by omega, by omega⟩) dX1_about_53 ?_
      exact m_iret E hr hlk hw dX1_about_54 (by first | (simp only [sp_about, if_pos c_1, if_pos t_2]; done) | contradiction | (simp only [sp_about, c_1, t_2, if_true, if_false]; done)) rfl
    by_cases t_3 : x = 1
    · refine lv_tableIn (pc := 11) (off := 44) (tgt := 55) hx hb dX1_about_11 (by rw [t_3]; decide) (by rw [t_3]; decide) (by rw [t_3]; rfl) (by decide) ?_
      refine lv_aload_n (pc := 55) hx hb dX1_about_55 rfl (lv_at hl 0 rfl) ?_
      refine m_geta (pc := 56) E hw 3 (by decide) (by decide) q1095 dX1_about_56 ?_
      refine lv_iload_n (pc := 59) hx hb dX1_about_59 rfl (lv_at hl 1 rfl) ?_
      refine m_ald (pc := 60) E hw 3 (by decide) rfl (show vp_in r 16 from vp_in_iff.mpr ⟨by omega, by omega⟩) dX1_about_60 ?_
      exact m_iret E hr hlk hw dX1_about_61 (by first | (simp only [sp_about, if_pos c_1, if_neg t_2, if_pos t_3]; done) | contradiction | (simp only [sp_about, c_1, t_2, t_3, if_true, if_false]; done)) rfl
    by_cases t_4 : x = 2
    · refine lv_tableIn (pc := 11) (off := 51) (tgt := 62) hx hb dX1_about_11 (by rw [t_4]; decide) (by rw [t_4]; decide) (by rw [t_4]; rfl) (by decide) ?_
      refine lv_aload_n (pc := 62) hx hb dX1_about_62 rfl (lv_at hl 0 rfl) ?_
      refine m_geta (pc := 63) E hw 4 (by decide) (by decide) q1096 dX1_about_63 ?_
      refine lv_iload_n (pc := 66) hx hb dX1_about_66 rfl (lv_at hl 1 rfl) ?_
      refine m_ald (pc := 67) E hw 4 (by decide) rfl (show vp_in r 16 from vp_in_iff.mpr ⟨by omega, by omega⟩) dX1_about_67 ?_
      exact m_iret E hr hlk hw dX1_about_68 (by first | (simp only [sp_about, if_pos c_1, if_neg t_2, if_neg t_3, if_pos t_4]; done) | contradiction | (simp only [sp_about, c_1, t_2, t_3, t_4, if_true, if_false]; done)) rfl
    by_cases t_5 : x = 3
    · refine lv_tableIn (pc := 11) (off := 58) (tgt := 69) hx hb dX1_about_11 (by rw [t_5]; decide) (by rw [t_5]; decide) (by rw [t_5]; rfl) (by decide) ?_
      refine lv_aload_n (pc := 69) hx hb dX1_about_69 rfl (lv_at hl 0 rfl) ?_
      refine m_geta (pc := 70) E hw 5 (by decide) (by decide) q1097 dX1_about_70 ?_
      refine lv_iload_n (pc := 73) hx hb dX1_about_73 rfl (lv_at hl 1 rfl) ?_
      refine m_ald (pc := 74) E hw 5 (by decide) rfl (show vp_in r 16 from vp_in_iff.mpr ⟨by omega, by omega⟩) dX1_about_74 ?_
      exact m_iret E hr hlk hw dX1_about_75 (by first | (simp only [sp_about, if_pos c_1, if_neg t_2, if_neg t_3, if_neg t_4, if_pos t_5]; done) | contradiction | (simp only [sp_about, c_1, t_2, t_3, t_4, t_5, if_true, if_false]; done)) rfl
    by_cases t_6 : x = 4
    · refine lv_tableIn (pc := 11) (off := 65) (tgt := 76) hx hb dX1_about_11 (by rw [t_6]; decide) (by rw [t_6]; decide) (by rw [t_6]; rfl) (by decide) ?_
      refine lv_aload_n (pc := 76) hx hb dX1_about_76 rfl (lv_at hl 0 rfl) ?_
      refine m_geta (pc := 77) E hw 6 (by decide) (by decide) q1098 dX1_about_77 ?_
      refine lv_iload_n (pc := 80) hx hb dX1_about_80 rfl (lv_at hl 1 rfl) ?_
      refine m_zld (pc := 81) E hw 6 (by decide) rfl (show vp_in r 16 from vp_in_iff.mpr ⟨by omega, by omega⟩) dX1_about_81 ?_
      refine li_ne (pc := 82) (tgt := 94) hx hb dX1_about_82 (by decide) (fun c_7 => ?_) (fun c_7 => ?_)
      · refine lv_iconst (pc := 94) (v := 1) hx hb dX1_about_94 (by decide) ?_
        refine lv_goto (pc := 95) (tgt := 99) hx hb dX1_about_95 (by decide) ?_
        exact m_iret E hr hlk hw dX1_about_99 (by first | (simp only [sp_about, if_pos c_1, if_neg t_2, if_neg t_3, if_neg t_4, if_neg t_5, if_pos t_6, if_neg c_7]; done) | contradiction | (simp only [sp_about, c_1, t_2, t_3, t_4, t_5, t_6, c_7, if_true, if_false]; done)) rfl
      · refine lv_aload_n (pc := 85) hx hb dX1_about_85 rfl (lv_at hl 0 rfl) ?_
        refine m_geta (pc := 86) E hw 7 (by decide) (by decide) q1099 dX1_about_86 ?_
        refine lv_iload_n (pc := 89) hx hb dX1_about_89 rfl (lv_at hl 1 rfl) ?_
        refine m_zld (pc := 90) E hw 7 (by decide) rfl (show vp_in r 16 from vp_in_iff.mpr ⟨by omega, by omega⟩) dX1_about_90 ?_
        refine lv_if_eq (pc := 91) (tgt := 98) hx hb dX1_about_91 (by decide) (fun c_8 => ?_) (fun c_8 => ?_)
        · refine lv_iconst (pc := 98) (v := 0) hx hb dX1_about_98 (by decide) ?_
          exact m_iret E hr hlk hw dX1_about_99 (by first | (simp only [sp_about, if_pos c_1, if_neg t_2, if_neg t_3, if_neg t_4, if_neg t_5, if_pos t_6, if_pos c_7, if_pos c_8]; done) | contradiction | (simp only [sp_about, c_1, t_2, t_3, t_4, t_5, t_6, c_7, c_8, if_true, if_false]; done)) rfl
        · refine lv_iconst (pc := 94) (v := 1) hx hb dX1_about_94 (by decide) ?_
          refine lv_goto (pc := 95) (tgt := 99) hx hb dX1_about_95 (by decide) ?_
          exact m_iret E hr hlk hw dX1_about_99 (by first | (simp only [sp_about, if_pos c_1, if_neg t_2, if_neg t_3, if_neg t_4, if_neg t_5, if_pos t_6, if_pos c_7, if_neg c_8]; done) | contradiction | (simp only [sp_about, c_1, t_2, t_3, t_4, t_5, t_6, c_7, c_8, if_true, if_false]; done)) rfl
    by_cases t_9 : x = 5
    · refine lv_tableIn (pc := 11) (off := 89) (tgt := 100) hx hb dX1_about_11 (by rw [t_9]; decide) (by rw [t_9]; decide) (by rw [t_9]; rfl) (by decide) ?_
      refine lv_iconst (pc := 100) (v := 0) hx hb dX1_about_100 (by decide) ?_
      refine lv_istore_n (pc := 101) (lv' := [(3, .int 0), (0, .ref G.1), (1, .int r), (2, .int x)]) hx hb dX1_about_101 rfl hl (by decide) rfl (fun ls hl => ?_)
      have loop : ∀ (n : Nat) (i : Nat), i + n = cnt st 24 → ∀ (H : Heap) (locs : List Loc), mWd G s.heap st H locs → ∀ ls : Array Slot, lv_has ls 4 [(0, .ref G.1), (1, .int r), (3, .int (nI i))] → W p l e (mR 2) s m (Value.ref G.1 :: [.int r, .int x] : List Value).toArray below meth c H locs 0 0 (MQ below (mQ G (some (.int (lat st r n i))) (st)) (Value.ref G.1 :: [.int r, .int x] : List Value).toArray s 0 0 (mA G)) (F0 m 102 ls []) := by
        intro n
        induction n with
        | zero =>
          intro i hi H locs hw ls hl
          refine lv_iload_n (pc := 102) hx hb dX1_about_102 rfl (lv_at hl 2 rfl) ?_
          refine lv_aload_n (pc := 103) hx hb dX1_about_103 rfl (lv_at hl 0 rfl) ?_
          refine m_getv (pc := 104) (v := (nI (cnt st 24))) E hw 24 (by decide) rfl hLn q1116 dX1_about_104 ?_
          refine li_icmp_geN (pc := 107) (a := i) (b := cnt st 24) (tgt := 128) hx hb (by omega) (by omega) dX1_about_107 (by decide) (fun c_10 => ?_) (fun c_10 => absurd c_10 (by omega))
          refine lv_bipush (pc := 128) (v := (-9)) hx hb dX1_about_128 (by decide) ?_
          exact m_iret E hr hlk hw dX1_about_130 (by simp only [lat]) rfl
        | succ n ih_loop =>
          intro i hi H locs hw ls hl
          refine lv_iload_n (pc := 102) hx hb dX1_about_102 rfl (lv_at hl 2 rfl) ?_
          refine lv_aload_n (pc := 103) hx hb dX1_about_103 rfl (lv_at hl 0 rfl) ?_
          refine m_getv (pc := 104) (v := (nI (cnt st 24))) E hw 24 (by decide) rfl hLn q1116 dX1_about_104 ?_
          refine li_icmp_geN (pc := 107) (a := i) (b := cnt st 24) (tgt := 128) hx hb (by omega) (by omega) dX1_about_107 (by decide) (fun c_11 => absurd c_11 (by omega)) (fun c_11 => ?_)
          refine lv_aload_n (pc := 110) hx hb dX1_about_110 rfl (lv_at hl 0 rfl) ?_
          refine m_geta (pc := 111) E hw 26 (by decide) (by decide) q1118 dX1_about_111 ?_
          refine lv_iload_n (pc := 114) hx hb dX1_about_114 rfl (lv_at hl 2 rfl) ?_
          refine m_aldN (pc := 115) (v := (st 26 i)) E hw 26 (i) (by decide) rfl (show i < 10 from (by omega)) (by decide) rfl dX1_about_115 ?_
          refine lv_iload_n (pc := 116) hx hb dX1_about_116 rfl (lv_at hl 1 rfl) ?_
          refine li_icne (pc := 117) (tgt := 122) hx hb dX1_about_117 (by decide) (fun c_12 => ?_) (fun c_12 => ?_)
          · refine lv_iinc (pc := 122) (v := (nI (i + 1))) (lv' := [(3, .int (nI (i + 1))), (0, .ref G.1), (1, .int r)]) hx hb dX1_about_122 hl (k := 2) rfl (nI_1 _) (by decide) rfl (fun ls hl => ?_)
            refine lv_goto (pc := 125) (tgt := 102) hx hb dX1_about_125 (by decide) ?_
            exact m_to (by simp only [lat, if_pos c_11, if_neg c_12]) rfl (ih_loop (i + 1) (by omega) _ _ hw _ (lv_sub hl [1, 2, 0] rfl))
          · refine lv_iload_n (pc := 120) hx hb dX1_about_120 rfl (lv_at hl 2 rfl) ?_
            exact m_iret E hr hlk hw dX1_about_121 (by simp only [lat, if_pos c_12]) rfl
      exact m_to (by simp only [sp_about, if_pos c_1, if_neg t_2, if_neg t_3, if_neg t_4, if_neg t_5, if_neg t_6, if_pos t_9]) rfl (loop (cnt st 24) 0 (by omega) _ _ hw _ (lv_sub hl [1, 2, 0] rfl))
    have t_13 : x.toInt < 0 ∨ 5 < x.toInt := by
      have n0_ : ¬ x.toInt = 0 := lv_neT t_2 (by decide)
      have n1_ : ¬ x.toInt = 1 := lv_neT t_3 (by decide)
      have n2_ : ¬ x.toInt = 2 := lv_neT t_4 (by decide)
      have n3_ : ¬ x.toInt = 3 := lv_neT t_5 (by decide)
      have n4_ : ¬ x.toInt = 4 := lv_neT t_6 (by decide)
      have n5_ : ¬ x.toInt = 5 := lv_neT t_9 (by decide)
      omega
    refine lv_tableOut (pc := 11) (tgt := 131) hx hb dX1_about_11 t_13 (by decide) ?_
    refine lv_bipush (pc := 131) (v := (-2)) hx hb dX1_about_131 (by decide) ?_
    exact m_iret E hr hlk hw dX1_about_133 (by first | (simp only [sp_about, if_pos c_1, if_neg t_2, if_neg t_3, if_neg t_4, if_neg t_5, if_neg t_6, if_neg t_9]; done) | contradiction | (simp only [sp_about, c_1, t_2, t_3, t_4, t_5, t_6, t_9, if_true, if_false]; done)) rfl
  · refine lv_iconst (pc := 8) (v := (-1)) hx hb dX1_about_8 (by decide) ?_
    exact m_iret E hr hlk hw dX1_about_9 (by first | (simp only [sp_about, if_neg c_1]; done) | contradiction | (simp only [sp_about, c_1, if_true, if_false]; done)) rfl
set_option maxHeartbeats 4000000 in
set_option maxRecDepth 100000 in
theorem mt_sheet (l : Launch) (G : mG) (st : mS) (k : Int32) (x : Int32) (n : Int32)   : Met l yX1_sheet (ws_ yX1_sheet cX1_sheet 5 (some .int)) (mR 2) (mP G [.int k, .int x, .int n] st) (mQ G (some (.int (sp_sheet st k x n).1)) ((sp_sheet st k x n).2)) 0 0 (mA G) := by
  refine m_head (As := [.int k, .int x, .int n]) (bytes := cX1_sheet) (maxL := 5) (ret := (some .int)) (by decide) rfl (Nat.le_of_ble_eq_true rfl) ?_
  intro p e s m below meth c E hml hr hlk hw ls hl
  have hx := E.1
  have hb := E.2.1
  have hts := E.2.2.1
  have hown := E.2.2.2.1
  have hl : lv_has ls 5 [(0, .ref G.1), (1, .int k), (2, .int x), (3, .int n)] := hl
  refine lv_iload_n (pc := 0) hx hb dX1_sheet_0 rfl (lv_at hl 1 rfl) ?_
  refine m_cS (pc := 1) (As := [.int k]) (rest := []) E hml hl.1 (mt_noSheet l k) q1264 q1265 q1266 hdX1_noSheet ⟨Nat.le_of_ble_eq_true rfl, Nat.le_of_ble_eq_true rfl⟩ rfl rfl rfl (Nat.le_of_ble_eq_true rfl) dX1_sheet_1 ?_
  refine nb_eq (pc := 4) (tgt := 13) hx hb dX1_sheet_4 (by decide) (fun c_1 => ?_) (fun c_1 => ?_)
  · refine lv_iload_n (pc := 13) hx hb dX1_sheet_13 rfl (lv_at hl 2 rfl) ?_
    refine lv_i2l (pc := 14) (v := x.toInt64) hx hb dX1_sheet_14 rfl ?_
    refine lv_lconst (pc := 15) (v := 0) hx hb dX1_sheet_15 (by decide) ?_
    refine lv_ldc2 (pc := 16) hx hb hown (hts _ q1235) dX1_sheet_16 ?_
    refine m_cS (pc := 19) (As := [.long x.toInt64, .long 0, .long 2]) (rest := []) E hml hl.1 (mt_inB l x 0 2 0 2 rfl rfl) q1231 q1232 q1233 hdX1_in ⟨Nat.le_of_ble_eq_true rfl, Nat.le_of_ble_eq_true rfl⟩ rfl rfl rfl (Nat.le_of_ble_eq_true rfl) dX1_sheet_19 ?_
    refine lb_eq (pc := 22) (tgt := 31) hx hb dX1_sheet_22 (by decide) (fun c_2 => ?_) (fun c_2 => ?_)
    · refine lv_aload_n (pc := 31) hx hb dX1_sheet_31 rfl (lv_at hl 0 rfl) ?_
      refine lv_bipush (pc := 32) (v := (-2)) hx hb dX1_sheet_32 (by decide) ?_
      refine m_cVi (pc := 34) (As := [.int (-2)]) (rest := []) E hml hl.1 hw (mt_refused l G (st) (-2)) q1248 q1250 qs23 q1251 hdX1_refused ⟨Nat.le_of_ble_eq_true rfl, Nat.le_of_ble_eq_true rfl⟩ rfl rfl rfl (Nat.le_of_ble_eq_true rfl) dX1_sheet_34 (fun H locs hw => ?_)
      exact m_iret E hr hlk hw dX1_sheet_37 (by first | (simp only [sp_sheet, if_pos c_1, if_neg c_2]; done) | contradiction | (simp only [sp_sheet, c_1, c_2, if_true, if_false]; done)) (by first | (simp only [sp_sheet, if_pos c_1, if_neg c_2]; done) | contradiction | (simp only [sp_sheet, c_1, c_2, if_true, if_false]; done))
    · refine lv_iload_n (pc := 25) hx hb dX1_sheet_25 rfl (lv_at hl 3 rfl) ?_
      refine lv_bipush (pc := 26) (v := 32) hx hb dX1_sheet_26 (by decide) ?_
      refine li_icmp_leL (pc := 28) (Y := 32) (tgt := 38) hx hb rfl dX1_sheet_28 (by decide) (fun c_3 => ?_) (fun c_3 => ?_)
      · refine lv_iload_n (pc := 38) hx hb dX1_sheet_38 rfl (lv_at hl 3 rfl) ?_
        refine li_if_ge (pc := 39) (tgt := 48) hx hb dX1_sheet_39 (by decide) (fun c_4 => ?_) (fun c_4 => ?_)
        · have hkn := clamp_n (x := k) c_1.1
          have hki := clamp_i (x := k) c_1.1
          have hnn := clamp_n (x := n) (by omega)
          have hni := clamp_i (x := n) (by omega)
          refine lv_aload_n (pc := 48) hx hb dX1_sheet_48 rfl (lv_at hl 0 rfl) ?_
          refine m_geta (pc := 49) E hw 8 (by decide) (by decide) q1100 dX1_sheet_49 ?_
          refine lv_iload_n (pc := 52) hx hb dX1_sheet_52 rfl (lv_at hl 1 rfl) ?_
          refine lv_iload_n (pc := 53) hx hb dX1_sheet_53 rfl (lv_at hl 3 rfl) ?_
          refine m_ast (pc := 54) (v := n) E hw 8 (by decide) rfl (show vp_in k 4 from vp_in_iff.mpr ⟨by omega, by omega⟩) dX1_sheet_54 (fun H locs hw => ?_)
          refine lv_aload_n (pc := 55) hx hb dX1_sheet_55 rfl (lv_at hl 0 rfl) ?_
          refine m_geta (pc := 56) E hw 9 (by decide) (by decide) q1101 dX1_sheet_56 ?_
          refine lv_iload_n (pc := 59) hx hb dX1_sheet_59 rfl (lv_at hl 1 rfl) ?_
          refine lv_iload_n (pc := 60) hx hb dX1_sheet_60 rfl (lv_at hl 2 rfl) ?_
          refine m_ast (pc := 61) (v := x) E hw 9 (by decide) rfl (show vp_in k 4 from vp_in_iff.mpr ⟨by omega, by omega⟩) dX1_sheet_61 (fun H locs hw => ?_)
          refine lv_iconst (pc := 62) (v := 0) hx hb dX1_sheet_62 (by decide) ?_
          refine lv_istore (pc := 63) (lv' := [(4, .int 0), (0, .ref G.1), (1, .int k), (2, .int x), (3, .int n)]) hx hb dX1_sheet_63 hl (by decide) rfl (fun ls hl => ?_)
          have loop : ∀ (n_ : Nat) (i : Nat) (su : mS), i + n_ = n.toNatClampNeg → ∀ (H : Heap) (locs : List Loc), mWd G s.heap su H locs → ∀ ls : Array Slot, lv_has ls 5 [(0, .ref G.1), (1, .int k), (3, .int n), (4, .int (nI i))] → W p l e (mR 2) s m (Value.ref G.1 :: [.int k, .int x, .int n] : List Value).toArray below meth c H locs 0 0 (MQ below (mQ G (some (.int 1)) (mu (zr (32 * k.toNatClampNeg) n_ i su) 0 0 0)) (Value.ref G.1 :: [.int k, .int x, .int n] : List Value).toArray s 0 0 (mA G)) (F0 m 65 ls []) := by
            intro n_
            induction n_ with
            | zero =>
              intro i su hi H locs hw ls hl
              refine lv_iload (pc := 65) hx hb dX1_sheet_65 (lv_at hl 3 rfl) ?_
              refine lv_iload_n (pc := 67) hx hb dX1_sheet_67 rfl (lv_at hl 2 rfl) ?_
              refine li_top (v' := .int (nI n.toNatClampNeg)) (congrArg Value.int hnn) ?_
              refine li_icmp_geN (pc := 68) (a := i) (b := n.toNatClampNeg) (tgt := 90) hx hb (by omega) (by omega) dX1_sheet_68 (by decide) (fun c_5 => ?_) (fun c_5 => absurd c_5 (by omega))
              refine lv_aload_n (pc := 90) hx hb dX1_sheet_90 rfl (lv_at hl 0 rfl) ?_
              refine lv_iconst (pc := 91) (v := 1) hx hb dX1_sheet_91 (by decide) ?_
              refine m_cVi (pc := 92) (As := [.int 1]) (rest := []) E hml hl.1 hw (mt_refused l G (su) 1) q1248 q1250 qs23 q1251 hdX1_refused ⟨Nat.le_of_ble_eq_true rfl, Nat.le_of_ble_eq_true rfl⟩ rfl rfl rfl (Nat.le_of_ble_eq_true rfl) dX1_sheet_92 (fun H locs hw => ?_)
              exact m_iret E hr hlk hw dX1_sheet_95 rfl (by simp only [zr])
            | succ n_ ih_loop =>
              intro i su hi H locs hw ls hl
              refine lv_iload (pc := 65) hx hb dX1_sheet_65 (lv_at hl 3 rfl) ?_
              refine lv_iload_n (pc := 67) hx hb dX1_sheet_67 rfl (lv_at hl 2 rfl) ?_
              refine li_top (v' := .int (nI n.toNatClampNeg)) (congrArg Value.int hnn) ?_
              refine li_icmp_geN (pc := 68) (a := i) (b := n.toNatClampNeg) (tgt := 90) hx hb (by omega) (by omega) dX1_sheet_68 (by decide) (fun c_6 => absurd c_6 (by omega)) (fun c_6 => ?_)
              refine lv_aload_n (pc := 71) hx hb dX1_sheet_71 rfl (lv_at hl 0 rfl) ?_
              refine m_geta (pc := 72) E hw 10 (by decide) (by decide) q1102 dX1_sheet_72 ?_
              refine lv_bipush (pc := 75) (v := 32) hx hb dX1_sheet_75 (by decide) ?_
              refine lv_iload_n (pc := 77) hx hb dX1_sheet_77 rfl (lv_at hl 1 rfl) ?_
              refine li_top (v' := .int (nI k.toNatClampNeg)) (congrArg Value.int hkn) ?_
              refine li_mulN (pc := 78) (a := 32) (b := k.toNatClampNeg) hx hb dX1_sheet_78 ?_
              refine lv_iload (pc := 79) hx hb dX1_sheet_79 (lv_at hl 3 rfl) ?_
              refine li_addN (pc := 81) (a := 32 * k.toNatClampNeg) (b := i) hx hb dX1_sheet_81 ?_
              refine lv_iconst (pc := 82) (v := 0) hx hb dX1_sheet_82 (by decide) ?_
              refine m_astN (pc := 83) (v := 0) E hw 10 ((32 * k.toNatClampNeg) + i) (by decide) rfl (show (32 * k.toNatClampNeg) + i < 128 from (by omega)) (by decide) dX1_sheet_83 (fun H locs hw => ?_)
              refine lv_iinc (pc := 84) (v := (nI (i + 1))) (lv' := [(4, .int (nI (i + 1))), (0, .ref G.1), (1, .int k), (3, .int n)]) hx hb dX1_sheet_84 hl (k := 3) rfl (nI_1 _) (by decide) rfl (fun ls hl => ?_)
              refine lv_goto (pc := 87) (tgt := 65) hx hb dX1_sheet_87 (by decide) ?_
              exact m_to rfl (by simp only [zr]) (ih_loop (i + 1) (mu su 10 ((32 * k.toNatClampNeg) + i) 0) (by omega) _ _ hw _ (lv_sub hl [1, 2, 3, 0] rfl))
          exact m_to (by simp only [sp_sheet, if_pos c_1, if_pos c_2, if_neg c_3, if_neg c_4]) (by simp only [sp_sheet, if_pos c_1, if_pos c_2, if_neg c_3, if_neg c_4]) (loop n.toNatClampNeg 0 (mu (mu st 8 k.toNatClampNeg n) 9 k.toNatClampNeg x) (by omega) _ _ hw _ (lv_sub hl [1, 2, 4, 0] rfl))
        · refine lv_aload_n (pc := 42) hx hb dX1_sheet_42 rfl (lv_at hl 0 rfl) ?_
          refine lv_iconst (pc := 43) (v := 4) hx hb dX1_sheet_43 (by decide) ?_
          refine m_cVi (pc := 44) (As := [.int 4]) (rest := []) E hml hl.1 hw (mt_failed l G (st) 4 (-14) (by decide)) q1252 q1254 qs24 q1255 hdX1_failed ⟨Nat.le_of_ble_eq_true rfl, Nat.le_of_ble_eq_true rfl⟩ rfl rfl rfl (Nat.le_of_ble_eq_true rfl) dX1_sheet_44 (fun H locs hw => ?_)
          exact m_iret E hr hlk hw dX1_sheet_47 (by first | (simp only [sp_sheet, if_pos c_1, if_pos c_2, if_neg c_3, if_pos c_4]; done) | contradiction | (simp only [sp_sheet, c_1, c_2, c_3, c_4, if_true, if_false]; done)) (by first | (simp only [sp_sheet, if_pos c_1, if_pos c_2, if_neg c_3, if_pos c_4]; done) | contradiction | (simp only [sp_sheet, c_1, c_2, c_3, c_4, if_true, if_false]; done))
      · refine lv_aload_n (pc := 31) hx hb dX1_sheet_31 rfl (lv_at hl 0 rfl) ?_
        refine lv_bipush (pc := 32) (v := (-2)) hx hb dX1_sheet_32 (by decide) ?_
        refine m_cVi (pc := 34) (As := [.int (-2)]) (rest := []) E hml hl.1 hw (mt_refused l G (st) (-2)) q1248 q1250 qs23 q1251 hdX1_refused ⟨Nat.le_of_ble_eq_true rfl, Nat.le_of_ble_eq_true rfl⟩ rfl rfl rfl (Nat.le_of_ble_eq_true rfl) dX1_sheet_34 (fun H locs hw => ?_)
        exact m_iret E hr hlk hw dX1_sheet_37 (by first | (simp only [sp_sheet, if_pos c_1, if_pos c_2, if_pos c_3]; done) | contradiction | (simp only [sp_sheet, c_1, c_2, c_3, if_true, if_false]; done)) (by first | (simp only [sp_sheet, if_pos c_1, if_pos c_2, if_pos c_3]; done) | contradiction | (simp only [sp_sheet, c_1, c_2, c_3, if_true, if_false]; done))
  · refine lv_aload_n (pc := 7) hx hb dX1_sheet_7 rfl (lv_at hl 0 rfl) ?_
    refine lv_iconst (pc := 8) (v := (-1)) hx hb dX1_sheet_8 (by decide) ?_
    refine m_cVi (pc := 9) (As := [.int (-1)]) (rest := []) E hml hl.1 hw (mt_refused l G (st) (-1)) q1248 q1250 qs23 q1251 hdX1_refused ⟨Nat.le_of_ble_eq_true rfl, Nat.le_of_ble_eq_true rfl⟩ rfl rfl rfl (Nat.le_of_ble_eq_true rfl) dX1_sheet_9 (fun H locs hw => ?_)
    exact m_iret E hr hlk hw dX1_sheet_12 (by first | (simp only [sp_sheet, if_neg c_1]; done) | contradiction | (simp only [sp_sheet, c_1, if_true, if_false]; done)) (by first | (simp only [sp_sheet, if_neg c_1]; done) | contradiction | (simp only [sp_sheet, c_1, if_true, if_false]; done))
set_option maxHeartbeats 4000000 in
set_option maxRecDepth 100000 in
theorem mt_lose (l : Launch) (G : mG) (st : mS) (k : Int32)   : Met l yX1_lose (ws_ yX1_lose cX1_lose 3 (some .int)) (mR 2) (mP G [.int k] st) (mQ G (some (.int (sp_lose st k).1)) ((sp_lose st k).2)) 0 0 (mA G) := by
  refine m_head (As := [.int k]) (bytes := cX1_lose) (maxL := 3) (ret := (some .int)) (by decide) rfl (Nat.le_of_ble_eq_true rfl) ?_
  intro p e s m below meth c E hml hr hlk hw ls hl
  have hx := E.1
  have hb := E.2.1
  have hts := E.2.2.1
  have hown := E.2.2.2.1
  have hl : lv_has ls 3 [(0, .ref G.1), (1, .int k)] := hl
  refine lv_iload_n (pc := 0) hx hb dX1_lose_0 rfl (lv_at hl 1 rfl) ?_
  refine m_cS (pc := 1) (As := [.int k]) (rest := []) E hml hl.1 (mt_noSheet l k) q1264 q1265 q1266 hdX1_noSheet ⟨Nat.le_of_ble_eq_true rfl, Nat.le_of_ble_eq_true rfl⟩ rfl rfl rfl (Nat.le_of_ble_eq_true rfl) dX1_lose_1 ?_
  refine nb_eq (pc := 4) (tgt := 9) hx hb dX1_lose_4 (by decide) (fun c_1 => ?_) (fun c_1 => ?_)
  · refine lv_aload_n (pc := 9) hx hb dX1_lose_9 rfl (lv_at hl 0 rfl) ?_
    refine m_geta (pc := 10) E hw 8 (by decide) (by decide) q1100 dX1_lose_10 ?_
    refine lv_iload_n (pc := 13) hx hb dX1_lose_13 rfl (lv_at hl 1 rfl) ?_
    refine m_ald (pc := 14) E hw 8 (by decide) rfl (show vp_in k 4 from vp_in_iff.mpr ⟨by omega, by omega⟩) dX1_lose_14 ?_
    refine li_if_ge (pc := 15) (tgt := 22) hx hb dX1_lose_15 (by decide) (fun c_2 => ?_) (fun c_2 => ?_)
    · refine lv_iconst (pc := 22) (v := 1) hx hb dX1_lose_22 (by decide) ?_
      refine lv_istore_n (pc := 23) (lv' := [(2, .int 1), (0, .ref G.1), (1, .int k)]) hx hb dX1_lose_23 rfl hl (by decide) rfl (fun ls hl => ?_)
      refine lv_aload_n (pc := 24) hx hb dX1_lose_24 rfl (lv_at hl 1 rfl) ?_
      refine m_geta (pc := 25) E hw 8 (by decide) (by decide) q1100 dX1_lose_25 ?_
      refine lv_iload_n (pc := 28) hx hb dX1_lose_28 rfl (lv_at hl 2 rfl) ?_
      refine lv_iconst (pc := 29) (v := (-1)) hx hb dX1_lose_29 (by decide) ?_
      refine m_ast (pc := 30) (v := (-1)) E hw 8 (by decide) rfl (show vp_in k 4 from vp_in_iff.mpr ⟨by omega, by omega⟩) dX1_lose_30 (fun H locs hw => ?_)
      refine lv_iload_n (pc := 31) hx hb dX1_lose_31 rfl (lv_at hl 0 rfl) ?_
      exact m_iret E hr hlk hw dX1_lose_32 (by first | (simp only [sp_lose, if_pos c_1, if_neg c_2]; done) | contradiction | (simp only [sp_lose, c_1, c_2, if_true, if_false]; done)) (by first | (simp only [sp_lose, if_pos c_1, if_neg c_2]; done) | contradiction | (simp only [sp_lose, c_1, c_2, if_true, if_false]; done))
    · refine lv_iconst (pc := 18) (v := 0) hx hb dX1_lose_18 (by decide) ?_
      refine lv_goto (pc := 19) (tgt := 23) hx hb dX1_lose_19 (by decide) ?_
      refine lv_istore_n (pc := 23) (lv' := [(2, .int 0), (0, .ref G.1), (1, .int k)]) hx hb dX1_lose_23 rfl hl (by decide) rfl (fun ls hl => ?_)
      refine lv_aload_n (pc := 24) hx hb dX1_lose_24 rfl (lv_at hl 1 rfl) ?_
      refine m_geta (pc := 25) E hw 8 (by decide) (by decide) q1100 dX1_lose_25 ?_
      refine lv_iload_n (pc := 28) hx hb dX1_lose_28 rfl (lv_at hl 2 rfl) ?_
      refine lv_iconst (pc := 29) (v := (-1)) hx hb dX1_lose_29 (by decide) ?_
      refine m_ast (pc := 30) (v := (-1)) E hw 8 (by decide) rfl (show vp_in k 4 from vp_in_iff.mpr ⟨by omega, by omega⟩) dX1_lose_30 (fun H locs hw => ?_)
      refine lv_iload_n (pc := 31) hx hb dX1_lose_31 rfl (lv_at hl 0 rfl) ?_
      exact m_iret E hr hlk hw dX1_lose_32 (by first | (simp only [sp_lose, if_pos c_1, if_pos c_2]; done) | contradiction | (simp only [sp_lose, c_1, c_2, if_true, if_false]; done)) (by first | (simp only [sp_lose, if_pos c_1, if_pos c_2]; done) | contradiction | (simp only [sp_lose, c_1, c_2, if_true, if_false]; done))
  · refine lv_iconst (pc := 7) (v := (-1)) hx hb dX1_lose_7 (by decide) ?_
    exact m_iret E hr hlk hw dX1_lose_8 (by first | (simp only [sp_lose, if_neg c_1]; done) | contradiction | (simp only [sp_lose, c_1, if_true, if_false]; done)) (by first | (simp only [sp_lose, if_neg c_1]; done) | contradiction | (simp only [sp_lose, c_1, if_true, if_false]; done))
set_option maxHeartbeats 4000000 in
set_option maxRecDepth 100000 in
theorem mt_noCell (l : Launch) (G : mG) (st : mS) (k : Int32) (i : Int32)  (hk : inB k 0 3) : Met l yX1_noCell (ws_ yX1_noCell cX1_noCell 3 (some .int)) (mR 1) (mP G [.int k, .int i] st) (mQ G (some (.int (nce st k i))) (st)) 0 0 (mA G) := by
  refine m_head (As := [.int k, .int i]) (bytes := cX1_noCell) (maxL := 3) (ret := (some .int)) (by decide) rfl (Nat.le_of_ble_eq_true rfl) ?_
  intro p e s m below meth c E hml hr hlk hw ls hl
  have hx := E.1
  have hb := E.2.1
  have hts := E.2.2.1
  have hown := E.2.2.2.1
  have hl : lv_has ls 3 [(0, .ref G.1), (1, .int k), (2, .int i)] := hl
  refine lv_aload_n (pc := 0) hx hb dX1_noCell_0 rfl (lv_at hl 0 rfl) ?_
  refine m_geta (pc := 1) E hw 8 (by decide) (by decide) q1100 dX1_noCell_1 ?_
  refine lv_iload_n (pc := 4) hx hb dX1_noCell_4 rfl (lv_at hl 1 rfl) ?_
  refine m_ald (pc := 5) E hw 8 (by decide) rfl (show vp_in k 4 from vp_in_iff.mpr ⟨by omega, by omega⟩) dX1_noCell_5 ?_
  refine li_if_ge (pc := 6) (tgt := 13) hx hb dX1_noCell_6 (by decide) (fun c_1 => ?_) (fun c_1 => ?_)
  · refine lv_iload_n (pc := 13) hx hb dX1_noCell_13 rfl (lv_at hl 2 rfl) ?_
    refine lv_i2l (pc := 14) (v := i.toInt64) hx hb dX1_noCell_14 rfl ?_
    refine lv_lconst (pc := 15) (v := 0) hx hb dX1_noCell_15 (by decide) ?_
    refine lv_aload_n (pc := 16) hx hb dX1_noCell_16 rfl (lv_at hl 0 rfl) ?_
    refine m_geta (pc := 17) E hw 8 (by decide) (by decide) q1100 dX1_noCell_17 ?_
    refine lv_iload_n (pc := 20) hx hb dX1_noCell_20 rfl (lv_at hl 1 rfl) ?_
    refine m_ald (pc := 21) E hw 8 (by decide) rfl (show vp_in k 4 from vp_in_iff.mpr ⟨by omega, by omega⟩) dX1_noCell_21 ?_
    refine lv_i2l (pc := 22) (v := (st 8 k.toNatClampNeg).toInt64) hx hb dX1_noCell_22 rfl ?_
    refine lv_lconst (pc := 23) (v := 1) hx hb dX1_noCell_23 (by decide) ?_
    refine lv_lsub (pc := 24) hx hb dX1_noCell_24 ?_
    refine m_cS (pc := 25) (As := [.long i.toInt64, .long 0, .long ((st 8 k.toNatClampNeg).toInt64 - 1)]) (rest := []) E hml hl.1 (mt_inN l i (st 8 k.toNatClampNeg)) q1231 q1232 q1233 hdX1_in ⟨Nat.le_of_ble_eq_true rfl, Nat.le_of_ble_eq_true rfl⟩ rfl rfl rfl (Nat.le_of_ble_eq_true rfl) dX1_noCell_25 ?_
    refine lb_eq (pc := 28) (tgt := 35) hx hb dX1_noCell_28 (by decide) (fun c_2 => ?_) (fun c_2 => ?_)
    · refine lv_iconst (pc := 35) (v := 3) hx hb dX1_noCell_35 (by decide) ?_
      exact m_iret E hr hlk hw dX1_noCell_36 (by first | (simp only [nce, if_neg c_1, if_neg c_2]; done) | contradiction | (simp only [nce, c_1, c_2, if_true, if_false]; done)) rfl
    · refine lv_iconst (pc := 31) (v := 0) hx hb dX1_noCell_31 (by decide) ?_
      refine lv_goto (pc := 32) (tgt := 36) hx hb dX1_noCell_32 (by decide) ?_
      exact m_iret E hr hlk hw dX1_noCell_36 (by first | (simp only [nce, if_neg c_1, if_pos c_2]; done) | contradiction | (simp only [nce, c_1, c_2, if_true, if_false]; done)) rfl
  · refine lv_iconst (pc := 9) (v := 1) hx hb dX1_noCell_9 (by decide) ?_
    refine lv_goto (pc := 10) (tgt := 36) hx hb dX1_noCell_10 (by decide) ?_
    exact m_iret E hr hlk hw dX1_noCell_36 (by first | (simp only [nce, if_pos c_1]; done) | contradiction | (simp only [nce, c_1, if_true, if_false]; done)) rfl
set_option maxHeartbeats 4000000 in
set_option maxRecDepth 100000 in
theorem mt_put (l : Launch) (G : mG) (st : mS) (k : Int32) (i : Int32) (v : Int32)  (hS : ∀ j, j < 4 → -1 ≤ (st 8 j).toInt ∧ (st 8 j).toInt ≤ 32) : Met l yX1_put (ws_ yX1_put cX1_put 4 (some .int)) (mR 2) (mP G [.int k, .int i, .int v] st) (mQ G (some (.int (sp_put st k i v).1)) ((sp_put st k i v).2)) 0 0 (mA G) := by
  refine m_head (As := [.int k, .int i, .int v]) (bytes := cX1_put) (maxL := 4) (ret := (some .int)) (by decide) rfl (Nat.le_of_ble_eq_true rfl) ?_
  intro p e s m below meth c E hml hr hlk hw ls hl
  have hx := E.1
  have hb := E.2.1
  have hts := E.2.2.1
  have hown := E.2.2.2.1
  have hl : lv_has ls 4 [(0, .ref G.1), (1, .int k), (2, .int i), (3, .int v)] := hl
  refine lv_iload_n (pc := 0) hx hb dX1_put_0 rfl (lv_at hl 1 rfl) ?_
  refine m_cS (pc := 1) (As := [.int k]) (rest := []) E hml hl.1 (mt_noSheet l k) q1264 q1265 q1266 hdX1_noSheet ⟨Nat.le_of_ble_eq_true rfl, Nat.le_of_ble_eq_true rfl⟩ rfl rfl rfl (Nat.le_of_ble_eq_true rfl) dX1_put_1 ?_
  refine nb_eq (pc := 4) (tgt := 13) hx hb dX1_put_4 (by decide) (fun c_1 => ?_) (fun c_1 => ?_)
  · refine lv_aload_n (pc := 13) hx hb dX1_put_13 rfl (lv_at hl 0 rfl) ?_
    refine lv_iload_n (pc := 14) hx hb dX1_put_14 rfl (lv_at hl 1 rfl) ?_
    refine lv_iload_n (pc := 15) hx hb dX1_put_15 rfl (lv_at hl 2 rfl) ?_
    refine m_cVi (pc := 16) (As := [.int k, .int i]) (rest := []) E hml hl.1 hw (mt_noCell l G (st) k i c_1) q1276 q1278 qs25 q1279 hdX1_noCell ⟨Nat.le_of_ble_eq_true rfl, Nat.le_of_ble_eq_true rfl⟩ rfl rfl rfl (Nat.le_of_ble_eq_true rfl) dX1_put_16 (fun H locs hw => ?_)
    refine li_if_le (pc := 19) (tgt := 33) hx hb dX1_put_19 (by decide) (fun c_2 => ?_) (fun c_2 => ?_)
    · have hn_ := nce_ok c_2
      have hkn := clamp_n (x := k) c_1.1
      have hki := clamp_i (x := k) c_1.1
      have hin := clamp_n (x := i) hn_.2.1
      have hii := clamp_i (x := i) hn_.2.1
      have hS_ := hS k.toNatClampNeg (by omega)
      refine lv_aload_n (pc := 33) hx hb dX1_put_33 rfl (lv_at hl 0 rfl) ?_
      refine m_geta (pc := 34) E hw 10 (by decide) (by decide) q1102 dX1_put_34 ?_
      refine lv_bipush (pc := 37) (v := 32) hx hb dX1_put_37 (by decide) ?_
      refine lv_iload_n (pc := 39) hx hb dX1_put_39 rfl (lv_at hl 1 rfl) ?_
      refine li_top (v' := .int (nI k.toNatClampNeg)) (congrArg Value.int hkn) ?_
      refine li_mulN (pc := 40) (a := 32) (b := k.toNatClampNeg) hx hb dX1_put_40 ?_
      refine lv_iload_n (pc := 41) hx hb dX1_put_41 rfl (lv_at hl 2 rfl) ?_
      refine li_top (v' := .int (nI i.toNatClampNeg)) (congrArg Value.int hin) ?_
      refine li_addN (pc := 42) (a := 32 * k.toNatClampNeg) (b := i.toNatClampNeg) hx hb dX1_put_42 ?_
      refine lv_aload_n (pc := 43) hx hb dX1_put_43 rfl (lv_at hl 0 rfl) ?_
      refine m_geta (pc := 44) E hw 9 (by decide) (by decide) q1101 dX1_put_44 ?_
      refine lv_iload_n (pc := 47) hx hb dX1_put_47 rfl (lv_at hl 1 rfl) ?_
      refine m_ald (pc := 48) E hw 9 (by decide) rfl (show vp_in k 4 from vp_in_iff.mpr ⟨by omega, by omega⟩) dX1_put_48 ?_
      refine li_ne (pc := 49) (tgt := 57) hx hb dX1_put_49 (by decide) (fun c_3 => ?_) (fun c_3 => ?_)
      · refine lv_aload_n (pc := 57) hx hb dX1_put_57 rfl (lv_at hl 0 rfl) ?_
        refine m_geta (pc := 58) E hw 9 (by decide) (by decide) q1101 dX1_put_58 ?_
        refine lv_iload_n (pc := 61) hx hb dX1_put_61 rfl (lv_at hl 1 rfl) ?_
        refine m_ald (pc := 62) E hw 9 (by decide) rfl (show vp_in k 4 from vp_in_iff.mpr ⟨by omega, by omega⟩) dX1_put_62 ?_
        refine lv_iconst (pc := 63) (v := 1) hx hb dX1_put_63 (by decide) ?_
        refine li_icne (pc := 64) (tgt := 72) hx hb dX1_put_64 (by decide) (fun c_4 => ?_) (fun c_4 => ?_)
        · refine lv_iload_n (pc := 72) hx hb dX1_put_72 rfl (lv_at hl 3 rfl) ?_
          refine m_astN (pc := 73) (v := v) E hw 10 ((32 * k.toNatClampNeg) + i.toNatClampNeg) (by decide) rfl (show (32 * k.toNatClampNeg) + i.toNatClampNeg < 128 from (by omega)) (by decide) dX1_put_73 (fun H locs hw => ?_)
          refine lv_aload_n (pc := 74) hx hb dX1_put_74 rfl (lv_at hl 0 rfl) ?_
          refine lv_iconst (pc := 75) (v := 1) hx hb dX1_put_75 (by decide) ?_
          refine m_cVi (pc := 76) (As := [.int 1]) (rest := []) E hml hl.1 hw (mt_refused l G (mu st 10 ((32 * k.toNatClampNeg) + i.toNatClampNeg) v) 1) q1248 q1250 qs23 q1251 hdX1_refused ⟨Nat.le_of_ble_eq_true rfl, Nat.le_of_ble_eq_true rfl⟩ rfl rfl rfl (Nat.le_of_ble_eq_true rfl) dX1_put_76 (fun H locs hw => ?_)
          exact m_iret E hr hlk hw dX1_put_79 (by first | (simp only [sp_put, if_pos c_1, if_neg c_2, if_neg c_3, if_neg c_4]; done) | contradiction | (simp only [sp_put, c_1, c_2, c_3, c_4, if_true, if_false]; done)) (by first | (simp only [sp_put, if_pos c_1, if_neg c_2, if_neg c_3, if_neg c_4]; done) | contradiction | (simp only [sp_put, c_1, c_2, c_3, c_4, if_true, if_false]; done))
        · refine lv_iload_n (pc := 67) hx hb dX1_put_67 rfl (lv_at hl 3 rfl) ?_
          refine lv_i2s (pc := 68) (v := v.toInt16.toInt32) hx hb dX1_put_68 rfl ?_
          refine lv_goto (pc := 69) (tgt := 73) hx hb dX1_put_69 (by decide) ?_
          refine m_astN (pc := 73) (v := v.toInt16.toInt32) E hw 10 ((32 * k.toNatClampNeg) + i.toNatClampNeg) (by decide) rfl (show (32 * k.toNatClampNeg) + i.toNatClampNeg < 128 from (by omega)) (by decide) dX1_put_73 (fun H locs hw => ?_)
          refine lv_aload_n (pc := 74) hx hb dX1_put_74 rfl (lv_at hl 0 rfl) ?_
          refine lv_iconst (pc := 75) (v := 1) hx hb dX1_put_75 (by decide) ?_
          refine m_cVi (pc := 76) (As := [.int 1]) (rest := []) E hml hl.1 hw (mt_refused l G (mu st 10 ((32 * k.toNatClampNeg) + i.toNatClampNeg) v.toInt16.toInt32) 1) q1248 q1250 qs23 q1251 hdX1_refused ⟨Nat.le_of_ble_eq_true rfl, Nat.le_of_ble_eq_true rfl⟩ rfl rfl rfl (Nat.le_of_ble_eq_true rfl) dX1_put_76 (fun H locs hw => ?_)
          exact m_iret E hr hlk hw dX1_put_79 (by first | (simp only [sp_put, if_pos c_1, if_neg c_2, if_neg c_3, if_pos c_4]; done) | contradiction | (simp only [sp_put, c_1, c_2, c_3, c_4, if_true, if_false]; done)) (by first | (simp only [sp_put, if_pos c_1, if_neg c_2, if_neg c_3, if_pos c_4]; done) | contradiction | (simp only [sp_put, c_1, c_2, c_3, c_4, if_true, if_false]; done))
      · refine lv_iload_n (pc := 52) hx hb dX1_put_52 rfl (lv_at hl 3 rfl) ?_
        refine lv_i2b (pc := 53) (v := v.toInt8.toInt32) hx hb dX1_put_53 rfl ?_
        refine lv_goto (pc := 54) (tgt := 73) hx hb dX1_put_54 (by decide) ?_
        refine m_astN (pc := 73) (v := v.toInt8.toInt32) E hw 10 ((32 * k.toNatClampNeg) + i.toNatClampNeg) (by decide) rfl (show (32 * k.toNatClampNeg) + i.toNatClampNeg < 128 from (by omega)) (by decide) dX1_put_73 (fun H locs hw => ?_)
        refine lv_aload_n (pc := 74) hx hb dX1_put_74 rfl (lv_at hl 0 rfl) ?_
        refine lv_iconst (pc := 75) (v := 1) hx hb dX1_put_75 (by decide) ?_
        refine m_cVi (pc := 76) (As := [.int 1]) (rest := []) E hml hl.1 hw (mt_refused l G (mu st 10 ((32 * k.toNatClampNeg) + i.toNatClampNeg) v.toInt8.toInt32) 1) q1248 q1250 qs23 q1251 hdX1_refused ⟨Nat.le_of_ble_eq_true rfl, Nat.le_of_ble_eq_true rfl⟩ rfl rfl rfl (Nat.le_of_ble_eq_true rfl) dX1_put_76 (fun H locs hw => ?_)
        exact m_iret E hr hlk hw dX1_put_79 (by first | (simp only [sp_put, if_pos c_1, if_neg c_2, if_pos c_3]; done) | contradiction | (simp only [sp_put, c_1, c_2, c_3, if_true, if_false]; done)) (by first | (simp only [sp_put, if_pos c_1, if_neg c_2, if_pos c_3]; done) | contradiction | (simp only [sp_put, c_1, c_2, c_3, if_true, if_false]; done))
    · refine lv_aload_n (pc := 22) hx hb dX1_put_22 rfl (lv_at hl 0 rfl) ?_
      refine lv_aload_n (pc := 23) hx hb dX1_put_23 rfl (lv_at hl 0 rfl) ?_
      refine lv_iload_n (pc := 24) hx hb dX1_put_24 rfl (lv_at hl 1 rfl) ?_
      refine lv_iload_n (pc := 25) hx hb dX1_put_25 rfl (lv_at hl 2 rfl) ?_
      refine m_cVi (pc := 26) (As := [.int k, .int i]) (rest := [.ref G.1]) E hml hl.1 hw (mt_noCell l G (st) k i c_1) q1276 q1278 qs25 q1279 hdX1_noCell ⟨Nat.le_of_ble_eq_true rfl, Nat.le_of_ble_eq_true rfl⟩ rfl rfl rfl (Nat.le_of_ble_eq_true rfl) dX1_put_26 (fun H locs hw => ?_)
      refine m_cVi (pc := 29) (As := [.int (nce st k i)]) (rest := []) E hml hl.1 hw (mt_failed l G (st) (nce st k i) ((-10) - (nce st k i)) rfl) q1252 q1254 qs24 q1255 hdX1_failed ⟨Nat.le_of_ble_eq_true rfl, Nat.le_of_ble_eq_true rfl⟩ rfl rfl rfl (Nat.le_of_ble_eq_true rfl) dX1_put_29 (fun H locs hw => ?_)
      exact m_iret E hr hlk hw dX1_put_32 (by first | (simp only [sp_put, if_pos c_1, if_pos c_2]; done) | contradiction | (simp only [sp_put, c_1, c_2, if_true, if_false]; done)) (by first | (simp only [sp_put, if_pos c_1, if_pos c_2]; done) | contradiction | (simp only [sp_put, c_1, c_2, if_true, if_false]; done))
  · refine lv_aload_n (pc := 7) hx hb dX1_put_7 rfl (lv_at hl 0 rfl) ?_
    refine lv_iconst (pc := 8) (v := (-1)) hx hb dX1_put_8 (by decide) ?_
    refine m_cVi (pc := 9) (As := [.int (-1)]) (rest := []) E hml hl.1 hw (mt_refused l G (st) (-1)) q1248 q1250 qs23 q1251 hdX1_refused ⟨Nat.le_of_ble_eq_true rfl, Nat.le_of_ble_eq_true rfl⟩ rfl rfl rfl (Nat.le_of_ble_eq_true rfl) dX1_put_9 (fun H locs hw => ?_)
    exact m_iret E hr hlk hw dX1_put_12 (by first | (simp only [sp_put, if_neg c_1]; done) | contradiction | (simp only [sp_put, c_1, if_true, if_false]; done)) (by first | (simp only [sp_put, if_neg c_1]; done) | contradiction | (simp only [sp_put, c_1, if_true, if_false]; done))
set_option maxHeartbeats 4000000 in
set_option maxRecDepth 100000 in
theorem mt_cell (l : Launch) (G : mG) (st : mS) (k : Int32) (i : Int32) (x : Int32)  (hS : ∀ j, j < 4 → -1 ≤ (st 8 j).toInt ∧ (st 8 j).toInt ≤ 32) : Met l yX1_cell (ws_ yX1_cell cX1_cell 4 (some .long)) (mR 2) (mP G [.int k, .int i, .int x] st) (mQ G (some (.long (sp_cell st k i x).1)) ((sp_cell st k i x).2)) 0 0 (mA G) := by
  refine m_head (As := [.int k, .int i, .int x]) (bytes := cX1_cell) (maxL := 4) (ret := (some .long)) (by decide) rfl (Nat.le_of_ble_eq_true rfl) ?_
  intro p e s m below meth c E hml hr hlk hw ls hl
  have hx := E.1
  have hb := E.2.1
  have hts := E.2.2.1
  have hown := E.2.2.2.1
  have hl : lv_has ls 4 [(0, .ref G.1), (1, .int k), (2, .int i), (3, .int x)] := hl
  refine lv_aload_n (pc := 0) hx hb dX1_cell_0 rfl (lv_at hl 0 rfl) ?_
  refine lv_iconst (pc := 1) (v := 0) hx hb dX1_cell_1 (by decide) ?_
  refine m_put (pc := 2) (v := 0) E hw 0 (by decide) rfl rfl rfl q1092 dX1_cell_2 (fun H locs hw => ?_)
  refine lv_iload_n (pc := 5) hx hb dX1_cell_5 rfl (lv_at hl 1 rfl) ?_
  refine m_cS (pc := 6) (As := [.int k]) (rest := []) E hml hl.1 (mt_noSheet l k) q1264 q1265 q1266 hdX1_noSheet ⟨Nat.le_of_ble_eq_true rfl, Nat.le_of_ble_eq_true rfl⟩ rfl rfl rfl (Nat.le_of_ble_eq_true rfl) dX1_cell_6 ?_
  refine nb_ne (pc := 9) (tgt := 24) hx hb dX1_cell_9 (by decide) (fun c_1 => ?_) (fun c_1 => ?_)
  · refine m_cS (pc := 24) (As := []) (rest := []) E hml hl.1 (mt_lost l) q1284 q1285 q1286 hdX1_lost ⟨Nat.le_of_ble_eq_true rfl, Nat.le_of_ble_eq_true rfl⟩ rfl rfl rfl (Nat.le_of_ble_eq_true rfl) dX1_cell_24 ?_
    exact m_lret E hr hlk hw dX1_cell_27 (by first | (simp only [sp_cell, cel, if_neg c_1]; done) | contradiction | (simp only [sp_cell, cel, c_1, if_true, if_false]; done)) (by first | (simp only [sp_cell, cel, if_neg c_1]; done) | contradiction | (simp only [sp_cell, cel, c_1, if_true, if_false]; done))
  · refine lv_iload_n (pc := 12) hx hb dX1_cell_12 rfl (lv_at hl 3 rfl) ?_
    refine lv_i2l (pc := 13) (v := x.toInt64) hx hb dX1_cell_13 rfl ?_
    refine lv_lconst (pc := 14) (v := 0) hx hb dX1_cell_14 (by decide) ?_
    refine lv_ldc2 (pc := 15) hx hb hown (hts _ q1235) dX1_cell_15 ?_
    refine m_cS (pc := 18) (As := [.long x.toInt64, .long 0, .long 2]) (rest := []) E hml hl.1 (mt_inB l x 0 2 0 2 rfl rfl) q1231 q1232 q1233 hdX1_in ⟨Nat.le_of_ble_eq_true rfl, Nat.le_of_ble_eq_true rfl⟩ rfl rfl rfl (Nat.le_of_ble_eq_true rfl) dX1_cell_18 ?_
    refine lb_ne (pc := 21) (tgt := 28) hx hb dX1_cell_21 (by decide) (fun c_2 => ?_) (fun c_2 => ?_)
    · refine lv_aload_n (pc := 28) hx hb dX1_cell_28 rfl (lv_at hl 0 rfl) ?_
      refine m_geta (pc := 29) E hw 8 (by decide) (by decide) q1100 dX1_cell_29 ?_
      refine lv_iload_n (pc := 32) hx hb dX1_cell_32 rfl (lv_at hl 1 rfl) ?_
      refine m_ald (pc := 33) E hw 8 (by decide) rfl (show vp_in k 4 from vp_in_iff.mpr ⟨by omega, by omega⟩) dX1_cell_33 ?_
      refine li_top (v' := .int (st 8 k.toNatClampNeg)) (by first | rfl | (rw [rfl]; rfl) | simp [mu]) ?_
      refine li_if_lt (pc := 34) (tgt := 53) hx hb dX1_cell_34 (by decide) (fun c_3 => ?_) (fun c_3 => ?_)
      · refine lv_aload_n (pc := 53) hx hb dX1_cell_53 rfl (lv_at hl 0 rfl) ?_
        refine lv_iload_n (pc := 54) hx hb dX1_cell_54 rfl (lv_at hl 1 rfl) ?_
        refine lv_iload_n (pc := 55) hx hb dX1_cell_55 rfl (lv_at hl 2 rfl) ?_
        refine m_cVi (pc := 56) (As := [.int k, .int i]) (rest := []) E hml hl.1 hw (mt_noCell l G (mu st 0 0 0) k i c_1) q1276 q1278 qs25 q1279 hdX1_noCell ⟨Nat.le_of_ble_eq_true rfl, Nat.le_of_ble_eq_true rfl⟩ rfl rfl rfl (Nat.le_of_ble_eq_true rfl) dX1_cell_56 (fun H locs hw => ?_)
        refine li_if_le (pc := 59) (tgt := 75) hx hb dX1_cell_59 (by decide) (fun c_4 => ?_) (fun c_4 => ?_)
        · have hn_ : ¬ (st 8 k.toNatClampNeg).toInt < 0 ∧ inN i (st 8 k.toNatClampNeg) := nce_ok c_4
          have hkn := clamp_n (x := k) c_1.1
          have hki := clamp_i (x := k) c_1.1
          have hin := clamp_n (x := i) hn_.2.1
          have hii := clamp_i (x := i) hn_.2.1
          have hS_ := hS k.toNatClampNeg (by omega)
          refine lv_aload_n (pc := 75) hx hb dX1_cell_75 rfl (lv_at hl 0 rfl) ?_
          refine m_geta (pc := 76) E hw 10 (by decide) (by decide) q1102 dX1_cell_76 ?_
          refine lv_bipush (pc := 79) (v := 32) hx hb dX1_cell_79 (by decide) ?_
          refine lv_iload_n (pc := 81) hx hb dX1_cell_81 rfl (lv_at hl 1 rfl) ?_
          refine li_top (v' := .int (nI k.toNatClampNeg)) (congrArg Value.int hkn) ?_
          refine li_mulN (pc := 82) (a := 32) (b := k.toNatClampNeg) hx hb dX1_cell_82 ?_
          refine lv_iload_n (pc := 83) hx hb dX1_cell_83 rfl (lv_at hl 2 rfl) ?_
          refine li_top (v' := .int (nI i.toNatClampNeg)) (congrArg Value.int hin) ?_
          refine li_addN (pc := 84) (a := 32 * k.toNatClampNeg) (b := i.toNatClampNeg) hx hb dX1_cell_84 ?_
          refine m_aldN (pc := 85) (v := (st 10 ((32 * k.toNatClampNeg) + i.toNatClampNeg))) E hw 10 ((32 * k.toNatClampNeg) + i.toNatClampNeg) (by decide) rfl (show (32 * k.toNatClampNeg) + i.toNatClampNeg < 128 from (by omega)) (by decide) rfl dX1_cell_85 ?_
          refine lv_i2l (pc := 86) (v := (st 10 ((32 * k.toNatClampNeg) + i.toNatClampNeg)).toInt64) hx hb dX1_cell_86 rfl ?_
          exact m_lret E hr hlk hw dX1_cell_87 (by first | (simp only [sp_cell, cel, if_pos c_1, if_pos c_2, if_pos c_3, if_neg c_4]; done) | contradiction | (simp only [sp_cell, cel, c_1, c_2, c_3, c_4, if_true, if_false]; done)) (by first | (simp only [sp_cell, cel, if_pos c_1, if_pos c_2, if_pos c_3, if_neg c_4]; done) | contradiction | (simp only [sp_cell, cel, c_1, c_2, c_3, c_4, if_true, if_false]; done))
        · refine lv_aload_n (pc := 62) hx hb dX1_cell_62 rfl (lv_at hl 0 rfl) ?_
          refine lv_aload_n (pc := 63) hx hb dX1_cell_63 rfl (lv_at hl 0 rfl) ?_
          refine lv_iload_n (pc := 64) hx hb dX1_cell_64 rfl (lv_at hl 1 rfl) ?_
          refine lv_iload_n (pc := 65) hx hb dX1_cell_65 rfl (lv_at hl 2 rfl) ?_
          refine m_cVi (pc := 66) (As := [.int k, .int i]) (rest := [.ref G.1]) E hml hl.1 hw (mt_noCell l G (mu st 0 0 0) k i c_1) q1276 q1278 qs25 q1279 hdX1_noCell ⟨Nat.le_of_ble_eq_true rfl, Nat.le_of_ble_eq_true rfl⟩ rfl rfl rfl (Nat.le_of_ble_eq_true rfl) dX1_cell_66 (fun H locs hw => ?_)
          refine m_cVi (pc := 69) (As := [.int (nce (mu st 0 0 0) k i)]) (rest := []) E hml hl.1 hw (mt_failedLong l G (mu st 0 0 0) (nce (mu st 0 0 0) k i)) q1288 q1290 qs26 q1291 hdX1_failedLong ⟨Nat.le_of_ble_eq_true rfl, Nat.le_of_ble_eq_true rfl⟩ rfl rfl rfl (Nat.le_of_ble_eq_true rfl) dX1_cell_69 (fun H locs hw => ?_)
          refine lv_goto (pc := 72) (tgt := 87) hx hb dX1_cell_72 (by decide) ?_
          exact m_lret E hr hlk hw dX1_cell_87 (by first | (simp only [sp_cell, cel, if_pos c_1, if_pos c_2, if_pos c_3, if_pos c_4]; done) | contradiction | (simp only [sp_cell, cel, c_1, c_2, c_3, c_4, if_true, if_false]; done)) (by first | (simp only [sp_cell, cel, if_pos c_1, if_pos c_2, if_pos c_3, if_pos c_4]; done) | contradiction | (simp only [sp_cell, cel, c_1, c_2, c_3, c_4, if_true, if_false]; done))
      · refine lv_aload_n (pc := 37) hx hb dX1_cell_37 rfl (lv_at hl 0 rfl) ?_
        refine m_geta (pc := 38) E hw 9 (by decide) (by decide) q1101 dX1_cell_38 ?_
        refine lv_iload_n (pc := 41) hx hb dX1_cell_41 rfl (lv_at hl 1 rfl) ?_
        refine m_ald (pc := 42) E hw 9 (by decide) rfl (show vp_in k 4 from vp_in_iff.mpr ⟨by omega, by omega⟩) dX1_cell_42 ?_
        refine li_top (v' := .int (st 9 k.toNatClampNeg)) (by first | rfl | (rw [rfl]; rfl) | simp [mu]) ?_
        refine lv_iload_n (pc := 43) hx hb dX1_cell_43 rfl (lv_at hl 3 rfl) ?_
        refine lv_icmp_eq (pc := 44) (tgt := 53) hx hb dX1_cell_44 (by decide) (fun c_5 => ?_) (fun c_5 => ?_)
        · refine lv_aload_n (pc := 53) hx hb dX1_cell_53 rfl (lv_at hl 0 rfl) ?_
          refine lv_iload_n (pc := 54) hx hb dX1_cell_54 rfl (lv_at hl 1 rfl) ?_
          refine lv_iload_n (pc := 55) hx hb dX1_cell_55 rfl (lv_at hl 2 rfl) ?_
          refine m_cVi (pc := 56) (As := [.int k, .int i]) (rest := []) E hml hl.1 hw (mt_noCell l G (mu st 0 0 0) k i c_1) q1276 q1278 qs25 q1279 hdX1_noCell ⟨Nat.le_of_ble_eq_true rfl, Nat.le_of_ble_eq_true rfl⟩ rfl rfl rfl (Nat.le_of_ble_eq_true rfl) dX1_cell_56 (fun H locs hw => ?_)
          refine li_if_le (pc := 59) (tgt := 75) hx hb dX1_cell_59 (by decide) (fun c_6 => ?_) (fun c_6 => ?_)
          · have hn_ : ¬ (st 8 k.toNatClampNeg).toInt < 0 ∧ inN i (st 8 k.toNatClampNeg) := nce_ok c_6
            have hkn := clamp_n (x := k) c_1.1
            have hki := clamp_i (x := k) c_1.1
            have hin := clamp_n (x := i) hn_.2.1
            have hii := clamp_i (x := i) hn_.2.1
            have hS_ := hS k.toNatClampNeg (by omega)
            refine lv_aload_n (pc := 75) hx hb dX1_cell_75 rfl (lv_at hl 0 rfl) ?_
            refine m_geta (pc := 76) E hw 10 (by decide) (by decide) q1102 dX1_cell_76 ?_
            refine lv_bipush (pc := 79) (v := 32) hx hb dX1_cell_79 (by decide) ?_
            refine lv_iload_n (pc := 81) hx hb dX1_cell_81 rfl (lv_at hl 1 rfl) ?_
            refine li_top (v' := .int (nI k.toNatClampNeg)) (congrArg Value.int hkn) ?_
            refine li_mulN (pc := 82) (a := 32) (b := k.toNatClampNeg) hx hb dX1_cell_82 ?_
            refine lv_iload_n (pc := 83) hx hb dX1_cell_83 rfl (lv_at hl 2 rfl) ?_
            refine li_top (v' := .int (nI i.toNatClampNeg)) (congrArg Value.int hin) ?_
            refine li_addN (pc := 84) (a := 32 * k.toNatClampNeg) (b := i.toNatClampNeg) hx hb dX1_cell_84 ?_
            refine m_aldN (pc := 85) (v := (st 10 ((32 * k.toNatClampNeg) + i.toNatClampNeg))) E hw 10 ((32 * k.toNatClampNeg) + i.toNatClampNeg) (by decide) rfl (show (32 * k.toNatClampNeg) + i.toNatClampNeg < 128 from (by omega)) (by decide) rfl dX1_cell_85 ?_
            refine lv_i2l (pc := 86) (v := (st 10 ((32 * k.toNatClampNeg) + i.toNatClampNeg)).toInt64) hx hb dX1_cell_86 rfl ?_
            exact m_lret E hr hlk hw dX1_cell_87 (by first | (simp only [sp_cell, cel, if_pos c_1, if_pos c_2, if_neg c_3, if_pos c_5, if_neg c_6]; done) | contradiction | (simp only [sp_cell, cel, c_1, c_2, c_3, c_5, c_6, if_true, if_false]; done)) (by first | (simp only [sp_cell, cel, if_pos c_1, if_pos c_2, if_neg c_3, if_pos c_5, if_neg c_6]; done) | contradiction | (simp only [sp_cell, cel, c_1, c_2, c_3, c_5, c_6, if_true, if_false]; done))
          · refine lv_aload_n (pc := 62) hx hb dX1_cell_62 rfl (lv_at hl 0 rfl) ?_
            refine lv_aload_n (pc := 63) hx hb dX1_cell_63 rfl (lv_at hl 0 rfl) ?_
            refine lv_iload_n (pc := 64) hx hb dX1_cell_64 rfl (lv_at hl 1 rfl) ?_
            refine lv_iload_n (pc := 65) hx hb dX1_cell_65 rfl (lv_at hl 2 rfl) ?_
            refine m_cVi (pc := 66) (As := [.int k, .int i]) (rest := [.ref G.1]) E hml hl.1 hw (mt_noCell l G (mu st 0 0 0) k i c_1) q1276 q1278 qs25 q1279 hdX1_noCell ⟨Nat.le_of_ble_eq_true rfl, Nat.le_of_ble_eq_true rfl⟩ rfl rfl rfl (Nat.le_of_ble_eq_true rfl) dX1_cell_66 (fun H locs hw => ?_)
            refine m_cVi (pc := 69) (As := [.int (nce (mu st 0 0 0) k i)]) (rest := []) E hml hl.1 hw (mt_failedLong l G (mu st 0 0 0) (nce (mu st 0 0 0) k i)) q1288 q1290 qs26 q1291 hdX1_failedLong ⟨Nat.le_of_ble_eq_true rfl, Nat.le_of_ble_eq_true rfl⟩ rfl rfl rfl (Nat.le_of_ble_eq_true rfl) dX1_cell_69 (fun H locs hw => ?_)
            refine lv_goto (pc := 72) (tgt := 87) hx hb dX1_cell_72 (by decide) ?_
            exact m_lret E hr hlk hw dX1_cell_87 (by first | (simp only [sp_cell, cel, if_pos c_1, if_pos c_2, if_neg c_3, if_pos c_5, if_pos c_6]; done) | contradiction | (simp only [sp_cell, cel, c_1, c_2, c_3, c_5, c_6, if_true, if_false]; done)) (by first | (simp only [sp_cell, cel, if_pos c_1, if_pos c_2, if_neg c_3, if_pos c_5, if_pos c_6]; done) | contradiction | (simp only [sp_cell, cel, c_1, c_2, c_3, c_5, c_6, if_true, if_false]; done))
        · refine lv_aload_n (pc := 47) hx hb dX1_cell_47 rfl (lv_at hl 0 rfl) ?_
          refine lv_iconst (pc := 48) (v := 2) hx hb dX1_cell_48 (by decide) ?_
          refine m_cVi (pc := 49) (As := [.int 2]) (rest := []) E hml hl.1 hw (mt_failedLong l G (mu st 0 0 0) 2) q1288 q1290 qs26 q1291 hdX1_failedLong ⟨Nat.le_of_ble_eq_true rfl, Nat.le_of_ble_eq_true rfl⟩ rfl rfl rfl (Nat.le_of_ble_eq_true rfl) dX1_cell_49 (fun H locs hw => ?_)
          exact m_lret E hr hlk hw dX1_cell_52 (by first | (simp only [sp_cell, cel, if_pos c_1, if_pos c_2, if_neg c_3, if_neg c_5]; done) | contradiction | (simp only [sp_cell, cel, c_1, c_2, c_3, c_5, if_true, if_false]; done)) (by first | (simp only [sp_cell, cel, if_pos c_1, if_pos c_2, if_neg c_3, if_neg c_5]; done) | contradiction | (simp only [sp_cell, cel, c_1, c_2, c_3, c_5, if_true, if_false]; done))
    · refine m_cS (pc := 24) (As := []) (rest := []) E hml hl.1 (mt_lost l) q1284 q1285 q1286 hdX1_lost ⟨Nat.le_of_ble_eq_true rfl, Nat.le_of_ble_eq_true rfl⟩ rfl rfl rfl (Nat.le_of_ble_eq_true rfl) dX1_cell_24 ?_
      exact m_lret E hr hlk hw dX1_cell_27 (by first | (simp only [sp_cell, cel, if_pos c_1, if_neg c_2]; done) | contradiction | (simp only [sp_cell, cel, c_1, c_2, if_true, if_false]; done)) (by first | (simp only [sp_cell, cel, if_pos c_1, if_neg c_2]; done) | contradiction | (simp only [sp_cell, cel, c_1, c_2, if_true, if_false]; done))
theorem i64s (i n : Int32) : (i.toInt64 + n.toInt64).toInt = i.toInt + n.toInt := by
  have h1 := i32_lo i
  have h2 := i32_hi i
  have h3 := i32_lo n
  have h4 := i32_hi n
  rw [i64_add (by rw [Int32.toInt_toInt64, Int32.toInt_toInt64]; omega) (by rw [Int32.toInt_toInt64, Int32.toInt_toInt64]; omega), Int32.toInt_toInt64, Int32.toInt_toInt64]
set_option maxRecDepth 100000 in
theorem mt_isBeyond (l : Launch) (i : Int32) (n : Int32) (a : Int32)  : Met l yX1_isBeyond (ws_ yX1_isBeyond cX1_isBeyond 3 (some .boolean)) (mR 0) (fun v _ => v = ([.int i, .int n, .int a] : List Value).toArray) (k2_QcV (.int (bI (bey i n a)))) 0 0 (fun _ => False) := by
  refine m_headS (As := [.int i, .int n, .int a]) (bytes := cX1_isBeyond) (maxL := 3) (ret := (some .boolean)) (by decide) rfl (Nat.le_of_ble_eq_true rfl) ?_
  intro p e s m below meth c hx hb hts hown hml hr hlk ls hl
  have hl : lv_has ls 3 [(0, .int i), (1, .int n), (2, .int a)] := hl
  refine lv_iload_n (pc := 0) hx hb dX1_isBeyond_0 rfl (lv_at hl 0 rfl) ?_
  refine li_if_lt (pc := 1) (tgt := 19) hx hb dX1_isBeyond_1 (by decide) (fun c_1 => ?_) (fun c_1 => ?_)
  · refine lv_iconst (pc := 19) (v := 1) hx hb dX1_isBeyond_19 (by decide) ?_
    refine lv_goto (pc := 20) (tgt := 24) hx hb dX1_isBeyond_20 (by decide) ?_
    exact m_zretS hx hb hr hlk dX1_isBeyond_24 rfl ((bI_t (by unfold bey; omega)).symm)
  · refine lv_iload_n (pc := 4) hx hb dX1_isBeyond_4 rfl (lv_at hl 1 rfl) ?_
    refine li_if_lt (pc := 5) (tgt := 19) hx hb dX1_isBeyond_5 (by decide) (fun c_2 => ?_) (fun c_2 => ?_)
    · refine lv_iconst (pc := 19) (v := 1) hx hb dX1_isBeyond_19 (by decide) ?_
      refine lv_goto (pc := 20) (tgt := 24) hx hb dX1_isBeyond_20 (by decide) ?_
      exact m_zretS hx hb hr hlk dX1_isBeyond_24 rfl ((bI_t (by unfold bey; omega)).symm)
    · refine lv_iload_n (pc := 8) hx hb dX1_isBeyond_8 rfl (lv_at hl 0 rfl) ?_
      refine lv_i2l (pc := 9) (v := i.toInt64) hx hb dX1_isBeyond_9 rfl ?_
      refine lv_iload_n (pc := 10) hx hb dX1_isBeyond_10 rfl (lv_at hl 1 rfl) ?_
      refine lv_i2l (pc := 11) (v := n.toInt64) hx hb dX1_isBeyond_11 rfl ?_
      refine lv_ladd (pc := 12) hx hb dX1_isBeyond_12 ?_
      refine lv_iload_n (pc := 13) hx hb dX1_isBeyond_13 rfl (lv_at hl 2 rfl) ?_
      refine lv_i2l (pc := 14) (v := a.toInt64) hx hb dX1_isBeyond_14 rfl ?_
      refine ll_le (pc := 15) (tgt := 23) hx hb dX1_isBeyond_15 dX1_isBeyond_16 (by decide) (fun c_3 => ?_) (fun c_3 => ?_)
      · refine lv_iconst (pc := 23) (v := 0) hx hb dX1_isBeyond_23 (by decide) ?_
        exact m_zretS hx hb hr hlk dX1_isBeyond_24 rfl ((bI_f (by rw [i64s, Int32.toInt_toInt64] at c_3; unfold bey; omega)).symm)
      · refine lv_iconst (pc := 19) (v := 1) hx hb dX1_isBeyond_19 (by decide) ?_
        refine lv_goto (pc := 20) (tgt := 24) hx hb dX1_isBeyond_20 (by decide) ?_
        exact m_zretS hx hb hr hlk dX1_isBeyond_24 rfl ((bI_t (by rw [i64s, Int32.toInt_toInt64] at c_3; unfold bey; omega)).symm)
