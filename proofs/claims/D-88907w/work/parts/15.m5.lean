/-! the reference's methods, fifth part: points, results, what is told -/
def crd (st : mS) (a c : Nat) : Nat → Nat → Int64 → Int64
  | 0, _, s => s
  | n + 1, i, s => crd st a c n (i + 1) (s + (if (st 31 c).toInt < (st 31 i).toInt then 0 else if (st 41 (8 * a + i)).toInt < 600 then (st 41 (8 * a + i)).toInt64 else 600))
def crr (st : mS) (a c : Nat) : Int64 := if (crd st a c (cnt st 30) 0 0).toInt < 1500 then crd st a c (cnt st 30) 0 0 else 1500
def er0 (st : mS) (a c : Nat) : Int64 := (rgt st c (st 40 (8 * a + c)).toInt64 - (st 36 a).toInt64) - dueA st (st 31 c)
def err (st : mS) (a c : Nat) : Int64 := if 0 < (er0 st a c).toInt then if 0 < (er0 st a c - crr st a c).toInt then er0 st a c - crr st a c else 0 else er0 st a c
def ooo (st : mS) (a c : Nat) : Nat → Nat → Int32 → Int32
  | 0, _, y => y
  | n + 1, i, y => ooo st a c n (i + 1) (if y = 0 then if (st 31 c).toInt < (st 31 i).toInt then if st 32 i = 0 then if 0 < (st 39 (8 * a + i)).toInt then if (st 39 (8 * a + i)).toInt < (st 39 (8 * a + c)).toInt then 1 else 0 else 0 else 0 else 0 else 1)
def oor (st : mS) (a c : Nat) : Int32 := ooo st a c (cnt st 30) 0 0
def cs0 (e : Int64) : Int64 := if e.toInt < 0 then 2 * ((9 - e) / 10) else (e + 9) / 10
def cs1 (e : Int64) : Int64 := if 300 < (cs0 e).toInt then 300 else cs0 e
def cs2 (k : Int32) (e : Int64) : Int64 := if 0 < k.toInt then cs1 e / 2 else cs1 e
def cs3 (k : Int32) (e : Int64) : Int64 := if k = 2 then if 50 < (cs2 k e).toInt then 50 else cs2 k e else cs2 k e
def pts (st : mS) (a c : Nat) : Int32 := if st 32 c = 0 then if st 39 (8 * a + c) = 0 then 300 else if oor st a c = 0 then (cs3 (st 37 a) (err st a c)).toInt32 else 100 else 0
def tot (st : mS) (a : Nat) : Nat → Nat → Int32 → Int32
  | 0, _, y => y
  | n + 1, i, y => tot st a n (i + 1) (y + pts st a i)
def ttl (st : mS) (a : Nat) : Int32 := tot st a (cnt st 30) 0 0
def fsu (st : mS) (a b : Nat) : Nat → Nat → Int32 → Int32
  | 0, _, z => z
  | n + 1, i, z => fsu st a b n (i + 1) (if pts st a i = pts st b i then z else if z.toInt < 0 then nI i else if (st 31 i).toInt < (st 31 z.toNatClampNeg).toInt then nI i else z)
def bt2 (st : mS) (a b : Nat) (z : Int32) : Prop := if z.toInt < 0 then a < b else (pts st a z.toNatClampNeg).toInt < (pts st b z.toNatClampNeg).toInt
def btr (st : mS) (a b : Nat) : Prop := if ttl st a = ttl st b then bt2 st a b (fsu st a b (cnt st 30) 0 (-1)) else (ttl st a).toInt < (ttl st b).toInt
noncomputable def sp_error (st : mS) (a c : Int32) : Int64 := if inN a (st 0 35) then if inN c (st 0 30) then if st 39 (8 * a.toNatClampNeg + c.toNatClampNeg) = 0 then LOST else @ite _ (hasD st) (Classical.propDecidable _) (err st a.toNatClampNeg c.toNatClampNeg) LOST else LOST else LOST
noncomputable def sp_points (st : mS) (a c : Int32) : Int32 := if inN a (st 0 35) then if inN c (st 0 30) then @ite _ (hasD st) (Classical.propDecidable _) (pts st a.toNatClampNeg c.toNatClampNeg) (-3) else -1 else -1
noncomputable def rnk (st : mS) (a : Nat) : Nat → Nat → Int32 → Int32
  | 0, _, y => y + 1
  | n + 1, i, y => rnk st a n (i + 1) (y + (if i = a then 0 else bI (btr st i a)))
def cn2 (st : mS) (a : Nat) (w : Int32) : Nat → Nat → Int32 → Int32
  | 0, _, y => y
  | n + 1, i, y => cn2 st a w n (i + 1) (y + (if st 32 i = 0 then if w = 2 then if 0 < (st 39 (8 * a + i)).toInt then 0 else 1 else if 0 < (st 39 (8 * a + i)).toInt then if oor st a i = 0 then 0 else 1 else 0 else 0))
noncomputable def sp_result (st : mS) (a w : Int32) : Int32 := if inN a (st 0 35) then if inB w 0 3 then @ite _ (hasD st) (Classical.propDecidable _) (if w = 0 then ttl st a.toNatClampNeg else if w = 1 then rnk st a.toNatClampNeg (cnt st 35) 0 0 else cn2 st a.toNatClampNeg w (cnt st 30) 0 0) (-3) else -2 else -1
def tr1 (st : mS) (n : Int32) : mS := mu st 0 42 (31 * st 0 42 + n)
def sp_tell (st : mS) (r : Int32) : Int32 × mS :=
  if inN r (st 0 1) then (if st 5 r.toNatClampNeg = 1 then 1 + st 4 r.toNatClampNeg else if st 7 r.toNatClampNeg = 0 then st 4 r.toNatClampNeg else -st 4 r.toNatClampNeg, tr1 (if 0 < (st 5 r.toNatClampNeg).toInt then if st 5 r.toNatClampNeg = 1 then tr1 st 2 else tr1 st 3 else st) 1) else (-1, st)
def sp_greet (st : mS) (a : Int32) : Int32 × mS :=
  if inN a (st 0 35) then if st 37 a.toNatClampNeg = 0 then (10 * a, tr1 st 4) else if st 37 a.toNatClampNeg = 2 then (8, tr1 (tr1 st 6) 5) else (7, tr1 st 5) else (-1, st)
def sp_as (st : mS) (a k : Int32) : Int32 × mS :=
  if inN a (st 0 35) then if inB k 0 2 then if (st 37 a.toNatClampNeg).toInt < k.toInt then (-12, mu st 0 0 2) else (1, mu st 0 0 0) else (-2, mu st 0 0 0) else (-1, mu st 0 0 0)
def sp_told (st : mS) (w : Int32) : Int32 := if w = 0 then st 0 1 else if w = 1 then st 0 24 else if w = 2 then if st 0 24 = 0 then 0 else st 0 25 else if w = 3 then st 0 27 else if w = 4 then st 0 30 else if w = 5 then st 0 35 else if w = 6 then st 0 12 else if w = 7 then st 0 14 else -2
def sp_laid (st : mS) (i : Int32) : Int32 := if inN i (st 0 24) then st 26 i.toNatClampNeg else -1
set_option maxHeartbeats 4000000 in
set_option maxRecDepth 100000 in
theorem mt_carried (l : Launch) (G : mG) (st : mS) (a : Nat) (c_ : Nat)  (ha : a < 8) (hc : c_ < cnt st 30) (hC : 0 ≤ (st 0 30).toInt ∧ (st 0 30).toInt ≤ 8) : Met l yX1_carried (ws_ yX1_carried cX1_carried 7 (some .long)) (mR 0) (mP G [.int (nI a), .int (nI c_)] st) (mQ G (some (.long (crr st a c_))) (st)) 0 0 (mA G) := by
  refine m_head (As := [.int (nI a), .int (nI c_)]) (bytes := cX1_carried) (maxL := 7) (ret := (some .long)) (by decide) rfl (Nat.le_of_ble_eq_true rfl) ?_
  intro p e s m below meth c E hml hr hlk hw ls hl
  have hx := E.1
  have hb := E.2.1
  have hts := E.2.2.1
  have hown := E.2.2.2.1
  have hl : lv_has ls 7 [(0, .ref G.1), (1, .int (nI a)), (2, .int (nI c_))] := hl
  have hCn := cnt_n hC.1
  have hCi := cnt_i hC.1
  refine lv_lconst (pc := 0) (v := 0) hx hb dX1_carried_0 (by decide) ?_
  refine lv_lstore_n (pc := 1) (lv' := [(3, .long 0), (0, .ref G.1), (1, .int (nI a)), (2, .int (nI c_))]) hx hb dX1_carried_1 rfl hl (by decide) rfl (fun ls hl => ?_)
  refine lv_iconst (pc := 2) (v := 0) hx hb dX1_carried_2 (by decide) ?_
  refine lv_istore (pc := 3) (lv' := [(5, .int 0), (3, .long 0), (0, .ref G.1), (1, .int (nI a)), (2, .int (nI c_))]) hx hb dX1_carried_3 hl (by decide) rfl (fun ls hl => ?_)
  have loop : ∀ (n : Nat) (i : Nat) (s_ : Int64), i + n = cnt st 30 → ∀ (H : Heap) (locs : List Loc), mWd G s.heap st H locs → ∀ ls : Array Slot, lv_has ls 7 [(0, .ref G.1), (1, .int (nI a)), (2, .int (nI c_)), (3, .long s_), (5, .int (nI i))] → W p l e (mR 0) s m (Value.ref G.1 :: [.int (nI a), .int (nI c_)] : List Value).toArray below meth c H locs 0 0 (MQ below (mQ G (some (.long (if (crd st a c_ n i s_).toInt < 1500 then crd st a c_ n i s_ else 1500))) (st)) (Value.ref G.1 :: [.int (nI a), .int (nI c_)] : List Value).toArray s 0 0 (mA G)) (F0 m 5 ls []) := by
    intro n
    induction n with
    | zero =>
      intro i s_ hi H locs hw ls hl
      refine lv_iload (pc := 5) hx hb dX1_carried_5 (lv_at hl 4 rfl) ?_
      refine lv_aload_n (pc := 7) hx hb dX1_carried_7 rfl (lv_at hl 0 rfl) ?_
      refine m_getv (pc := 8) (v := (nI (cnt st 30))) E hw 30 (by decide) rfl hCn q1122 dX1_carried_8 ?_
      refine li_icmp_geN (pc := 11) (a := i) (b := cnt st 30) (tgt := 74) hx hb (by omega) (by omega) dX1_carried_11 (by decide) (fun c_1 => ?_) (fun c_1 => absurd c_1 (by omega))
      refine lv_lload_n (pc := 74) hx hb dX1_carried_74 rfl (lv_at hl 3 rfl) ?_
      refine lv_ldc2 (pc := 75) hx hb hown (hts _ q1434) dX1_carried_75 ?_
      refine ll_geL (pc := 78) (Y := 1500) (tgt := 86) hx hb rfl dX1_carried_78 dX1_carried_79 (by decide) (fun c_2 => ?_) (fun c_2 => ?_)
      · refine lv_ldc2 (pc := 86) hx hb hown (hts _ q1434) dX1_carried_86 ?_
        exact m_lret E hr hlk hw dX1_carried_89 (by simp only [crd, c_2, if_true, if_false]) rfl
      · refine lv_lload_n (pc := 82) hx hb dX1_carried_82 rfl (lv_at hl 3 rfl) ?_
        refine lv_goto (pc := 83) (tgt := 89) hx hb dX1_carried_83 (by decide) ?_
        exact m_lret E hr hlk hw dX1_carried_89 (by simp only [crd, c_2, if_true, if_false]) rfl
    | succ n ih_loop =>
      intro i s_ hi H locs hw ls hl
      refine lv_iload (pc := 5) hx hb dX1_carried_5 (lv_at hl 4 rfl) ?_
      refine lv_aload_n (pc := 7) hx hb dX1_carried_7 rfl (lv_at hl 0 rfl) ?_
      refine m_getv (pc := 8) (v := (nI (cnt st 30))) E hw 30 (by decide) rfl hCn q1122 dX1_carried_8 ?_
      refine li_icmp_geN (pc := 11) (a := i) (b := cnt st 30) (tgt := 74) hx hb (by omega) (by omega) dX1_carried_11 (by decide) (fun c_3 => absurd c_3 (by omega)) (fun c_3 => ?_)
      refine lv_aload_n (pc := 14) hx hb dX1_carried_14 rfl (lv_at hl 0 rfl) ?_
      refine m_geta (pc := 15) E hw 41 (by decide) (by decide) q1133 dX1_carried_15 ?_
      refine lv_bipush (pc := 18) (v := 8) hx hb dX1_carried_18 (by decide) ?_
      refine lv_iload_n (pc := 20) hx hb dX1_carried_20 rfl (lv_at hl 1 rfl) ?_
      refine li_mulN (pc := 21) (a := 8) (b := a) hx hb dX1_carried_21 ?_
      refine lv_iload (pc := 22) hx hb dX1_carried_22 (lv_at hl 4 rfl) ?_
      refine li_addN (pc := 24) (a := 8 * a) (b := i) hx hb dX1_carried_24 ?_
      refine m_aldN (pc := 25) (v := (st 41 ((8 * a) + i))) E hw 41 ((8 * a) + i) (by decide) rfl (show (8 * a) + i < 64 from (by omega)) (by decide) rfl dX1_carried_25 ?_
      refine lv_istore (pc := 26) (lv' := [(6, .int (st 41 ((8 * a) + i))), (0, .ref G.1), (1, .int (nI a)), (2, .int (nI c_)), (3, .long s_), (5, .int (nI i))]) hx hb dX1_carried_26 hl (by decide) rfl (fun ls hl => ?_)
      refine lv_lload_n (pc := 28) hx hb dX1_carried_28 rfl (lv_at hl 4 rfl) ?_
      refine lv_aload_n (pc := 29) hx hb dX1_carried_29 rfl (lv_at hl 1 rfl) ?_
      refine m_geta (pc := 30) E hw 31 (by decide) (by decide) q1123 dX1_carried_30 ?_
      refine lv_iload (pc := 33) hx hb dX1_carried_33 (lv_at hl 5 rfl) ?_
      refine m_aldN (pc := 35) (v := (st 31 i)) E hw 31 (i) (by decide) rfl (show i < 8 from (by omega)) (by decide) rfl dX1_carried_35 ?_
      refine lv_aload_n (pc := 36) hx hb dX1_carried_36 rfl (lv_at hl 1 rfl) ?_
      refine m_geta (pc := 37) E hw 31 (by decide) (by decide) q1123 dX1_carried_37 ?_
      refine lv_iload_n (pc := 40) hx hb dX1_carried_40 rfl (lv_at hl 3 rfl) ?_
      refine m_aldN (pc := 41) (v := (st 31 c_)) E hw 31 (c_) (by decide) rfl (show c_ < 8 from (by omega)) (by decide) rfl dX1_carried_41 ?_
      refine li_icmp_gt (pc := 42) (tgt := 65) hx hb dX1_carried_42 (by decide) (fun c_4 => ?_) (fun c_4 => ?_)
      · refine lv_lconst (pc := 65) (v := 0) hx hb dX1_carried_65 (by decide) ?_
        refine lv_ladd (pc := 66) hx hb dX1_carried_66 ?_
        refine lv_lstore_n (pc := 67) (lv' := [(3, .long (s_ + 0)), (6, .int (st 41 ((8 * a) + i))), (0, .ref G.1), (1, .int (nI a)), (2, .int (nI c_)), (5, .int (nI i))]) hx hb dX1_carried_67 rfl hl (by decide) rfl (fun ls hl => ?_)
        refine lv_iinc (pc := 68) (v := (nI (i + 1))) (lv' := [(5, .int (nI (i + 1))), (3, .long (s_ + 0)), (6, .int (st 41 ((8 * a) + i))), (0, .ref G.1), (1, .int (nI a)), (2, .int (nI c_))]) hx hb dX1_carried_68 hl (k := 5) rfl (nI_1 _) (by decide) rfl (fun ls hl => ?_)
        refine lv_goto (pc := 71) (tgt := 5) hx hb dX1_carried_71 (by decide) ?_
        exact m_to (by simp only [crd, if_pos c_4]) rfl (ih_loop (i + 1) (s_ + 0) (by omega) _ _ hw _ (lv_sub hl [3, 4, 5, 1, 0] rfl))
      · refine lv_iload (pc := 45) hx hb dX1_carried_45 (lv_at hl 0 rfl) ?_
        refine lv_sipush (pc := 47) (v := 600) hx hb dX1_carried_47 (by decide) ?_
        refine li_icmp_geL (pc := 50) (Y := 600) (tgt := 59) hx hb rfl dX1_carried_50 (by decide) (fun c_5 => ?_) (fun c_5 => ?_)
        · refine lv_ldc2 (pc := 59) hx hb hown (hts _ q1372) dX1_carried_59 ?_
          refine lv_goto (pc := 62) (tgt := 66) hx hb dX1_carried_62 (by decide) ?_
          refine lv_ladd (pc := 66) hx hb dX1_carried_66 ?_
          refine lv_lstore_n (pc := 67) (lv' := [(3, .long (s_ + 600)), (6, .int (st 41 ((8 * a) + i))), (0, .ref G.1), (1, .int (nI a)), (2, .int (nI c_)), (5, .int (nI i))]) hx hb dX1_carried_67 rfl hl (by decide) rfl (fun ls hl => ?_)
          refine lv_iinc (pc := 68) (v := (nI (i + 1))) (lv' := [(5, .int (nI (i + 1))), (3, .long (s_ + 600)), (6, .int (st 41 ((8 * a) + i))), (0, .ref G.1), (1, .int (nI a)), (2, .int (nI c_))]) hx hb dX1_carried_68 hl (k := 5) rfl (nI_1 _) (by decide) rfl (fun ls hl => ?_)
          refine lv_goto (pc := 71) (tgt := 5) hx hb dX1_carried_71 (by decide) ?_
          exact m_to (by simp only [crd, if_neg c_4, if_neg c_5]) rfl (ih_loop (i + 1) (s_ + 600) (by omega) _ _ hw _ (lv_sub hl [3, 4, 5, 1, 0] rfl))
        · refine lv_iload (pc := 53) hx hb dX1_carried_53 (lv_at hl 0 rfl) ?_
          refine lv_i2l (pc := 55) (v := (st 41 ((8 * a) + i)).toInt64) hx hb dX1_carried_55 rfl ?_
          refine lv_goto (pc := 56) (tgt := 66) hx hb dX1_carried_56 (by decide) ?_
          refine lv_ladd (pc := 66) hx hb dX1_carried_66 ?_
          refine lv_lstore_n (pc := 67) (lv' := [(3, .long (s_ + (st 41 ((8 * a) + i)).toInt64)), (6, .int (st 41 ((8 * a) + i))), (0, .ref G.1), (1, .int (nI a)), (2, .int (nI c_)), (5, .int (nI i))]) hx hb dX1_carried_67 rfl hl (by decide) rfl (fun ls hl => ?_)
          refine lv_iinc (pc := 68) (v := (nI (i + 1))) (lv' := [(5, .int (nI (i + 1))), (3, .long (s_ + (st 41 ((8 * a) + i)).toInt64)), (6, .int (st 41 ((8 * a) + i))), (0, .ref G.1), (1, .int (nI a)), (2, .int (nI c_))]) hx hb dX1_carried_68 hl (k := 5) rfl (nI_1 _) (by decide) rfl (fun ls hl => ?_)
          refine lv_goto (pc := 71) (tgt := 5) hx hb dX1_carried_71 (by decide) ?_
          exact m_to (by simp only [crd, if_neg c_4, if_pos c_5]) rfl (ih_loop (i + 1) (s_ + (st 41 ((8 * a) + i)).toInt64) (by omega) _ _ hw _ (lv_sub hl [3, 4, 5, 1, 0] rfl))
  exact m_to rfl rfl (loop (cnt st 30) 0 0 (by omega) _ _ hw _ (lv_sub hl [2, 3, 4, 1, 0] rfl))
set_option maxHeartbeats 4000000 in
set_option maxRecDepth 100000 in
theorem mt_errorAt (l : Launch) (G : mG) (st : mS) (a : Nat) (c_ : Nat)  (ha : a < 8) (hc : c_ < cnt st 30) (hC : 0 ≤ (st 0 30).toInt ∧ (st 0 30).toInt ≤ 8) (hQ : ∀ c, c < 8 → ¬ st 33 c = 0 → (st 34 (4 * c + 2)).toInt < (st 34 (4 * c + 3)).toInt) (hV : 0 ≤ (st 0 27).toInt ∧ (st 0 27).toInt ≤ 8) (hP : ∀ k, k < cnt st 27 → 0 < (st 29 k).toInt) (hD : hasD st) (hZ : ∀ c, c < cnt st 30 → 0 ≤ (st 31 c).toInt) : Met l yX1_errorAt (ws_ yX1_errorAt cX1_errorAt 7 (some .long)) (mR 1) (mP G [.int (nI a), .int (nI c_)] st) (mQ G (some (.long (err st a c_))) (st)) 0 0 (mA G) := by
  refine m_head (As := [.int (nI a), .int (nI c_)]) (bytes := cX1_errorAt) (maxL := 7) (ret := (some .long)) (by decide) rfl (Nat.le_of_ble_eq_true rfl) ?_
  intro p e s m below meth c E hml hr hlk hw ls hl
  have hx := E.1
  have hb := E.2.1
  have hts := E.2.2.1
  have hown := E.2.2.2.1
  have hl : lv_has ls 7 [(0, .ref G.1), (1, .int (nI a)), (2, .int (nI c_))] := hl
  have hCn := cnt_n hC.1
  have hCi := cnt_i hC.1
  refine lv_aload_n (pc := 0) hx hb dX1_errorAt_0 rfl (lv_at hl 0 rfl) ?_
  refine lv_iload_n (pc := 1) hx hb dX1_errorAt_1 rfl (lv_at hl 2 rfl) ?_
  refine lv_aload_n (pc := 2) hx hb dX1_errorAt_2 rfl (lv_at hl 0 rfl) ?_
  refine m_geta (pc := 3) E hw 40 (by decide) (by decide) q1132 dX1_errorAt_3 ?_
  refine lv_bipush (pc := 6) (v := 8) hx hb dX1_errorAt_6 (by decide) ?_
  refine lv_iload_n (pc := 8) hx hb dX1_errorAt_8 rfl (lv_at hl 1 rfl) ?_
  refine li_mulN (pc := 9) (a := 8) (b := a) hx hb dX1_errorAt_9 ?_
  refine lv_iload_n (pc := 10) hx hb dX1_errorAt_10 rfl (lv_at hl 2 rfl) ?_
  refine li_addN (pc := 11) (a := 8 * a) (b := c_) hx hb dX1_errorAt_11 ?_
  refine m_aldN (pc := 12) (v := (st 40 ((8 * a) + c_))) E hw 40 ((8 * a) + c_) (by decide) rfl (show (8 * a) + c_ < 64 from (by omega)) (by decide) rfl dX1_errorAt_12 ?_
  refine lv_i2l (pc := 13) (v := (st 40 ((8 * a) + c_)).toInt64) hx hb dX1_errorAt_13 rfl ?_
  refine m_cVi (pc := 14) (As := [.int (nI c_), .long (st 40 ((8 * a) + c_)).toInt64]) (rest := []) E hml hl.1 hw (mt_rightAt l G (st) c_ (st 40 ((8 * a) + c_)).toInt64 (by omega) hQ) q1397 q1399 qs38 q1400 hdX1_rightAt ⟨Nat.le_of_ble_eq_true rfl, Nat.le_of_ble_eq_true rfl⟩ rfl rfl rfl (Nat.le_of_ble_eq_true rfl) dX1_errorAt_14 (fun H locs hw => ?_)
  refine lv_aload_n (pc := 17) hx hb dX1_errorAt_17 rfl (lv_at hl 0 rfl) ?_
  refine m_geta (pc := 18) E hw 36 (by decide) (by decide) q1128 dX1_errorAt_18 ?_
  refine lv_iload_n (pc := 21) hx hb dX1_errorAt_21 rfl (lv_at hl 1 rfl) ?_
  refine m_aldN (pc := 22) (v := (st 36 a)) E hw 36 (a) (by decide) rfl (show a < 8 from (by omega)) (by decide) rfl dX1_errorAt_22 ?_
  refine lv_i2l (pc := 23) (v := (st 36 a).toInt64) hx hb dX1_errorAt_23 rfl ?_
  refine lv_lsub (pc := 24) hx hb dX1_errorAt_24 ?_
  refine lv_aload_n (pc := 25) hx hb dX1_errorAt_25 rfl (lv_at hl 0 rfl) ?_
  refine lv_aload_n (pc := 26) hx hb dX1_errorAt_26 rfl (lv_at hl 0 rfl) ?_
  refine m_geta (pc := 27) E hw 31 (by decide) (by decide) q1123 dX1_errorAt_27 ?_
  refine lv_iload_n (pc := 30) hx hb dX1_errorAt_30 rfl (lv_at hl 2 rfl) ?_
  refine m_aldN (pc := 31) (v := (st 31 c_)) E hw 31 (c_) (by decide) rfl (show c_ < 8 from (by omega)) (by decide) rfl dX1_errorAt_31 ?_
  refine m_cVi (pc := 32) (As := [.int (st 31 c_)]) (rest := [.long ((rgt st c_ (st 40 ((8 * a) + c_)).toInt64) - (st 36 a).toInt64)]) E hml hl.1 hw (mt_dueAt l G (st) (st 31 c_) (hZ c_ hc) hV hP hD) q1368 q1370 qs36 q1371 hdX1_dueAt ⟨Nat.le_of_ble_eq_true rfl, Nat.le_of_ble_eq_true rfl⟩ rfl rfl rfl (Nat.le_of_ble_eq_true rfl) dX1_errorAt_32 (fun H locs hw => ?_)
  refine lv_lsub (pc := 35) hx hb dX1_errorAt_35 ?_
  refine lv_lstore_n (pc := 36) (lv' := [(3, .long (((rgt st c_ (st 40 ((8 * a) + c_)).toInt64) - (st 36 a).toInt64) - (dueA st (st 31 c_)))), (0, .ref G.1), (1, .int (nI a)), (2, .int (nI c_))]) hx hb dX1_errorAt_36 rfl hl (by decide) rfl (fun ls hl => ?_)
  refine lv_lload_n (pc := 37) hx hb dX1_errorAt_37 rfl (lv_at hl 0 rfl) ?_
  refine lv_lconst (pc := 38) (v := 0) hx hb dX1_errorAt_38 (by decide) ?_
  refine ll_gtL (pc := 39) (Y := 0) (tgt := 45) hx hb rfl dX1_errorAt_39 dX1_errorAt_40 (by decide) (fun c_1 => ?_) (fun c_1 => ?_)
  · refine lv_lload_n (pc := 45) hx hb dX1_errorAt_45 rfl (lv_at hl 0 rfl) ?_
    refine lv_aload_n (pc := 46) hx hb dX1_errorAt_46 rfl (lv_at hl 1 rfl) ?_
    refine lv_iload_n (pc := 47) hx hb dX1_errorAt_47 rfl (lv_at hl 2 rfl) ?_
    refine lv_iload_n (pc := 48) hx hb dX1_errorAt_48 rfl (lv_at hl 3 rfl) ?_
    refine m_cVi (pc := 49) (As := [.int (nI a), .int (nI c_)]) (rest := [.long (((rgt st c_ (st 40 ((8 * a) + c_)).toInt64) - (st 36 a).toInt64) - (dueA st (st 31 c_)))]) E hml hl.1 hw (mt_carried l G (st) a c_ (by omega) (by omega) hC) q1430 q1432 qs41 q1433 hdX1_carried ⟨Nat.le_of_ble_eq_true rfl, Nat.le_of_ble_eq_true rfl⟩ rfl rfl rfl (Nat.le_of_ble_eq_true rfl) dX1_errorAt_49 (fun H locs hw => ?_)
    refine lv_lsub (pc := 52) hx hb dX1_errorAt_52 ?_
    refine lv_lstore (pc := 53) (lv' := [(5, .long ((((rgt st c_ (st 40 ((8 * a) + c_)).toInt64) - (st 36 a).toInt64) - (dueA st (st 31 c_))) - (crr st a c_))), (3, .long (((rgt st c_ (st 40 ((8 * a) + c_)).toInt64) - (st 36 a).toInt64) - (dueA st (st 31 c_)))), (0, .ref G.1), (1, .int (nI a)), (2, .int (nI c_))]) hx hb dX1_errorAt_53 hl (by decide) rfl (fun ls hl => ?_)
    refine lv_lload (pc := 55) hx hb dX1_errorAt_55 (lv_at hl 0 rfl) ?_
    refine lv_lconst (pc := 57) (v := 0) hx hb dX1_errorAt_57 (by decide) ?_
    refine ll_leL (pc := 58) (Y := 0) (tgt := 67) hx hb rfl dX1_errorAt_58 dX1_errorAt_59 (by decide) (fun c_2 => ?_) (fun c_2 => ?_)
    · refine lv_lconst (pc := 67) (v := 0) hx hb dX1_errorAt_67 (by decide) ?_
      exact m_lret E hr hlk hw dX1_errorAt_68 (by first | (simp only [err, er0, if_pos c_1, if_neg c_2]; done) | contradiction | (simp only [err, er0, c_1, c_2, if_true, if_false]; done)) rfl
    · refine lv_lload (pc := 62) hx hb dX1_errorAt_62 (lv_at hl 0 rfl) ?_
      refine lv_goto (pc := 64) (tgt := 68) hx hb dX1_errorAt_64 (by decide) ?_
      exact m_lret E hr hlk hw dX1_errorAt_68 (by first | (simp only [err, er0, if_pos c_1, if_pos c_2]; done) | contradiction | (simp only [err, er0, c_1, c_2, if_true, if_false]; done)) rfl
  · refine lv_lload_n (pc := 43) hx hb dX1_errorAt_43 rfl (lv_at hl 0 rfl) ?_
    exact m_lret E hr hlk hw dX1_errorAt_44 (by first | (simp only [err, er0, if_neg c_1]; done) | contradiction | (simp only [err, er0, c_1, if_true, if_false]; done)) rfl
set_option maxHeartbeats 4000000 in
set_option maxRecDepth 100000 in
theorem mt_isOutOfOrder (l : Launch) (G : mG) (st : mS) (a : Nat) (c_ : Nat)  (ha : a < 8) (hc : c_ < cnt st 30) (hC : 0 ≤ (st 0 30).toInt ∧ (st 0 30).toInt ≤ 8) : Met l yX1_isOutOfOrder (ws_ yX1_isOutOfOrder cX1_isOutOfOrder 7 (some .boolean)) (mR 0) (mP G [.int (nI a), .int (nI c_)] st) (mQ G (some (.int (oor st a c_))) (st)) 0 0 (mA G) := by
  refine m_head (As := [.int (nI a), .int (nI c_)]) (bytes := cX1_isOutOfOrder) (maxL := 7) (ret := (some .boolean)) (by decide) rfl (Nat.le_of_ble_eq_true rfl) ?_
  intro p e s m below meth c E hml hr hlk hw ls hl
  have hx := E.1
  have hb := E.2.1
  have hts := E.2.2.1
  have hown := E.2.2.2.1
  have hl : lv_has ls 7 [(0, .ref G.1), (1, .int (nI a)), (2, .int (nI c_))] := hl
  have hCn := cnt_n hC.1
  have hCi := cnt_i hC.1
  refine lv_aload_n (pc := 0) hx hb dX1_isOutOfOrder_0 rfl (lv_at hl 0 rfl) ?_
  refine m_geta (pc := 1) E hw 39 (by decide) (by decide) q1131 dX1_isOutOfOrder_1 ?_
  refine lv_bipush (pc := 4) (v := 8) hx hb dX1_isOutOfOrder_4 (by decide) ?_
  refine lv_iload_n (pc := 6) hx hb dX1_isOutOfOrder_6 rfl (lv_at hl 1 rfl) ?_
  refine li_mulN (pc := 7) (a := 8) (b := a) hx hb dX1_isOutOfOrder_7 ?_
  refine lv_iload_n (pc := 8) hx hb dX1_isOutOfOrder_8 rfl (lv_at hl 2 rfl) ?_
  refine li_addN (pc := 9) (a := 8 * a) (b := c_) hx hb dX1_isOutOfOrder_9 ?_
  refine m_aldN (pc := 10) (v := (st 39 ((8 * a) + c_))) E hw 39 ((8 * a) + c_) (by decide) rfl (show (8 * a) + c_ < 64 from (by omega)) (by decide) rfl dX1_isOutOfOrder_10 ?_
  refine lv_istore_n (pc := 11) (lv' := [(3, .int (st 39 ((8 * a) + c_))), (0, .ref G.1), (1, .int (nI a)), (2, .int (nI c_))]) hx hb dX1_isOutOfOrder_11 rfl hl (by decide) rfl (fun ls hl => ?_)
  refine lv_iconst (pc := 12) (v := 0) hx hb dX1_isOutOfOrder_12 (by decide) ?_
  refine lv_istore (pc := 13) (lv' := [(4, .int 0), (3, .int (st 39 ((8 * a) + c_))), (0, .ref G.1), (1, .int (nI a)), (2, .int (nI c_))]) hx hb dX1_isOutOfOrder_13 hl (by decide) rfl (fun ls hl => ?_)
  refine lv_iconst (pc := 15) (v := 0) hx hb dX1_isOutOfOrder_15 (by decide) ?_
  refine lv_istore (pc := 16) (lv' := [(5, .int 0), (4, .int 0), (3, .int (st 39 ((8 * a) + c_))), (0, .ref G.1), (1, .int (nI a)), (2, .int (nI c_))]) hx hb dX1_isOutOfOrder_16 hl (by decide) rfl (fun ls hl => ?_)
  have loop : ∀ (n : Nat) (i : Nat) (y : Int32), i + n = cnt st 30 → (y = 0 ∨ y = 1) → ∀ (H : Heap) (locs : List Loc), mWd G s.heap st H locs → ∀ ls : Array Slot, lv_has ls 7 [(0, .ref G.1), (1, .int (nI a)), (2, .int (nI c_)), (3, .int (st 39 (8 * a + c_))), (4, .int y), (5, .int (nI i))] → W p l e (mR 0) s m (Value.ref G.1 :: [.int (nI a), .int (nI c_)] : List Value).toArray below meth c H locs 0 0 (MQ below (mQ G (some (.int (ooo st a c_ n i y))) (st)) (Value.ref G.1 :: [.int (nI a), .int (nI c_)] : List Value).toArray s 0 0 (mA G)) (F0 m 18 ls []) := by
    intro n
    induction n with
    | zero =>
      intro i y hi hy H locs hw ls hl
      refine lv_iload (pc := 18) hx hb dX1_isOutOfOrder_18 (lv_at hl 5 rfl) ?_
      refine lv_aload_n (pc := 20) hx hb dX1_isOutOfOrder_20 rfl (lv_at hl 0 rfl) ?_
      refine m_getv (pc := 21) (v := (nI (cnt st 30))) E hw 30 (by decide) rfl hCn q1122 dX1_isOutOfOrder_21 ?_
      refine li_icmp_geN (pc := 24) (a := i) (b := cnt st 30) (tgt := 96) hx hb (by omega) (by omega) dX1_isOutOfOrder_24 (by decide) (fun c_1 => ?_) (fun c_1 => absurd c_1 (by omega))
      refine lv_iload (pc := 96) hx hb dX1_isOutOfOrder_96 (lv_at hl 4 rfl) ?_
      exact m_zret E hr hlk hw dX1_isOutOfOrder_98 (b01_nar hy) rfl rfl
    | succ n ih_loop =>
      intro i y hi hy H locs hw ls hl
      refine lv_iload (pc := 18) hx hb dX1_isOutOfOrder_18 (lv_at hl 5 rfl) ?_
      refine lv_aload_n (pc := 20) hx hb dX1_isOutOfOrder_20 rfl (lv_at hl 0 rfl) ?_
      refine m_getv (pc := 21) (v := (nI (cnt st 30))) E hw 30 (by decide) rfl hCn q1122 dX1_isOutOfOrder_21 ?_
      refine li_icmp_geN (pc := 24) (a := i) (b := cnt st 30) (tgt := 96) hx hb (by omega) (by omega) dX1_isOutOfOrder_24 (by decide) (fun c_2 => absurd c_2 (by omega)) (fun c_2 => ?_)
      refine lv_aload_n (pc := 27) hx hb dX1_isOutOfOrder_27 rfl (lv_at hl 0 rfl) ?_
      refine m_geta (pc := 28) E hw 39 (by decide) (by decide) q1131 dX1_isOutOfOrder_28 ?_
      refine lv_bipush (pc := 31) (v := 8) hx hb dX1_isOutOfOrder_31 (by decide) ?_
      refine lv_iload_n (pc := 33) hx hb dX1_isOutOfOrder_33 rfl (lv_at hl 1 rfl) ?_
      refine li_mulN (pc := 34) (a := 8) (b := a) hx hb dX1_isOutOfOrder_34 ?_
      refine lv_iload (pc := 35) hx hb dX1_isOutOfOrder_35 (lv_at hl 5 rfl) ?_
      refine li_addN (pc := 37) (a := 8 * a) (b := i) hx hb dX1_isOutOfOrder_37 ?_
      refine m_aldN (pc := 38) (v := (st 39 ((8 * a) + i))) E hw 39 ((8 * a) + i) (by decide) rfl (show (8 * a) + i < 64 from (by omega)) (by decide) rfl dX1_isOutOfOrder_38 ?_
      refine lv_istore (pc := 39) (lv' := [(6, .int (st 39 ((8 * a) + i))), (0, .ref G.1), (1, .int (nI a)), (2, .int (nI c_)), (3, .int (st 39 (8 * a + c_))), (4, .int y), (5, .int (nI i))]) hx hb dX1_isOutOfOrder_39 hl (by decide) rfl (fun ls hl => ?_)
      refine lv_iload (pc := 41) hx hb dX1_isOutOfOrder_41 (lv_at hl 5 rfl) ?_
      refine li_ne (pc := 43) (tgt := 83) hx hb dX1_isOutOfOrder_43 (by decide) (fun c_3 => ?_) (fun c_3 => ?_)
      · refine lv_iconst (pc := 83) (v := 1) hx hb dX1_isOutOfOrder_83 (by decide) ?_
        refine lv_goto (pc := 84) (tgt := 88) hx hb dX1_isOutOfOrder_84 (by decide) ?_
        refine lv_istore (pc := 88) (lv' := [(4, .int 1), (6, .int (st 39 ((8 * a) + i))), (0, .ref G.1), (1, .int (nI a)), (2, .int (nI c_)), (3, .int (st 39 (8 * a + c_))), (5, .int (nI i))]) hx hb dX1_isOutOfOrder_88 hl (by decide) rfl (fun ls hl => ?_)
        refine lv_iinc (pc := 90) (v := (nI (i + 1))) (lv' := [(5, .int (nI (i + 1))), (4, .int 1), (6, .int (st 39 ((8 * a) + i))), (0, .ref G.1), (1, .int (nI a)), (2, .int (nI c_)), (3, .int (st 39 (8 * a + c_)))]) hx hb dX1_isOutOfOrder_90 hl (k := 6) rfl (nI_1 _) (by decide) rfl (fun ls hl => ?_)
        refine lv_goto (pc := 93) (tgt := 18) hx hb dX1_isOutOfOrder_93 (by decide) ?_
        exact m_to (by simp only [ooo, if_neg c_3]) rfl (ih_loop (i + 1) 1 (by omega) (Or.inr rfl) _ _ hw _ (lv_sub hl [3, 4, 5, 6, 1, 0] rfl))
      · refine lv_aload_n (pc := 46) hx hb dX1_isOutOfOrder_46 rfl (lv_at hl 1 rfl) ?_
        refine m_geta (pc := 47) E hw 31 (by decide) (by decide) q1123 dX1_isOutOfOrder_47 ?_
        refine lv_iload (pc := 50) hx hb dX1_isOutOfOrder_50 (lv_at hl 6 rfl) ?_
        refine m_aldN (pc := 52) (v := (st 31 i)) E hw 31 (i) (by decide) rfl (show i < 8 from (by omega)) (by decide) rfl dX1_isOutOfOrder_52 ?_
        refine lv_aload_n (pc := 53) hx hb dX1_isOutOfOrder_53 rfl (lv_at hl 1 rfl) ?_
        refine m_geta (pc := 54) E hw 31 (by decide) (by decide) q1123 dX1_isOutOfOrder_54 ?_
        refine lv_iload_n (pc := 57) hx hb dX1_isOutOfOrder_57 rfl (lv_at hl 3 rfl) ?_
        refine m_aldN (pc := 58) (v := (st 31 c_)) E hw 31 (c_) (by decide) rfl (show c_ < 8 from (by omega)) (by decide) rfl dX1_isOutOfOrder_58 ?_
        refine li_icmp_le (pc := 59) (tgt := 87) hx hb dX1_isOutOfOrder_59 (by decide) (fun c_4 => ?_) (fun c_4 => ?_)
        · refine lv_iconst (pc := 87) (v := 0) hx hb dX1_isOutOfOrder_87 (by decide) ?_
          refine lv_istore (pc := 88) (lv' := [(4, .int 0), (6, .int (st 39 ((8 * a) + i))), (0, .ref G.1), (1, .int (nI a)), (2, .int (nI c_)), (3, .int (st 39 (8 * a + c_))), (5, .int (nI i))]) hx hb dX1_isOutOfOrder_88 hl (by decide) rfl (fun ls hl => ?_)
          refine lv_iinc (pc := 90) (v := (nI (i + 1))) (lv' := [(5, .int (nI (i + 1))), (4, .int 0), (6, .int (st 39 ((8 * a) + i))), (0, .ref G.1), (1, .int (nI a)), (2, .int (nI c_)), (3, .int (st 39 (8 * a + c_)))]) hx hb dX1_isOutOfOrder_90 hl (k := 6) rfl (nI_1 _) (by decide) rfl (fun ls hl => ?_)
          refine lv_goto (pc := 93) (tgt := 18) hx hb dX1_isOutOfOrder_93 (by decide) ?_
          exact m_to (by simp only [ooo, if_pos c_3, if_neg c_4]) rfl (ih_loop (i + 1) 0 (by omega) (Or.inl rfl) _ _ hw _ (lv_sub hl [3, 4, 5, 6, 1, 0] rfl))
        · refine lv_aload_n (pc := 62) hx hb dX1_isOutOfOrder_62 rfl (lv_at hl 1 rfl) ?_
          refine m_geta (pc := 63) E hw 32 (by decide) (by decide) q1124 dX1_isOutOfOrder_63 ?_
          refine lv_iload (pc := 66) hx hb dX1_isOutOfOrder_66 (lv_at hl 6 rfl) ?_
          refine m_zldN (pc := 68) (v := (st 32 i)) E hw 32 (i) (by decide) rfl (show i < 8 from (by omega)) (by decide) rfl dX1_isOutOfOrder_68 ?_
          refine li_ne (pc := 69) (tgt := 87) hx hb dX1_isOutOfOrder_69 (by decide) (fun c_5 => ?_) (fun c_5 => ?_)
          · refine lv_iconst (pc := 87) (v := 0) hx hb dX1_isOutOfOrder_87 (by decide) ?_
            refine lv_istore (pc := 88) (lv' := [(4, .int 0), (6, .int (st 39 ((8 * a) + i))), (0, .ref G.1), (1, .int (nI a)), (2, .int (nI c_)), (3, .int (st 39 (8 * a + c_))), (5, .int (nI i))]) hx hb dX1_isOutOfOrder_88 hl (by decide) rfl (fun ls hl => ?_)
            refine lv_iinc (pc := 90) (v := (nI (i + 1))) (lv' := [(5, .int (nI (i + 1))), (4, .int 0), (6, .int (st 39 ((8 * a) + i))), (0, .ref G.1), (1, .int (nI a)), (2, .int (nI c_)), (3, .int (st 39 (8 * a + c_)))]) hx hb dX1_isOutOfOrder_90 hl (k := 6) rfl (nI_1 _) (by decide) rfl (fun ls hl => ?_)
            refine lv_goto (pc := 93) (tgt := 18) hx hb dX1_isOutOfOrder_93 (by decide) ?_
            exact m_to (by simp only [ooo, if_pos c_3, if_pos c_4, if_neg c_5]) rfl (ih_loop (i + 1) 0 (by omega) (Or.inl rfl) _ _ hw _ (lv_sub hl [3, 4, 5, 6, 1, 0] rfl))
          · refine lv_iload (pc := 72) hx hb dX1_isOutOfOrder_72 (lv_at hl 0 rfl) ?_
            refine li_if_le (pc := 74) (tgt := 87) hx hb dX1_isOutOfOrder_74 (by decide) (fun c_6 => ?_) (fun c_6 => ?_)
            · refine lv_iconst (pc := 87) (v := 0) hx hb dX1_isOutOfOrder_87 (by decide) ?_
              refine lv_istore (pc := 88) (lv' := [(4, .int 0), (6, .int (st 39 ((8 * a) + i))), (0, .ref G.1), (1, .int (nI a)), (2, .int (nI c_)), (3, .int (st 39 (8 * a + c_))), (5, .int (nI i))]) hx hb dX1_isOutOfOrder_88 hl (by decide) rfl (fun ls hl => ?_)
              refine lv_iinc (pc := 90) (v := (nI (i + 1))) (lv' := [(5, .int (nI (i + 1))), (4, .int 0), (6, .int (st 39 ((8 * a) + i))), (0, .ref G.1), (1, .int (nI a)), (2, .int (nI c_)), (3, .int (st 39 (8 * a + c_)))]) hx hb dX1_isOutOfOrder_90 hl (k := 6) rfl (nI_1 _) (by decide) rfl (fun ls hl => ?_)
              refine lv_goto (pc := 93) (tgt := 18) hx hb dX1_isOutOfOrder_93 (by decide) ?_
              exact m_to (by simp only [ooo, if_pos c_3, if_pos c_4, if_pos c_5, if_neg c_6]) rfl (ih_loop (i + 1) 0 (by omega) (Or.inl rfl) _ _ hw _ (lv_sub hl [3, 4, 5, 6, 1, 0] rfl))
            · refine lv_iload (pc := 77) hx hb dX1_isOutOfOrder_77 (lv_at hl 0 rfl) ?_
              refine lv_iload_n (pc := 79) hx hb dX1_isOutOfOrder_79 rfl (lv_at hl 4 rfl) ?_
              refine li_icmp_ge (pc := 80) (tgt := 87) hx hb dX1_isOutOfOrder_80 (by decide) (fun c_7 => ?_) (fun c_7 => ?_)
              · refine lv_iconst (pc := 87) (v := 0) hx hb dX1_isOutOfOrder_87 (by decide) ?_
                refine lv_istore (pc := 88) (lv' := [(4, .int 0), (6, .int (st 39 ((8 * a) + i))), (0, .ref G.1), (1, .int (nI a)), (2, .int (nI c_)), (3, .int (st 39 (8 * a + c_))), (5, .int (nI i))]) hx hb dX1_isOutOfOrder_88 hl (by decide) rfl (fun ls hl => ?_)
                refine lv_iinc (pc := 90) (v := (nI (i + 1))) (lv' := [(5, .int (nI (i + 1))), (4, .int 0), (6, .int (st 39 ((8 * a) + i))), (0, .ref G.1), (1, .int (nI a)), (2, .int (nI c_)), (3, .int (st 39 (8 * a + c_)))]) hx hb dX1_isOutOfOrder_90 hl (k := 6) rfl (nI_1 _) (by decide) rfl (fun ls hl => ?_)
                refine lv_goto (pc := 93) (tgt := 18) hx hb dX1_isOutOfOrder_93 (by decide) ?_
                exact m_to (by simp only [ooo, if_pos c_3, if_pos c_4, if_pos c_5, if_pos c_6, if_neg c_7]) rfl (ih_loop (i + 1) 0 (by omega) (Or.inl rfl) _ _ hw _ (lv_sub hl [3, 4, 5, 6, 1, 0] rfl))
              · refine lv_iconst (pc := 83) (v := 1) hx hb dX1_isOutOfOrder_83 (by decide) ?_
                refine lv_goto (pc := 84) (tgt := 88) hx hb dX1_isOutOfOrder_84 (by decide) ?_
                refine lv_istore (pc := 88) (lv' := [(4, .int 1), (6, .int (st 39 ((8 * a) + i))), (0, .ref G.1), (1, .int (nI a)), (2, .int (nI c_)), (3, .int (st 39 (8 * a + c_))), (5, .int (nI i))]) hx hb dX1_isOutOfOrder_88 hl (by decide) rfl (fun ls hl => ?_)
                refine lv_iinc (pc := 90) (v := (nI (i + 1))) (lv' := [(5, .int (nI (i + 1))), (4, .int 1), (6, .int (st 39 ((8 * a) + i))), (0, .ref G.1), (1, .int (nI a)), (2, .int (nI c_)), (3, .int (st 39 (8 * a + c_)))]) hx hb dX1_isOutOfOrder_90 hl (k := 6) rfl (nI_1 _) (by decide) rfl (fun ls hl => ?_)
                refine lv_goto (pc := 93) (tgt := 18) hx hb dX1_isOutOfOrder_93 (by decide) ?_
                exact m_to (by simp only [ooo, if_pos c_3, if_pos c_4, if_pos c_5, if_pos c_6, if_pos c_7]) rfl (ih_loop (i + 1) 1 (by omega) (Or.inr rfl) _ _ hw _ (lv_sub hl [3, 4, 5, 6, 1, 0] rfl))
  exact m_to rfl rfl (loop (cnt st 30) 0 0 (by omega) (Or.inl rfl) _ _ hw _ (lv_sub hl [3, 4, 5, 2, 1, 0] rfl))
set_option maxHeartbeats 4000000 in
set_option maxRecDepth 100000 in
theorem mt_pointsAt (l : Launch) (G : mG) (st : mS) (a : Nat) (c_ : Nat)  (ha : a < 8) (hc : c_ < cnt st 30) (hC : 0 ≤ (st 0 30).toInt ∧ (st 0 30).toInt ≤ 8) (hQ : ∀ c, c < 8 → ¬ st 33 c = 0 → (st 34 (4 * c + 2)).toInt < (st 34 (4 * c + 3)).toInt) (hV : 0 ≤ (st 0 27).toInt ∧ (st 0 27).toInt ≤ 8) (hP : ∀ k, k < cnt st 27 → 0 < (st 29 k).toInt) (hD : hasD st) (hZ : ∀ c, c < cnt st 30 → 0 ≤ (st 31 c).toInt) : Met l yX1_pointsAt (ws_ yX1_pointsAt cX1_pointsAt 7 (some .int)) (mR 2) (mP G [.int (nI a), .int (nI c_)] st) (mQ G (some (.int (pts st a c_))) (st)) 0 0 (mA G) := by
  refine m_head (As := [.int (nI a), .int (nI c_)]) (bytes := cX1_pointsAt) (maxL := 7) (ret := (some .int)) (by decide) rfl (Nat.le_of_ble_eq_true rfl) ?_
  intro p e s m below meth c E hml hr hlk hw ls hl
  have hx := E.1
  have hb := E.2.1
  have hts := E.2.2.1
  have hown := E.2.2.2.1
  have hl : lv_has ls 7 [(0, .ref G.1), (1, .int (nI a)), (2, .int (nI c_))] := hl
  have hCn := cnt_n hC.1
  have hCi := cnt_i hC.1
  refine lv_aload_n (pc := 0) hx hb dX1_pointsAt_0 rfl (lv_at hl 0 rfl) ?_
  refine m_geta (pc := 1) E hw 32 (by decide) (by decide) q1124 dX1_pointsAt_1 ?_
  refine lv_iload_n (pc := 4) hx hb dX1_pointsAt_4 rfl (lv_at hl 2 rfl) ?_
  refine m_zldN (pc := 5) (v := (st 32 c_)) E hw 32 (c_) (by decide) rfl (show c_ < 8 from (by omega)) (by decide) rfl dX1_pointsAt_5 ?_
  refine lv_if_eq (pc := 6) (tgt := 11) hx hb dX1_pointsAt_6 (by decide) (fun c_1 => ?_) (fun c_1 => ?_)
  · refine lv_aload_n (pc := 11) hx hb dX1_pointsAt_11 rfl (lv_at hl 0 rfl) ?_
    refine m_geta (pc := 12) E hw 39 (by decide) (by decide) q1131 dX1_pointsAt_12 ?_
    refine lv_bipush (pc := 15) (v := 8) hx hb dX1_pointsAt_15 (by decide) ?_
    refine lv_iload_n (pc := 17) hx hb dX1_pointsAt_17 rfl (lv_at hl 1 rfl) ?_
    refine li_mulN (pc := 18) (a := 8) (b := a) hx hb dX1_pointsAt_18 ?_
    refine lv_iload_n (pc := 19) hx hb dX1_pointsAt_19 rfl (lv_at hl 2 rfl) ?_
    refine li_addN (pc := 20) (a := 8 * a) (b := c_) hx hb dX1_pointsAt_20 ?_
    refine m_aldN (pc := 21) (v := (st 39 ((8 * a) + c_))) E hw 39 ((8 * a) + c_) (by decide) rfl (show (8 * a) + c_ < 64 from (by omega)) (by decide) rfl dX1_pointsAt_21 ?_
    refine li_ne (pc := 22) (tgt := 29) hx hb dX1_pointsAt_22 (by decide) (fun c_2 => ?_) (fun c_2 => ?_)
    · refine lv_aload_n (pc := 29) hx hb dX1_pointsAt_29 rfl (lv_at hl 0 rfl) ?_
      refine lv_iload_n (pc := 30) hx hb dX1_pointsAt_30 rfl (lv_at hl 1 rfl) ?_
      refine lv_iload_n (pc := 31) hx hb dX1_pointsAt_31 rfl (lv_at hl 2 rfl) ?_
      refine m_cVi (pc := 32) (As := [.int (nI a), .int (nI c_)]) (rest := []) E hml hl.1 hw (mt_isOutOfOrder l G (st) a c_ (by omega) (by omega) hC) q1443 q1445 qs43 q1446 hdX1_isOutOfOrder ⟨Nat.le_of_ble_eq_true rfl, Nat.le_of_ble_eq_true rfl⟩ rfl rfl rfl (Nat.le_of_ble_eq_true rfl) dX1_pointsAt_32 (fun H locs hw => ?_)
      refine lv_if_eq (pc := 35) (tgt := 41) hx hb dX1_pointsAt_35 (by decide) (fun c_3 => ?_) (fun c_3 => ?_)
      · refine lv_aload_n (pc := 41) hx hb dX1_pointsAt_41 rfl (lv_at hl 0 rfl) ?_
        refine lv_iload_n (pc := 42) hx hb dX1_pointsAt_42 rfl (lv_at hl 1 rfl) ?_
        refine lv_iload_n (pc := 43) hx hb dX1_pointsAt_43 rfl (lv_at hl 2 rfl) ?_
        refine m_cVi (pc := 44) (As := [.int (nI a), .int (nI c_)]) (rest := []) E hml hl.1 hw (mt_errorAt l G (st) a c_ (by omega) (by omega) hC hQ hV hP hD hZ) q1426 q1428 qs40 q1429 hdX1_errorAt ⟨Nat.le_of_ble_eq_true rfl, Nat.le_of_ble_eq_true rfl⟩ rfl rfl rfl (Nat.le_of_ble_eq_true rfl) dX1_pointsAt_44 (fun H locs hw => ?_)
        refine lv_lstore_n (pc := 47) (lv' := [(3, .long (err st a c_)), (0, .ref G.1), (1, .int (nI a)), (2, .int (nI c_))]) hx hb dX1_pointsAt_47 rfl hl (by decide) rfl (fun ls hl => ?_)
        refine lv_lload_n (pc := 48) hx hb dX1_pointsAt_48 rfl (lv_at hl 0 rfl) ?_
        refine lv_lconst (pc := 49) (v := 0) hx hb dX1_pointsAt_49 (by decide) ?_
        refine ll_geL (pc := 50) (Y := 0) (tgt := 70) hx hb rfl dX1_pointsAt_50 dX1_pointsAt_51 (by decide) (fun c_4 => ?_) (fun c_4 => ?_)
        · refine lv_lload_n (pc := 70) hx hb dX1_pointsAt_70 rfl (lv_at hl 0 rfl) ?_
          refine lv_ldc2 (pc := 71) hx hb hown (hts _ q1230) dX1_pointsAt_71 ?_
          refine lv_ladd (pc := 74) hx hb dX1_pointsAt_74 ?_
          refine lv_ldc2 (pc := 75) hx hb hown (hts _ q1447) dX1_pointsAt_75 ?_
          refine lv_ldiv (pc := 78) hx hb dX1_pointsAt_78 (by decide) ?_
          refine lv_lstore (pc := 79) (lv' := [(5, .long (((err st a c_) + 9) / 10)), (3, .long (err st a c_)), (0, .ref G.1), (1, .int (nI a)), (2, .int (nI c_))]) hx hb dX1_pointsAt_79 hl (by decide) rfl (fun ls hl => ?_)
          refine lv_lload (pc := 81) hx hb dX1_pointsAt_81 (lv_at hl 0 rfl) ?_
          refine lv_ldc2 (pc := 83) hx hb hown (hts _ q1448) dX1_pointsAt_83 ?_
          refine ll_leL (pc := 86) (Y := 300) (tgt := 96) hx hb rfl dX1_pointsAt_86 dX1_pointsAt_87 (by decide) (fun c_5 => ?_) (fun c_5 => ?_)
          · refine lv_lload (pc := 96) hx hb dX1_pointsAt_96 (lv_at hl 0 rfl) ?_
            refine lv_lstore (pc := 98) (lv' := [(5, .long (((err st a c_) + 9) / 10)), (3, .long (err st a c_)), (0, .ref G.1), (1, .int (nI a)), (2, .int (nI c_))]) hx hb dX1_pointsAt_98 hl (by decide) rfl (fun ls hl => ?_)
            refine lv_aload_n (pc := 100) hx hb dX1_pointsAt_100 rfl (lv_at hl 2 rfl) ?_
            refine m_geta (pc := 101) E hw 37 (by decide) (by decide) q1129 dX1_pointsAt_101 ?_
            refine lv_iload_n (pc := 104) hx hb dX1_pointsAt_104 rfl (lv_at hl 3 rfl) ?_
            refine m_aldN (pc := 105) (v := (st 37 a)) E hw 37 (a) (by decide) rfl (show a < 8 from (by omega)) (by decide) rfl dX1_pointsAt_105 ?_
            refine li_if_le (pc := 106) (tgt := 118) hx hb dX1_pointsAt_106 (by decide) (fun c_6 => ?_) (fun c_6 => ?_)
            · refine lv_lload (pc := 118) hx hb dX1_pointsAt_118 (lv_at hl 0 rfl) ?_
              refine lv_lstore (pc := 120) (lv' := [(5, .long (((err st a c_) + 9) / 10)), (3, .long (err st a c_)), (0, .ref G.1), (1, .int (nI a)), (2, .int (nI c_))]) hx hb dX1_pointsAt_120 hl (by decide) rfl (fun ls hl => ?_)
              refine lv_aload_n (pc := 122) hx hb dX1_pointsAt_122 rfl (lv_at hl 2 rfl) ?_
              refine m_geta (pc := 123) E hw 37 (by decide) (by decide) q1129 dX1_pointsAt_123 ?_
              refine lv_iload_n (pc := 126) hx hb dX1_pointsAt_126 rfl (lv_at hl 3 rfl) ?_
              refine m_aldN (pc := 127) (v := (st 37 a)) E hw 37 (a) (by decide) rfl (show a < 8 from (by omega)) (by decide) rfl dX1_pointsAt_127 ?_
              refine lv_iconst (pc := 128) (v := 2) hx hb dX1_pointsAt_128 (by decide) ?_
              refine li_icne (pc := 129) (tgt := 147) hx hb dX1_pointsAt_129 (by decide) (fun c_7 => ?_) (fun c_7 => ?_)
              · refine lv_lload (pc := 147) hx hb dX1_pointsAt_147 (lv_at hl 0 rfl) ?_
                refine lv_l2i (pc := 149) (v := (((err st a c_) + 9) / 10 : Int64).toInt32) hx hb dX1_pointsAt_149 rfl ?_
                exact m_iret E hr hlk hw dX1_pointsAt_150 (by first | (simp only [pts, cs3, cs2, cs1, cs0, if_pos c_1, if_neg c_2, if_pos c_3, if_neg c_4, if_neg c_5, if_neg c_6, if_neg c_7]; done) | contradiction | (simp only [pts, cs3, cs2, cs1, cs0, c_1, c_2, c_3, c_4, c_5, c_6, c_7, if_true, if_false]; done)) rfl
              · refine lv_lload (pc := 132) hx hb dX1_pointsAt_132 (lv_at hl 0 rfl) ?_
                refine lv_ldc2 (pc := 134) hx hb hown (hts _ q1449) dX1_pointsAt_134 ?_
                refine ll_leL (pc := 137) (Y := 50) (tgt := 147) hx hb rfl dX1_pointsAt_137 dX1_pointsAt_138 (by decide) (fun c_8 => ?_) (fun c_8 => ?_)
                · refine lv_lload (pc := 147) hx hb dX1_pointsAt_147 (lv_at hl 0 rfl) ?_
                  refine lv_l2i (pc := 149) (v := (((err st a c_) + 9) / 10 : Int64).toInt32) hx hb dX1_pointsAt_149 rfl ?_
                  exact m_iret E hr hlk hw dX1_pointsAt_150 (by first | (simp only [pts, cs3, cs2, cs1, cs0, if_pos c_1, if_neg c_2, if_pos c_3, if_neg c_4, if_neg c_5, if_neg c_6, if_pos c_7, if_neg c_8]; done) | contradiction | (simp only [pts, cs3, cs2, cs1, cs0, c_1, c_2, c_3, c_4, c_5, c_6, c_7, c_8, if_true, if_false]; done)) rfl
                · refine lv_ldc2 (pc := 141) hx hb hown (hts _ q1449) dX1_pointsAt_141 ?_
                  refine lv_goto (pc := 144) (tgt := 149) hx hb dX1_pointsAt_144 (by decide) ?_
                  refine lv_l2i (pc := 149) (v := (50 : Int64).toInt32) hx hb dX1_pointsAt_149 rfl ?_
                  exact m_iret E hr hlk hw dX1_pointsAt_150 (by first | (simp only [pts, cs3, cs2, cs1, cs0, if_pos c_1, if_neg c_2, if_pos c_3, if_neg c_4, if_neg c_5, if_neg c_6, if_pos c_7, if_pos c_8]; done) | contradiction | (simp only [pts, cs3, cs2, cs1, cs0, c_1, c_2, c_3, c_4, c_5, c_6, c_7, c_8, if_true, if_false]; done)) rfl
            · refine lv_lload (pc := 109) hx hb dX1_pointsAt_109 (lv_at hl 0 rfl) ?_
              refine lv_ldc2 (pc := 111) hx hb hown (hts _ q1235) dX1_pointsAt_111 ?_
              refine lv_ldiv (pc := 114) hx hb dX1_pointsAt_114 (by decide) ?_
              refine lv_goto (pc := 115) (tgt := 120) hx hb dX1_pointsAt_115 (by decide) ?_
              refine lv_lstore (pc := 120) (lv' := [(5, .long ((((err st a c_) + 9) / 10) / 2)), (3, .long (err st a c_)), (0, .ref G.1), (1, .int (nI a)), (2, .int (nI c_))]) hx hb dX1_pointsAt_120 hl (by decide) rfl (fun ls hl => ?_)
              refine lv_aload_n (pc := 122) hx hb dX1_pointsAt_122 rfl (lv_at hl 2 rfl) ?_
              refine m_geta (pc := 123) E hw 37 (by decide) (by decide) q1129 dX1_pointsAt_123 ?_
              refine lv_iload_n (pc := 126) hx hb dX1_pointsAt_126 rfl (lv_at hl 3 rfl) ?_
              refine m_aldN (pc := 127) (v := (st 37 a)) E hw 37 (a) (by decide) rfl (show a < 8 from (by omega)) (by decide) rfl dX1_pointsAt_127 ?_
              refine lv_iconst (pc := 128) (v := 2) hx hb dX1_pointsAt_128 (by decide) ?_
              refine li_icne (pc := 129) (tgt := 147) hx hb dX1_pointsAt_129 (by decide) (fun c_9 => ?_) (fun c_9 => ?_)
              · refine lv_lload (pc := 147) hx hb dX1_pointsAt_147 (lv_at hl 0 rfl) ?_
                refine lv_l2i (pc := 149) (v := ((((err st a c_) + 9) / 10) / 2 : Int64).toInt32) hx hb dX1_pointsAt_149 rfl ?_
                exact m_iret E hr hlk hw dX1_pointsAt_150 (by first | (simp only [pts, cs3, cs2, cs1, cs0, if_pos c_1, if_neg c_2, if_pos c_3, if_neg c_4, if_neg c_5, if_pos c_6, if_neg c_9]; done) | contradiction | (simp only [pts, cs3, cs2, cs1, cs0, c_1, c_2, c_3, c_4, c_5, c_6, c_9, if_true, if_false]; done)) rfl
              · refine lv_lload (pc := 132) hx hb dX1_pointsAt_132 (lv_at hl 0 rfl) ?_
                refine lv_ldc2 (pc := 134) hx hb hown (hts _ q1449) dX1_pointsAt_134 ?_
                refine ll_leL (pc := 137) (Y := 50) (tgt := 147) hx hb rfl dX1_pointsAt_137 dX1_pointsAt_138 (by decide) (fun c_10 => ?_) (fun c_10 => ?_)
                · refine lv_lload (pc := 147) hx hb dX1_pointsAt_147 (lv_at hl 0 rfl) ?_
                  refine lv_l2i (pc := 149) (v := ((((err st a c_) + 9) / 10) / 2 : Int64).toInt32) hx hb dX1_pointsAt_149 rfl ?_
                  exact m_iret E hr hlk hw dX1_pointsAt_150 (by first | (simp only [pts, cs3, cs2, cs1, cs0, if_pos c_1, if_neg c_2, if_pos c_3, if_neg c_4, if_neg c_5, if_pos c_6, if_pos c_9, if_neg c_10]; done) | contradiction | (simp only [pts, cs3, cs2, cs1, cs0, c_1, c_2, c_3, c_4, c_5, c_6, c_9, c_10, if_true, if_false]; done)) rfl
                · refine lv_ldc2 (pc := 141) hx hb hown (hts _ q1449) dX1_pointsAt_141 ?_
                  refine lv_goto (pc := 144) (tgt := 149) hx hb dX1_pointsAt_144 (by decide) ?_
                  refine lv_l2i (pc := 149) (v := (50 : Int64).toInt32) hx hb dX1_pointsAt_149 rfl ?_
                  exact m_iret E hr hlk hw dX1_pointsAt_150 (by first | (simp only [pts, cs3, cs2, cs1, cs0, if_pos c_1, if_neg c_2, if_pos c_3, if_neg c_4, if_neg c_5, if_pos c_6, if_pos c_9, if_pos c_10]; done) | contradiction | (simp only [pts, cs3, cs2, cs1, cs0, c_1, c_2, c_3, c_4, c_5, c_6, c_9, c_10, if_true, if_false]; done)) rfl
          · refine lv_ldc2 (pc := 90) hx hb hown (hts _ q1448) dX1_pointsAt_90 ?_
            refine lv_goto (pc := 93) (tgt := 98) hx hb dX1_pointsAt_93 (by decide) ?_
            refine lv_lstore (pc := 98) (lv' := [(5, .long 300), (3, .long (err st a c_)), (0, .ref G.1), (1, .int (nI a)), (2, .int (nI c_))]) hx hb dX1_pointsAt_98 hl (by decide) rfl (fun ls hl => ?_)
            refine lv_aload_n (pc := 100) hx hb dX1_pointsAt_100 rfl (lv_at hl 2 rfl) ?_
            refine m_geta (pc := 101) E hw 37 (by decide) (by decide) q1129 dX1_pointsAt_101 ?_
            refine lv_iload_n (pc := 104) hx hb dX1_pointsAt_104 rfl (lv_at hl 3 rfl) ?_
            refine m_aldN (pc := 105) (v := (st 37 a)) E hw 37 (a) (by decide) rfl (show a < 8 from (by omega)) (by decide) rfl dX1_pointsAt_105 ?_
            refine li_if_le (pc := 106) (tgt := 118) hx hb dX1_pointsAt_106 (by decide) (fun c_11 => ?_) (fun c_11 => ?_)
            · refine lv_lload (pc := 118) hx hb dX1_pointsAt_118 (lv_at hl 0 rfl) ?_
              refine lv_lstore (pc := 120) (lv' := [(5, .long 300), (3, .long (err st a c_)), (0, .ref G.1), (1, .int (nI a)), (2, .int (nI c_))]) hx hb dX1_pointsAt_120 hl (by decide) rfl (fun ls hl => ?_)
              refine lv_aload_n (pc := 122) hx hb dX1_pointsAt_122 rfl (lv_at hl 2 rfl) ?_
              refine m_geta (pc := 123) E hw 37 (by decide) (by decide) q1129 dX1_pointsAt_123 ?_
              refine lv_iload_n (pc := 126) hx hb dX1_pointsAt_126 rfl (lv_at hl 3 rfl) ?_
              refine m_aldN (pc := 127) (v := (st 37 a)) E hw 37 (a) (by decide) rfl (show a < 8 from (by omega)) (by decide) rfl dX1_pointsAt_127 ?_
              refine lv_iconst (pc := 128) (v := 2) hx hb dX1_pointsAt_128 (by decide) ?_
              refine li_icne (pc := 129) (tgt := 147) hx hb dX1_pointsAt_129 (by decide) (fun c_12 => ?_) (fun c_12 => ?_)
              · refine lv_lload (pc := 147) hx hb dX1_pointsAt_147 (lv_at hl 0 rfl) ?_
                refine lv_l2i (pc := 149) (v := (300 : Int64).toInt32) hx hb dX1_pointsAt_149 rfl ?_
                exact m_iret E hr hlk hw dX1_pointsAt_150 (by first | (simp only [pts, cs3, cs2, cs1, cs0, if_pos c_1, if_neg c_2, if_pos c_3, if_neg c_4, if_pos c_5, if_neg c_11, if_neg c_12]; done) | contradiction | (simp only [pts, cs3, cs2, cs1, cs0, c_1, c_2, c_3, c_4, c_5, c_11, c_12, if_true, if_false]; done)) rfl
              · refine lv_lload (pc := 132) hx hb dX1_pointsAt_132 (lv_at hl 0 rfl) ?_
                refine lv_ldc2 (pc := 134) hx hb hown (hts _ q1449) dX1_pointsAt_134 ?_
                refine ll_leL (pc := 137) (Y := 50) (tgt := 147) hx hb rfl dX1_pointsAt_137 dX1_pointsAt_138 (by decide) (fun c_13 => ?_) (fun c_13 => ?_)
                · refine lv_lload (pc := 147) hx hb dX1_pointsAt_147 (lv_at hl 0 rfl) ?_
                  refine lv_l2i (pc := 149) (v := (300 : Int64).toInt32) hx hb dX1_pointsAt_149 rfl ?_
                  exact m_iret E hr hlk hw dX1_pointsAt_150 (by first | (simp only [pts, cs3, cs2, cs1, cs0, if_pos c_1, if_neg c_2, if_pos c_3, if_neg c_4, if_pos c_5, if_neg c_11, if_pos c_12, if_neg c_13]; done) | contradiction | (simp only [pts, cs3, cs2, cs1, cs0, c_1, c_2, c_3, c_4, c_5, c_11, c_12, c_13, if_true, if_false]; done)) rfl
                · refine lv_ldc2 (pc := 141) hx hb hown (hts _ q1449) dX1_pointsAt_141 ?_
                  refine lv_goto (pc := 144) (tgt := 149) hx hb dX1_pointsAt_144 (by decide) ?_
                  refine lv_l2i (pc := 149) (v := (50 : Int64).toInt32) hx hb dX1_pointsAt_149 rfl ?_
                  exact m_iret E hr hlk hw dX1_pointsAt_150 (by first | (simp only [pts, cs3, cs2, cs1, cs0, if_pos c_1, if_neg c_2, if_pos c_3, if_neg c_4, if_pos c_5, if_neg c_11, if_pos c_12, if_pos c_13]; done) | contradiction | (simp only [pts, cs3, cs2, cs1, cs0, c_1, c_2, c_3, c_4, c_5, c_11, c_12, c_13, if_true, if_false]; done)) rfl
            · refine lv_lload (pc := 109) hx hb dX1_pointsAt_109 (lv_at hl 0 rfl) ?_
              refine lv_ldc2 (pc := 111) hx hb hown (hts _ q1235) dX1_pointsAt_111 ?_
              refine lv_ldiv (pc := 114) hx hb dX1_pointsAt_114 (by decide) ?_
              refine lv_goto (pc := 115) (tgt := 120) hx hb dX1_pointsAt_115 (by decide) ?_
              refine lv_lstore (pc := 120) (lv' := [(5, .long (300 / 2)), (3, .long (err st a c_)), (0, .ref G.1), (1, .int (nI a)), (2, .int (nI c_))]) hx hb dX1_pointsAt_120 hl (by decide) rfl (fun ls hl => ?_)
              refine lv_aload_n (pc := 122) hx hb dX1_pointsAt_122 rfl (lv_at hl 2 rfl) ?_
              refine m_geta (pc := 123) E hw 37 (by decide) (by decide) q1129 dX1_pointsAt_123 ?_
              refine lv_iload_n (pc := 126) hx hb dX1_pointsAt_126 rfl (lv_at hl 3 rfl) ?_
              refine m_aldN (pc := 127) (v := (st 37 a)) E hw 37 (a) (by decide) rfl (show a < 8 from (by omega)) (by decide) rfl dX1_pointsAt_127 ?_
              refine lv_iconst (pc := 128) (v := 2) hx hb dX1_pointsAt_128 (by decide) ?_
              refine li_icne (pc := 129) (tgt := 147) hx hb dX1_pointsAt_129 (by decide) (fun c_14 => ?_) (fun c_14 => ?_)
              · refine lv_lload (pc := 147) hx hb dX1_pointsAt_147 (lv_at hl 0 rfl) ?_
                refine lv_l2i (pc := 149) (v := (300 / 2 : Int64).toInt32) hx hb dX1_pointsAt_149 rfl ?_
                exact m_iret E hr hlk hw dX1_pointsAt_150 (by first | (simp only [pts, cs3, cs2, cs1, cs0, if_pos c_1, if_neg c_2, if_pos c_3, if_neg c_4, if_pos c_5, if_pos c_11, if_neg c_14]; done) | contradiction | (simp only [pts, cs3, cs2, cs1, cs0, c_1, c_2, c_3, c_4, c_5, c_11, c_14, if_true, if_false]; done)) rfl
              · refine lv_lload (pc := 132) hx hb dX1_pointsAt_132 (lv_at hl 0 rfl) ?_
                refine lv_ldc2 (pc := 134) hx hb hown (hts _ q1449) dX1_pointsAt_134 ?_
                refine ll_leL (pc := 137) (Y := 50) (tgt := 147) hx hb rfl dX1_pointsAt_137 dX1_pointsAt_138 (by decide) (fun c_15 => ?_) (fun c_15 => ?_)
                · refine lv_lload (pc := 147) hx hb dX1_pointsAt_147 (lv_at hl 0 rfl) ?_
                  refine lv_l2i (pc := 149) (v := (300 / 2 : Int64).toInt32) hx hb dX1_pointsAt_149 rfl ?_
                  exact m_iret E hr hlk hw dX1_pointsAt_150 (by first | (simp only [pts, cs3, cs2, cs1, cs0, if_pos c_1, if_neg c_2, if_pos c_3, if_neg c_4, if_pos c_5, if_pos c_11, if_pos c_14, if_neg c_15]; done) | contradiction | (simp only [pts, cs3, cs2, cs1, cs0, c_1, c_2, c_3, c_4, c_5, c_11, c_14, c_15, if_true, if_false]; done)) rfl
                · refine lv_ldc2 (pc := 141) hx hb hown (hts _ q1449) dX1_pointsAt_141 ?_
                  refine lv_goto (pc := 144) (tgt := 149) hx hb dX1_pointsAt_144 (by decide) ?_
                  refine lv_l2i (pc := 149) (v := (50 : Int64).toInt32) hx hb dX1_pointsAt_149 rfl ?_
                  exact m_iret E hr hlk hw dX1_pointsAt_150 (by first | (simp only [pts, cs3, cs2, cs1, cs0, if_pos c_1, if_neg c_2, if_pos c_3, if_neg c_4, if_pos c_5, if_pos c_11, if_pos c_14, if_pos c_15]; done) | contradiction | (simp only [pts, cs3, cs2, cs1, cs0, c_1, c_2, c_3, c_4, c_5, c_11, c_14, c_15, if_true, if_false]; done)) rfl
        · refine lv_ldc2 (pc := 54) hx hb hown (hts _ q1235) dX1_pointsAt_54 ?_
          refine lv_ldc2 (pc := 57) hx hb hown (hts _ q1230) dX1_pointsAt_57 ?_
          refine lv_lload_n (pc := 60) hx hb dX1_pointsAt_60 rfl (lv_at hl 0 rfl) ?_
          refine lv_lsub (pc := 61) hx hb dX1_pointsAt_61 ?_
          refine lv_ldc2 (pc := 62) hx hb hown (hts _ q1447) dX1_pointsAt_62 ?_
          refine lv_ldiv (pc := 65) hx hb dX1_pointsAt_65 (by decide) ?_
          refine lv_lmul (pc := 66) hx hb dX1_pointsAt_66 ?_
          refine lv_goto (pc := 67) (tgt := 79) hx hb dX1_pointsAt_67 (by decide) ?_
          refine lv_lstore (pc := 79) (lv' := [(5, .long (2 * ((9 - (err st a c_)) / 10))), (3, .long (err st a c_)), (0, .ref G.1), (1, .int (nI a)), (2, .int (nI c_))]) hx hb dX1_pointsAt_79 hl (by decide) rfl (fun ls hl => ?_)
          refine lv_lload (pc := 81) hx hb dX1_pointsAt_81 (lv_at hl 0 rfl) ?_
          refine lv_ldc2 (pc := 83) hx hb hown (hts _ q1448) dX1_pointsAt_83 ?_
          refine ll_leL (pc := 86) (Y := 300) (tgt := 96) hx hb rfl dX1_pointsAt_86 dX1_pointsAt_87 (by decide) (fun c_16 => ?_) (fun c_16 => ?_)
          · refine lv_lload (pc := 96) hx hb dX1_pointsAt_96 (lv_at hl 0 rfl) ?_
            refine lv_lstore (pc := 98) (lv' := [(5, .long (2 * ((9 - (err st a c_)) / 10))), (3, .long (err st a c_)), (0, .ref G.1), (1, .int (nI a)), (2, .int (nI c_))]) hx hb dX1_pointsAt_98 hl (by decide) rfl (fun ls hl => ?_)
            refine lv_aload_n (pc := 100) hx hb dX1_pointsAt_100 rfl (lv_at hl 2 rfl) ?_
            refine m_geta (pc := 101) E hw 37 (by decide) (by decide) q1129 dX1_pointsAt_101 ?_
            refine lv_iload_n (pc := 104) hx hb dX1_pointsAt_104 rfl (lv_at hl 3 rfl) ?_
            refine m_aldN (pc := 105) (v := (st 37 a)) E hw 37 (a) (by decide) rfl (show a < 8 from (by omega)) (by decide) rfl dX1_pointsAt_105 ?_
            refine li_if_le (pc := 106) (tgt := 118) hx hb dX1_pointsAt_106 (by decide) (fun c_17 => ?_) (fun c_17 => ?_)
            · refine lv_lload (pc := 118) hx hb dX1_pointsAt_118 (lv_at hl 0 rfl) ?_
              refine lv_lstore (pc := 120) (lv' := [(5, .long (2 * ((9 - (err st a c_)) / 10))), (3, .long (err st a c_)), (0, .ref G.1), (1, .int (nI a)), (2, .int (nI c_))]) hx hb dX1_pointsAt_120 hl (by decide) rfl (fun ls hl => ?_)
              refine lv_aload_n (pc := 122) hx hb dX1_pointsAt_122 rfl (lv_at hl 2 rfl) ?_
              refine m_geta (pc := 123) E hw 37 (by decide) (by decide) q1129 dX1_pointsAt_123 ?_
              refine lv_iload_n (pc := 126) hx hb dX1_pointsAt_126 rfl (lv_at hl 3 rfl) ?_
              refine m_aldN (pc := 127) (v := (st 37 a)) E hw 37 (a) (by decide) rfl (show a < 8 from (by omega)) (by decide) rfl dX1_pointsAt_127 ?_
              refine lv_iconst (pc := 128) (v := 2) hx hb dX1_pointsAt_128 (by decide) ?_
              refine li_icne (pc := 129) (tgt := 147) hx hb dX1_pointsAt_129 (by decide) (fun c_18 => ?_) (fun c_18 => ?_)
              · refine lv_lload (pc := 147) hx hb dX1_pointsAt_147 (lv_at hl 0 rfl) ?_
                refine lv_l2i (pc := 149) (v := (2 * ((9 - (err st a c_)) / 10) : Int64).toInt32) hx hb dX1_pointsAt_149 rfl ?_
                exact m_iret E hr hlk hw dX1_pointsAt_150 (by first | (simp only [pts, cs3, cs2, cs1, cs0, if_pos c_1, if_neg c_2, if_pos c_3, if_pos c_4, if_neg c_16, if_neg c_17, if_neg c_18]; done) | contradiction | (simp only [pts, cs3, cs2, cs1, cs0, c_1, c_2, c_3, c_4, c_16, c_17, c_18, if_true, if_false]; done)) rfl
              · refine lv_lload (pc := 132) hx hb dX1_pointsAt_132 (lv_at hl 0 rfl) ?_
                refine lv_ldc2 (pc := 134) hx hb hown (hts _ q1449) dX1_pointsAt_134 ?_
                refine ll_leL (pc := 137) (Y := 50) (tgt := 147) hx hb rfl dX1_pointsAt_137 dX1_pointsAt_138 (by decide) (fun c_19 => ?_) (fun c_19 => ?_)
                · refine lv_lload (pc := 147) hx hb dX1_pointsAt_147 (lv_at hl 0 rfl) ?_
                  refine lv_l2i (pc := 149) (v := (2 * ((9 - (err st a c_)) / 10) : Int64).toInt32) hx hb dX1_pointsAt_149 rfl ?_
                  exact m_iret E hr hlk hw dX1_pointsAt_150 (by first | (simp only [pts, cs3, cs2, cs1, cs0, if_pos c_1, if_neg c_2, if_pos c_3, if_pos c_4, if_neg c_16, if_neg c_17, if_pos c_18, if_neg c_19]; done) | contradiction | (simp only [pts, cs3, cs2, cs1, cs0, c_1, c_2, c_3, c_4, c_16, c_17, c_18, c_19, if_true, if_false]; done)) rfl
                · refine lv_ldc2 (pc := 141) hx hb hown (hts _ q1449) dX1_pointsAt_141 ?_
                  refine lv_goto (pc := 144) (tgt := 149) hx hb dX1_pointsAt_144 (by decide) ?_
                  refine lv_l2i (pc := 149) (v := (50 : Int64).toInt32) hx hb dX1_pointsAt_149 rfl ?_
                  exact m_iret E hr hlk hw dX1_pointsAt_150 (by first | (simp only [pts, cs3, cs2, cs1, cs0, if_pos c_1, if_neg c_2, if_pos c_3, if_pos c_4, if_neg c_16, if_neg c_17, if_pos c_18, if_pos c_19]; done) | contradiction | (simp only [pts, cs3, cs2, cs1, cs0, c_1, c_2, c_3, c_4, c_16, c_17, c_18, c_19, if_true, if_false]; done)) rfl
            · refine lv_lload (pc := 109) hx hb dX1_pointsAt_109 (lv_at hl 0 rfl) ?_
              refine lv_ldc2 (pc := 111) hx hb hown (hts _ q1235) dX1_pointsAt_111 ?_
              refine lv_ldiv (pc := 114) hx hb dX1_pointsAt_114 (by decide) ?_
              refine lv_goto (pc := 115) (tgt := 120) hx hb dX1_pointsAt_115 (by decide) ?_
              refine lv_lstore (pc := 120) (lv' := [(5, .long ((2 * ((9 - (err st a c_)) / 10)) / 2)), (3, .long (err st a c_)), (0, .ref G.1), (1, .int (nI a)), (2, .int (nI c_))]) hx hb dX1_pointsAt_120 hl (by decide) rfl (fun ls hl => ?_)
              refine lv_aload_n (pc := 122) hx hb dX1_pointsAt_122 rfl (lv_at hl 2 rfl) ?_
              refine m_geta (pc := 123) E hw 37 (by decide) (by decide) q1129 dX1_pointsAt_123 ?_
              refine lv_iload_n (pc := 126) hx hb dX1_pointsAt_126 rfl (lv_at hl 3 rfl) ?_
              refine m_aldN (pc := 127) (v := (st 37 a)) E hw 37 (a) (by decide) rfl (show a < 8 from (by omega)) (by decide) rfl dX1_pointsAt_127 ?_
              refine lv_iconst (pc := 128) (v := 2) hx hb dX1_pointsAt_128 (by decide) ?_
              refine li_icne (pc := 129) (tgt := 147) hx hb dX1_pointsAt_129 (by decide) (fun c_20 => ?_) (fun c_20 => ?_)
              · refine lv_lload (pc := 147) hx hb dX1_pointsAt_147 (lv_at hl 0 rfl) ?_
                refine lv_l2i (pc := 149) (v := ((2 * ((9 - (err st a c_)) / 10)) / 2 : Int64).toInt32) hx hb dX1_pointsAt_149 rfl ?_
                exact m_iret E hr hlk hw dX1_pointsAt_150 (by first | (simp only [pts, cs3, cs2, cs1, cs0, if_pos c_1, if_neg c_2, if_pos c_3, if_pos c_4, if_neg c_16, if_pos c_17, if_neg c_20]; done) | contradiction | (simp only [pts, cs3, cs2, cs1, cs0, c_1, c_2, c_3, c_4, c_16, c_17, c_20, if_true, if_false]; done)) rfl
              · refine lv_lload (pc := 132) hx hb dX1_pointsAt_132 (lv_at hl 0 rfl) ?_
                refine lv_ldc2 (pc := 134) hx hb hown (hts _ q1449) dX1_pointsAt_134 ?_
                refine ll_leL (pc := 137) (Y := 50) (tgt := 147) hx hb rfl dX1_pointsAt_137 dX1_pointsAt_138 (by decide) (fun c_21 => ?_) (fun c_21 => ?_)
                · refine lv_lload (pc := 147) hx hb dX1_pointsAt_147 (lv_at hl 0 rfl) ?_
                  refine lv_l2i (pc := 149) (v := ((2 * ((9 - (err st a c_)) / 10)) / 2 : Int64).toInt32) hx hb dX1_pointsAt_149 rfl ?_
                  exact m_iret E hr hlk hw dX1_pointsAt_150 (by first | (simp only [pts, cs3, cs2, cs1, cs0, if_pos c_1, if_neg c_2, if_pos c_3, if_pos c_4, if_neg c_16, if_pos c_17, if_pos c_20, if_neg c_21]; done) | contradiction | (simp only [pts, cs3, cs2, cs1, cs0, c_1, c_2, c_3, c_4, c_16, c_17, c_20, c_21, if_true, if_false]; done)) rfl
                · refine lv_ldc2 (pc := 141) hx hb hown (hts _ q1449) dX1_pointsAt_141 ?_
                  refine lv_goto (pc := 144) (tgt := 149) hx hb dX1_pointsAt_144 (by decide) ?_
                  refine lv_l2i (pc := 149) (v := (50 : Int64).toInt32) hx hb dX1_pointsAt_149 rfl ?_
                  exact m_iret E hr hlk hw dX1_pointsAt_150 (by first | (simp only [pts, cs3, cs2, cs1, cs0, if_pos c_1, if_neg c_2, if_pos c_3, if_pos c_4, if_neg c_16, if_pos c_17, if_pos c_20, if_pos c_21]; done) | contradiction | (simp only [pts, cs3, cs2, cs1, cs0, c_1, c_2, c_3, c_4, c_16, c_17, c_20, c_21, if_true, if_false]; done)) rfl
          · refine lv_ldc2 (pc := 90) hx hb hown (hts _ q1448) dX1_pointsAt_90 ?_
            refine lv_goto (pc := 93) (tgt := 98) hx hb dX1_pointsAt_93 (by decide) ?_
            refine lv_lstore (pc := 98) (lv' := [(5, .long 300), (3, .long (err st a c_)), (0, .ref G.1), (1, .int (nI a)), (2, .int (nI c_))]) hx hb dX1_pointsAt_98 hl (by decide) rfl (fun ls hl => ?_)
            refine lv_aload_n (pc := 100) hx hb dX1_pointsAt_100 rfl (lv_at hl 2 rfl) ?_
            refine m_geta (pc := 101) E hw 37 (by decide) (by decide) q1129 dX1_pointsAt_101 ?_
            refine lv_iload_n (pc := 104) hx hb dX1_pointsAt_104 rfl (lv_at hl 3 rfl) ?_
            refine m_aldN (pc := 105) (v := (st 37 a)) E hw 37 (a) (by decide) rfl (show a < 8 from (by omega)) (by decide) rfl dX1_pointsAt_105 ?_
            refine li_if_le (pc := 106) (tgt := 118) hx hb dX1_pointsAt_106 (by decide) (fun c_22 => ?_) (fun c_22 => ?_)
            · refine lv_lload (pc := 118) hx hb dX1_pointsAt_118 (lv_at hl 0 rfl) ?_
              refine lv_lstore (pc := 120) (lv' := [(5, .long 300), (3, .long (err st a c_)), (0, .ref G.1), (1, .int (nI a)), (2, .int (nI c_))]) hx hb dX1_pointsAt_120 hl (by decide) rfl (fun ls hl => ?_)
              refine lv_aload_n (pc := 122) hx hb dX1_pointsAt_122 rfl (lv_at hl 2 rfl) ?_
              refine m_geta (pc := 123) E hw 37 (by decide) (by decide) q1129 dX1_pointsAt_123 ?_
              refine lv_iload_n (pc := 126) hx hb dX1_pointsAt_126 rfl (lv_at hl 3 rfl) ?_
              refine m_aldN (pc := 127) (v := (st 37 a)) E hw 37 (a) (by decide) rfl (show a < 8 from (by omega)) (by decide) rfl dX1_pointsAt_127 ?_
              refine lv_iconst (pc := 128) (v := 2) hx hb dX1_pointsAt_128 (by decide) ?_
              refine li_icne (pc := 129) (tgt := 147) hx hb dX1_pointsAt_129 (by decide) (fun c_23 => ?_) (fun c_23 => ?_)
              · refine lv_lload (pc := 147) hx hb dX1_pointsAt_147 (lv_at hl 0 rfl) ?_
                refine lv_l2i (pc := 149) (v := (300 : Int64).toInt32) hx hb dX1_pointsAt_149 rfl ?_
                exact m_iret E hr hlk hw dX1_pointsAt_150 (by first | (simp only [pts, cs3, cs2, cs1, cs0, if_pos c_1, if_neg c_2, if_pos c_3, if_pos c_4, if_pos c_16, if_neg c_22, if_neg c_23]; done) | contradiction | (simp only [pts, cs3, cs2, cs1, cs0, c_1, c_2, c_3, c_4, c_16, c_22, c_23, if_true, if_false]; done)) rfl
              · refine lv_lload (pc := 132) hx hb dX1_pointsAt_132 (lv_at hl 0 rfl) ?_
                refine lv_ldc2 (pc := 134) hx hb hown (hts _ q1449) dX1_pointsAt_134 ?_
                refine ll_leL (pc := 137) (Y := 50) (tgt := 147) hx hb rfl dX1_pointsAt_137 dX1_pointsAt_138 (by decide) (fun c_24 => ?_) (fun c_24 => ?_)
                · refine lv_lload (pc := 147) hx hb dX1_pointsAt_147 (lv_at hl 0 rfl) ?_
                  refine lv_l2i (pc := 149) (v := (300 : Int64).toInt32) hx hb dX1_pointsAt_149 rfl ?_
                  exact m_iret E hr hlk hw dX1_pointsAt_150 (by first | (simp only [pts, cs3, cs2, cs1, cs0, if_pos c_1, if_neg c_2, if_pos c_3, if_pos c_4, if_pos c_16, if_neg c_22, if_pos c_23, if_neg c_24]; done) | contradiction | (simp only [pts, cs3, cs2, cs1, cs0, c_1, c_2, c_3, c_4, c_16, c_22, c_23, c_24, if_true, if_false]; done)) rfl
                · refine lv_ldc2 (pc := 141) hx hb hown (hts _ q1449) dX1_pointsAt_141 ?_
                  refine lv_goto (pc := 144) (tgt := 149) hx hb dX1_pointsAt_144 (by decide) ?_
                  refine lv_l2i (pc := 149) (v := (50 : Int64).toInt32) hx hb dX1_pointsAt_149 rfl ?_
                  exact m_iret E hr hlk hw dX1_pointsAt_150 (by first | (simp only [pts, cs3, cs2, cs1, cs0, if_pos c_1, if_neg c_2, if_pos c_3, if_pos c_4, if_pos c_16, if_neg c_22, if_pos c_23, if_pos c_24]; done) | contradiction | (simp only [pts, cs3, cs2, cs1, cs0, c_1, c_2, c_3, c_4, c_16, c_22, c_23, c_24, if_true, if_false]; done)) rfl
            · refine lv_lload (pc := 109) hx hb dX1_pointsAt_109 (lv_at hl 0 rfl) ?_
              refine lv_ldc2 (pc := 111) hx hb hown (hts _ q1235) dX1_pointsAt_111 ?_
              refine lv_ldiv (pc := 114) hx hb dX1_pointsAt_114 (by decide) ?_
              refine lv_goto (pc := 115) (tgt := 120) hx hb dX1_pointsAt_115 (by decide) ?_
              refine lv_lstore (pc := 120) (lv' := [(5, .long (300 / 2)), (3, .long (err st a c_)), (0, .ref G.1), (1, .int (nI a)), (2, .int (nI c_))]) hx hb dX1_pointsAt_120 hl (by decide) rfl (fun ls hl => ?_)
              refine lv_aload_n (pc := 122) hx hb dX1_pointsAt_122 rfl (lv_at hl 2 rfl) ?_
              refine m_geta (pc := 123) E hw 37 (by decide) (by decide) q1129 dX1_pointsAt_123 ?_
              refine lv_iload_n (pc := 126) hx hb dX1_pointsAt_126 rfl (lv_at hl 3 rfl) ?_
              refine m_aldN (pc := 127) (v := (st 37 a)) E hw 37 (a) (by decide) rfl (show a < 8 from (by omega)) (by decide) rfl dX1_pointsAt_127 ?_
              refine lv_iconst (pc := 128) (v := 2) hx hb dX1_pointsAt_128 (by decide) ?_
              refine li_icne (pc := 129) (tgt := 147) hx hb dX1_pointsAt_129 (by decide) (fun c_25 => ?_) (fun c_25 => ?_)
              · refine lv_lload (pc := 147) hx hb dX1_pointsAt_147 (lv_at hl 0 rfl) ?_
                refine lv_l2i (pc := 149) (v := (300 / 2 : Int64).toInt32) hx hb dX1_pointsAt_149 rfl ?_
                exact m_iret E hr hlk hw dX1_pointsAt_150 (by first | (simp only [pts, cs3, cs2, cs1, cs0, if_pos c_1, if_neg c_2, if_pos c_3, if_pos c_4, if_pos c_16, if_pos c_22, if_neg c_25]; done) | contradiction | (simp only [pts, cs3, cs2, cs1, cs0, c_1, c_2, c_3, c_4, c_16, c_22, c_25, if_true, if_false]; done)) rfl
              · refine lv_lload (pc := 132) hx hb dX1_pointsAt_132 (lv_at hl 0 rfl) ?_
                refine lv_ldc2 (pc := 134) hx hb hown (hts _ q1449) dX1_pointsAt_134 ?_
                refine ll_leL (pc := 137) (Y := 50) (tgt := 147) hx hb rfl dX1_pointsAt_137 dX1_pointsAt_138 (by decide) (fun c_26 => ?_) (fun c_26 => ?_)
                · refine lv_lload (pc := 147) hx hb dX1_pointsAt_147 (lv_at hl 0 rfl) ?_
                  refine lv_l2i (pc := 149) (v := (300 / 2 : Int64).toInt32) hx hb dX1_pointsAt_149 rfl ?_
                  exact m_iret E hr hlk hw dX1_pointsAt_150 (by first | (simp only [pts, cs3, cs2, cs1, cs0, if_pos c_1, if_neg c_2, if_pos c_3, if_pos c_4, if_pos c_16, if_pos c_22, if_pos c_25, if_neg c_26]; done) | contradiction | (simp only [pts, cs3, cs2, cs1, cs0, c_1, c_2, c_3, c_4, c_16, c_22, c_25, c_26, if_true, if_false]; done)) rfl
                · refine lv_ldc2 (pc := 141) hx hb hown (hts _ q1449) dX1_pointsAt_141 ?_
                  refine lv_goto (pc := 144) (tgt := 149) hx hb dX1_pointsAt_144 (by decide) ?_
                  refine lv_l2i (pc := 149) (v := (50 : Int64).toInt32) hx hb dX1_pointsAt_149 rfl ?_
                  exact m_iret E hr hlk hw dX1_pointsAt_150 (by first | (simp only [pts, cs3, cs2, cs1, cs0, if_pos c_1, if_neg c_2, if_pos c_3, if_pos c_4, if_pos c_16, if_pos c_22, if_pos c_25, if_pos c_26]; done) | contradiction | (simp only [pts, cs3, cs2, cs1, cs0, c_1, c_2, c_3, c_4, c_16, c_22, c_25, c_26, if_true, if_false]; done)) rfl
      · refine lv_bipush (pc := 38) (v := 100) hx hb dX1_pointsAt_38 (by decide) ?_
        exact m_iret E hr hlk hw dX1_pointsAt_40 (by first | (simp only [pts, cs3, cs2, cs1, cs0, if_pos c_1, if_neg c_2, if_neg c_3]; done) | contradiction | (simp only [pts, cs3, cs2, cs1, cs0, c_1, c_2, c_3, if_true, if_false]; done)) rfl
    · refine lv_sipush (pc := 25) (v := 300) hx hb dX1_pointsAt_25 (by decide) ?_
      exact m_iret E hr hlk hw dX1_pointsAt_28 (by first | (simp only [pts, cs3, cs2, cs1, cs0, if_pos c_1, if_pos c_2]; done) | contradiction | (simp only [pts, cs3, cs2, cs1, cs0, c_1, c_2, if_true, if_false]; done)) rfl
  · refine lv_iconst (pc := 9) (v := 0) hx hb dX1_pointsAt_9 (by decide) ?_
    exact m_iret E hr hlk hw dX1_pointsAt_10 (by first | (simp only [pts, cs3, cs2, cs1, cs0, if_neg c_1]; done) | contradiction | (simp only [pts, cs3, cs2, cs1, cs0, c_1, if_true, if_false]; done)) rfl
set_option maxHeartbeats 4000000 in
set_option maxRecDepth 100000 in
theorem mt_error (l : Launch) (G : mG) (st : mS) (a : Int32) (c_ : Int32)  (hC : 0 ≤ (st 0 30).toInt ∧ (st 0 30).toInt ≤ 8) (hK : 0 ≤ (st 0 35).toInt ∧ (st 0 35).toInt ≤ 8) (hQ : ∀ c, c < 8 → ¬ st 33 c = 0 → (st 34 (4 * c + 2)).toInt < (st 34 (4 * c + 3)).toInt) (hV : 0 ≤ (st 0 27).toInt ∧ (st 0 27).toInt ≤ 8) (hP : ∀ k, k < cnt st 27 → 0 < (st 29 k).toInt) (hZ : ∀ c, c < cnt st 30 → 0 ≤ (st 31 c).toInt) (hL : 0 ≤ (st 0 24).toInt ∧ (st 0 24).toInt ≤ 10) : Met l yX1_error (ws_ yX1_error cX1_error 3 (some .long)) (mR 2) (mP G [.int a, .int c_] st) (mQ G (some (.long (sp_error st a c_))) (st)) 0 0 (mA G) := by
  refine m_head (As := [.int a, .int c_]) (bytes := cX1_error) (maxL := 3) (ret := (some .long)) (by decide) rfl (Nat.le_of_ble_eq_true rfl) ?_
  intro p e s m below meth c E hml hr hlk hw ls hl
  have hx := E.1
  have hb := E.2.1
  have hts := E.2.2.1
  have hown := E.2.2.2.1
  have hl : lv_has ls 3 [(0, .ref G.1), (1, .int a), (2, .int c_)] := hl
  have hCn := cnt_n hC.1
  have hCi := cnt_i hC.1
  have hKn := cnt_n hK.1
  have hKi := cnt_i hK.1
  refine lv_aload_n (pc := 0) hx hb dX1_error_0 rfl (lv_at hl 0 rfl) ?_
  refine lv_iload_n (pc := 1) hx hb dX1_error_1 rfl (lv_at hl 1 rfl) ?_
  refine m_cVi (pc := 2) (As := [.int a]) (rest := []) E hml hl.1 hw (mt_noCar l G (st) a) q1414 q1416 qs39 q1417 hdX1_noCar ⟨Nat.le_of_ble_eq_true rfl, Nat.le_of_ble_eq_true rfl⟩ rfl rfl rfl (Nat.le_of_ble_eq_true rfl) dX1_error_2 (fun H locs hw => ?_)
  refine nb_ne (pc := 5) (tgt := 37) hx hb dX1_error_5 (by decide) (fun c_1 => ?_) (fun c_1 => ?_)
  · refine m_cS (pc := 37) (As := []) (rest := []) E hml hl.1 (mt_lost l) q1284 q1285 q1286 hdX1_lost ⟨Nat.le_of_ble_eq_true rfl, Nat.le_of_ble_eq_true rfl⟩ rfl rfl rfl (Nat.le_of_ble_eq_true rfl) dX1_error_37 ?_
    refine lv_goto (pc := 40) (tgt := 49) hx hb dX1_error_40 (by decide) ?_
    exact m_lret E hr hlk hw dX1_error_49 (by first | (simp only [sp_error, if_neg c_1]; done) | contradiction | (simp only [sp_error, c_1, if_true, if_false]; done)) rfl
  · refine lv_aload_n (pc := 8) hx hb dX1_error_8 rfl (lv_at hl 0 rfl) ?_
    refine lv_iload_n (pc := 9) hx hb dX1_error_9 rfl (lv_at hl 2 rfl) ?_
    refine m_cVi (pc := 10) (As := [.int c_]) (rest := []) E hml hl.1 hw (mt_noControl l G (st) c_) q1385 q1387 qs37 q1388 hdX1_noControl ⟨Nat.le_of_ble_eq_true rfl, Nat.le_of_ble_eq_true rfl⟩ rfl rfl rfl (Nat.le_of_ble_eq_true rfl) dX1_error_10 (fun H locs hw => ?_)
    refine nb_ne (pc := 13) (tgt := 37) hx hb dX1_error_13 (by decide) (fun c_2 => ?_) (fun c_2 => ?_)
    · refine m_cS (pc := 37) (As := []) (rest := []) E hml hl.1 (mt_lost l) q1284 q1285 q1286 hdX1_lost ⟨Nat.le_of_ble_eq_true rfl, Nat.le_of_ble_eq_true rfl⟩ rfl rfl rfl (Nat.le_of_ble_eq_true rfl) dX1_error_37 ?_
      refine lv_goto (pc := 40) (tgt := 49) hx hb dX1_error_40 (by decide) ?_
      exact m_lret E hr hlk hw dX1_error_49 (by first | (simp only [sp_error, if_pos c_1, if_neg c_2]; done) | contradiction | (simp only [sp_error, c_1, c_2, if_true, if_false]; done)) rfl
    · have han := clamp_n (x := a) c_1.1
      have hai := clamp_i (x := a) c_1.1
      have hcn := clamp_n (x := c_) c_2.1
      have hci := clamp_i (x := c_) c_2.1
      refine lv_aload_n (pc := 16) hx hb dX1_error_16 rfl (lv_at hl 0 rfl) ?_
      refine m_geta (pc := 17) E hw 39 (by decide) (by decide) q1131 dX1_error_17 ?_
      refine lv_bipush (pc := 20) (v := 8) hx hb dX1_error_20 (by decide) ?_
      refine lv_iload_n (pc := 22) hx hb dX1_error_22 rfl (lv_at hl 1 rfl) ?_
      refine li_top (v' := .int (nI a.toNatClampNeg)) (congrArg Value.int han) ?_
      refine li_mulN (pc := 23) (a := 8) (b := a.toNatClampNeg) hx hb dX1_error_23 ?_
      refine lv_iload_n (pc := 24) hx hb dX1_error_24 rfl (lv_at hl 2 rfl) ?_
      refine li_top (v' := .int (nI c_.toNatClampNeg)) (congrArg Value.int hcn) ?_
      refine li_addN (pc := 25) (a := 8 * a.toNatClampNeg) (b := c_.toNatClampNeg) hx hb dX1_error_25 ?_
      refine m_aldN (pc := 26) (v := (st 39 ((8 * a.toNatClampNeg) + c_.toNatClampNeg))) E hw 39 ((8 * a.toNatClampNeg) + c_.toNatClampNeg) (by decide) rfl (show (8 * a.toNatClampNeg) + c_.toNatClampNeg < 64 from (by omega)) (by decide) rfl dX1_error_26 ?_
      refine lv_if_eq (pc := 27) (tgt := 37) hx hb dX1_error_27 (by decide) (fun c_3 => ?_) (fun c_3 => ?_)
      · refine m_cS (pc := 37) (As := []) (rest := []) E hml hl.1 (mt_lost l) q1284 q1285 q1286 hdX1_lost ⟨Nat.le_of_ble_eq_true rfl, Nat.le_of_ble_eq_true rfl⟩ rfl rfl rfl (Nat.le_of_ble_eq_true rfl) dX1_error_37 ?_
        refine lv_goto (pc := 40) (tgt := 49) hx hb dX1_error_40 (by decide) ?_
        exact m_lret E hr hlk hw dX1_error_49 (by first | (simp only [sp_error, if_pos c_1, if_pos c_2, if_pos c_3]; done) | contradiction | (simp only [sp_error, c_1, c_2, c_3, if_true, if_false]; done)) rfl
      · refine lv_aload_n (pc := 30) hx hb dX1_error_30 rfl (lv_at hl 0 rfl) ?_
        refine m_cVi (pc := 31) (As := []) (rest := []) E hml hl.1 hw (mt_hasDue l G (st) hL hV) q1364 q1366 qs35 q1367 hdX1_hasDue ⟨Nat.le_of_ble_eq_true rfl, Nat.le_of_ble_eq_true rfl⟩ rfl rfl rfl (Nat.le_of_ble_eq_true rfl) dX1_error_31 (fun H locs hw => ?_)
        refine lb_ne (pc := 34) (tgt := 43) hx hb dX1_error_34 (by decide) (fun c_4 => ?_) (fun c_4 => ?_)
        · have hD := c_4
          refine lv_aload_n (pc := 43) hx hb dX1_error_43 rfl (lv_at hl 0 rfl) ?_
          refine lv_iload_n (pc := 44) hx hb dX1_error_44 rfl (lv_at hl 1 rfl) ?_
          refine li_top (v' := .int (nI a.toNatClampNeg)) (congrArg Value.int han) ?_
          refine lv_iload_n (pc := 45) hx hb dX1_error_45 rfl (lv_at hl 2 rfl) ?_
          refine li_top (v' := .int (nI c_.toNatClampNeg)) (congrArg Value.int hcn) ?_
          refine m_cVi (pc := 46) (As := [.int (nI a.toNatClampNeg), .int (nI c_.toNatClampNeg)]) (rest := []) E hml hl.1 hw (mt_errorAt l G (st) a.toNatClampNeg c_.toNatClampNeg (by omega) (by omega) hC hQ hV hP hD hZ) q1426 q1428 qs40 q1429 hdX1_errorAt ⟨Nat.le_of_ble_eq_true rfl, Nat.le_of_ble_eq_true rfl⟩ rfl rfl rfl (Nat.le_of_ble_eq_true rfl) dX1_error_46 (fun H locs hw => ?_)
          exact m_lret E hr hlk hw dX1_error_49 (by first | (simp only [sp_error, if_pos c_1, if_pos c_2, if_neg c_3, if_pos c_4]; done) | contradiction | (simp only [sp_error, c_1, c_2, c_3, c_4, if_true, if_false]; done)) rfl
        · refine m_cS (pc := 37) (As := []) (rest := []) E hml hl.1 (mt_lost l) q1284 q1285 q1286 hdX1_lost ⟨Nat.le_of_ble_eq_true rfl, Nat.le_of_ble_eq_true rfl⟩ rfl rfl rfl (Nat.le_of_ble_eq_true rfl) dX1_error_37 ?_
          refine lv_goto (pc := 40) (tgt := 49) hx hb dX1_error_40 (by decide) ?_
          exact m_lret E hr hlk hw dX1_error_49 (by first | (simp only [sp_error, if_pos c_1, if_pos c_2, if_neg c_3, if_neg c_4]; done) | contradiction | (simp only [sp_error, c_1, c_2, c_3, c_4, if_true, if_false]; done)) rfl
set_option maxHeartbeats 4000000 in
set_option maxRecDepth 100000 in
theorem mt_points (l : Launch) (G : mG) (st : mS) (a : Int32) (c_ : Int32)  (hC : 0 ≤ (st 0 30).toInt ∧ (st 0 30).toInt ≤ 8) (hK : 0 ≤ (st 0 35).toInt ∧ (st 0 35).toInt ≤ 8) (hQ : ∀ c, c < 8 → ¬ st 33 c = 0 → (st 34 (4 * c + 2)).toInt < (st 34 (4 * c + 3)).toInt) (hV : 0 ≤ (st 0 27).toInt ∧ (st 0 27).toInt ≤ 8) (hP : ∀ k, k < cnt st 27 → 0 < (st 29 k).toInt) (hZ : ∀ c, c < cnt st 30 → 0 ≤ (st 31 c).toInt) (hL : 0 ≤ (st 0 24).toInt ∧ (st 0 24).toInt ≤ 10) : Met l yX1_points (ws_ yX1_points cX1_points 3 (some .int)) (mR 3) (mP G [.int a, .int c_] st) (mQ G (some (.int (sp_points st a c_))) (st)) 0 0 (mA G) := by
  refine m_head (As := [.int a, .int c_]) (bytes := cX1_points) (maxL := 3) (ret := (some .int)) (by decide) rfl (Nat.le_of_ble_eq_true rfl) ?_
  intro p e s m below meth c E hml hr hlk hw ls hl
  have hx := E.1
  have hb := E.2.1
  have hts := E.2.2.1
  have hown := E.2.2.2.1
  have hl : lv_has ls 3 [(0, .ref G.1), (1, .int a), (2, .int c_)] := hl
  have hCn := cnt_n hC.1
  have hCi := cnt_i hC.1
  have hKn := cnt_n hK.1
  have hKi := cnt_i hK.1
  refine lv_aload_n (pc := 0) hx hb dX1_points_0 rfl (lv_at hl 0 rfl) ?_
  refine lv_iload_n (pc := 1) hx hb dX1_points_1 rfl (lv_at hl 1 rfl) ?_
  refine m_cVi (pc := 2) (As := [.int a]) (rest := []) E hml hl.1 hw (mt_noCar l G (st) a) q1414 q1416 qs39 q1417 hdX1_noCar ⟨Nat.le_of_ble_eq_true rfl, Nat.le_of_ble_eq_true rfl⟩ rfl rfl rfl (Nat.le_of_ble_eq_true rfl) dX1_points_2 (fun H locs hw => ?_)
  refine nb_ne (pc := 5) (tgt := 16) hx hb dX1_points_5 (by decide) (fun c_1 => ?_) (fun c_1 => ?_)
  · refine lv_iconst (pc := 16) (v := (-1)) hx hb dX1_points_16 (by decide) ?_
    exact m_iret E hr hlk hw dX1_points_17 (by first | (simp only [sp_points, if_neg c_1]; done) | contradiction | (simp only [sp_points, c_1, if_true, if_false]; done)) rfl
  · refine lv_aload_n (pc := 8) hx hb dX1_points_8 rfl (lv_at hl 0 rfl) ?_
    refine lv_iload_n (pc := 9) hx hb dX1_points_9 rfl (lv_at hl 2 rfl) ?_
    refine m_cVi (pc := 10) (As := [.int c_]) (rest := []) E hml hl.1 hw (mt_noControl l G (st) c_) q1385 q1387 qs37 q1388 hdX1_noControl ⟨Nat.le_of_ble_eq_true rfl, Nat.le_of_ble_eq_true rfl⟩ rfl rfl rfl (Nat.le_of_ble_eq_true rfl) dX1_points_10 (fun H locs hw => ?_)
    refine nb_eq (pc := 13) (tgt := 18) hx hb dX1_points_13 (by decide) (fun c_2 => ?_) (fun c_2 => ?_)
    · refine lv_aload_n (pc := 18) hx hb dX1_points_18 rfl (lv_at hl 0 rfl) ?_
      refine m_cVi (pc := 19) (As := []) (rest := []) E hml hl.1 hw (mt_hasDue l G (st) hL hV) q1364 q1366 qs35 q1367 hdX1_hasDue ⟨Nat.le_of_ble_eq_true rfl, Nat.le_of_ble_eq_true rfl⟩ rfl rfl rfl (Nat.le_of_ble_eq_true rfl) dX1_points_19 (fun H locs hw => ?_)
      refine lb_eq (pc := 22) (tgt := 34) hx hb dX1_points_22 (by decide) (fun c_3 => ?_) (fun c_3 => ?_)
      · refine lv_bipush (pc := 34) (v := (-3)) hx hb dX1_points_34 (by decide) ?_
        exact m_iret E hr hlk hw dX1_points_36 (by first | (simp only [sp_points, if_pos c_1, if_pos c_2, if_neg c_3]; done) | contradiction | (simp only [sp_points, c_1, c_2, c_3, if_true, if_false]; done)) rfl
      · have hD := c_3
        have han := clamp_n (x := a) c_1.1
        have hai := clamp_i (x := a) c_1.1
        have hcn := clamp_n (x := c_) c_2.1
        have hci := clamp_i (x := c_) c_2.1
        refine lv_aload_n (pc := 25) hx hb dX1_points_25 rfl (lv_at hl 0 rfl) ?_
        refine lv_iload_n (pc := 26) hx hb dX1_points_26 rfl (lv_at hl 1 rfl) ?_
        refine li_top (v' := .int (nI a.toNatClampNeg)) (congrArg Value.int han) ?_
        refine lv_iload_n (pc := 27) hx hb dX1_points_27 rfl (lv_at hl 2 rfl) ?_
        refine li_top (v' := .int (nI c_.toNatClampNeg)) (congrArg Value.int hcn) ?_
        refine m_cVi (pc := 28) (As := [.int (nI a.toNatClampNeg), .int (nI c_.toNatClampNeg)]) (rest := []) E hml hl.1 hw (mt_pointsAt l G (st) a.toNatClampNeg c_.toNatClampNeg (by omega) (by omega) hC hQ hV hP hD hZ) q1439 q1441 qs42 q1442 hdX1_pointsAt ⟨Nat.le_of_ble_eq_true rfl, Nat.le_of_ble_eq_true rfl⟩ rfl rfl rfl (Nat.le_of_ble_eq_true rfl) dX1_points_28 (fun H locs hw => ?_)
        refine lv_goto (pc := 31) (tgt := 36) hx hb dX1_points_31 (by decide) ?_
        exact m_iret E hr hlk hw dX1_points_36 (by first | (simp only [sp_points, if_pos c_1, if_pos c_2, if_pos c_3]; done) | contradiction | (simp only [sp_points, c_1, c_2, c_3, if_true, if_false]; done)) rfl
    · refine lv_iconst (pc := 16) (v := (-1)) hx hb dX1_points_16 (by decide) ?_
      exact m_iret E hr hlk hw dX1_points_17 (by first | (simp only [sp_points, if_pos c_1, if_neg c_2]; done) | contradiction | (simp only [sp_points, c_1, c_2, if_true, if_false]; done)) rfl
set_option maxHeartbeats 4000000 in
set_option maxRecDepth 100000 in
theorem mt_totalOf (l : Launch) (G : mG) (st : mS) (a : Nat)  (ha : a < 8) (hC : 0 ≤ (st 0 30).toInt ∧ (st 0 30).toInt ≤ 8) (hQ : ∀ c, c < 8 → ¬ st 33 c = 0 → (st 34 (4 * c + 2)).toInt < (st 34 (4 * c + 3)).toInt) (hV : 0 ≤ (st 0 27).toInt ∧ (st 0 27).toInt ≤ 8) (hP : ∀ k, k < cnt st 27 → 0 < (st 29 k).toInt) (hD : hasD st) (hZ : ∀ c, c < cnt st 30 → 0 ≤ (st 31 c).toInt) : Met l yX1_totalOf (ws_ yX1_totalOf cX1_totalOf 4 (some .int)) (mR 3) (mP G [.int (nI a)] st) (mQ G (some (.int (ttl st a))) (st)) 0 0 (mA G) := by
  refine m_head (As := [.int (nI a)]) (bytes := cX1_totalOf) (maxL := 4) (ret := (some .int)) (by decide) rfl (Nat.le_of_ble_eq_true rfl) ?_
  intro p e s m below meth c E hml hr hlk hw ls hl
  have hx := E.1
  have hb := E.2.1
  have hts := E.2.2.1
  have hown := E.2.2.2.1
  have hl : lv_has ls 4 [(0, .ref G.1), (1, .int (nI a))] := hl
  have hCn := cnt_n hC.1
  have hCi := cnt_i hC.1
  refine lv_iconst (pc := 0) (v := 0) hx hb dX1_totalOf_0 (by decide) ?_
  refine lv_istore_n (pc := 1) (lv' := [(2, .int 0), (0, .ref G.1), (1, .int (nI a))]) hx hb dX1_totalOf_1 rfl hl (by decide) rfl (fun ls hl => ?_)
  refine lv_iconst (pc := 2) (v := 0) hx hb dX1_totalOf_2 (by decide) ?_
  refine lv_istore_n (pc := 3) (lv' := [(3, .int 0), (2, .int 0), (0, .ref G.1), (1, .int (nI a))]) hx hb dX1_totalOf_3 rfl hl (by decide) rfl (fun ls hl => ?_)
  have loop : ∀ (n : Nat) (i : Nat) (y : Int32), i + n = cnt st 30 → ∀ (H : Heap) (locs : List Loc), mWd G s.heap st H locs → ∀ ls : Array Slot, lv_has ls 4 [(0, .ref G.1), (1, .int (nI a)), (2, .int y), (3, .int (nI i))] → W p l e (mR 3) s m (Value.ref G.1 :: [.int (nI a)] : List Value).toArray below meth c H locs 0 0 (MQ below (mQ G (some (.int (tot st a n i y))) (st)) (Value.ref G.1 :: [.int (nI a)] : List Value).toArray s 0 0 (mA G)) (F0 m 4 ls []) := by
    intro n
    induction n with
    | zero =>
      intro i y hi H locs hw ls hl
      refine lv_iload_n (pc := 4) hx hb dX1_totalOf_4 rfl (lv_at hl 3 rfl) ?_
      refine lv_aload_n (pc := 5) hx hb dX1_totalOf_5 rfl (lv_at hl 0 rfl) ?_
      refine m_getv (pc := 6) (v := (nI (cnt st 30))) E hw 30 (by decide) rfl hCn q1122 dX1_totalOf_6 ?_
      refine li_icmp_geN (pc := 9) (a := i) (b := cnt st 30) (tgt := 27) hx hb (by omega) (by omega) dX1_totalOf_9 (by decide) (fun c_1 => ?_) (fun c_1 => absurd c_1 (by omega))
      refine lv_iload_n (pc := 27) hx hb dX1_totalOf_27 rfl (lv_at hl 2 rfl) ?_
      exact m_iret E hr hlk hw dX1_totalOf_28 rfl rfl
    | succ n ih_loop =>
      intro i y hi H locs hw ls hl
      refine lv_iload_n (pc := 4) hx hb dX1_totalOf_4 rfl (lv_at hl 3 rfl) ?_
      refine lv_aload_n (pc := 5) hx hb dX1_totalOf_5 rfl (lv_at hl 0 rfl) ?_
      refine m_getv (pc := 6) (v := (nI (cnt st 30))) E hw 30 (by decide) rfl hCn q1122 dX1_totalOf_6 ?_
      refine li_icmp_geN (pc := 9) (a := i) (b := cnt st 30) (tgt := 27) hx hb (by omega) (by omega) dX1_totalOf_9 (by decide) (fun c_2 => absurd c_2 (by omega)) (fun c_2 => ?_)
      refine lv_iload_n (pc := 12) hx hb dX1_totalOf_12 rfl (lv_at hl 2 rfl) ?_
      refine lv_aload_n (pc := 13) hx hb dX1_totalOf_13 rfl (lv_at hl 0 rfl) ?_
      refine lv_iload_n (pc := 14) hx hb dX1_totalOf_14 rfl (lv_at hl 1 rfl) ?_
      refine lv_iload_n (pc := 15) hx hb dX1_totalOf_15 rfl (lv_at hl 3 rfl) ?_
      refine m_cVi (pc := 16) (As := [.int (nI a), .int (nI i)]) (rest := [.int y]) E hml hl.1 hw (mt_pointsAt l G (st) a i (by omega) (by omega) hC hQ hV hP hD hZ) q1439 q1441 qs42 q1442 hdX1_pointsAt ⟨Nat.le_of_ble_eq_true rfl, Nat.le_of_ble_eq_true rfl⟩ rfl rfl rfl (Nat.le_of_ble_eq_true rfl) dX1_totalOf_16 (fun H locs hw => ?_)
      refine lv_iadd (pc := 19) hx hb dX1_totalOf_19 ?_
      refine lv_istore_n (pc := 20) (lv' := [(2, .int (y + (pts st a i))), (0, .ref G.1), (1, .int (nI a)), (3, .int (nI i))]) hx hb dX1_totalOf_20 rfl hl (by decide) rfl (fun ls hl => ?_)
      refine lv_iinc (pc := 21) (v := (nI (i + 1))) (lv' := [(3, .int (nI (i + 1))), (2, .int (y + (pts st a i))), (0, .ref G.1), (1, .int (nI a))]) hx hb dX1_totalOf_21 hl (k := 3) rfl (nI_1 _) (by decide) rfl (fun ls hl => ?_)
      refine lv_goto (pc := 24) (tgt := 4) hx hb dX1_totalOf_24 (by decide) ?_
      exact m_to rfl rfl (ih_loop (i + 1) (y + (pts st a i)) (by omega) _ _ hw _ (lv_sub hl [2, 3, 1, 0] rfl))
  exact m_to rfl rfl (loop (cnt st 30) 0 0 (by omega) _ _ hw _ (lv_sub hl [2, 3, 1, 0] rfl))
set_option maxHeartbeats 4000000 in
set_option maxRecDepth 100000 in
theorem mt_isBetter (l : Launch) (G : mG) (st : mS) (a : Nat) (b : Nat)  (ha : a < 8) (hb8 : b < 8) (hC : 0 ≤ (st 0 30).toInt ∧ (st 0 30).toInt ≤ 8) (hQ : ∀ c, c < 8 → ¬ st 33 c = 0 → (st 34 (4 * c + 2)).toInt < (st 34 (4 * c + 3)).toInt) (hV : 0 ≤ (st 0 27).toInt ∧ (st 0 27).toInt ≤ 8) (hP : ∀ k, k < cnt st 27 → 0 < (st 29 k).toInt) (hD : hasD st) (hZ : ∀ c, c < cnt st 30 → 0 ≤ (st 31 c).toInt) : Met l yX1_isBetter (ws_ yX1_isBetter cX1_isBetter 8 (some .boolean)) (mR 4) (mP G [.int (nI a), .int (nI b)] st) (mQ G (some (.int (bI (btr st a b)))) (st)) 0 0 (mA G) := by
  refine m_head (As := [.int (nI a), .int (nI b)]) (bytes := cX1_isBetter) (maxL := 8) (ret := (some .boolean)) (by decide) rfl (Nat.le_of_ble_eq_true rfl) ?_
  intro p e s m below meth c E hml hr hlk hw ls hl
  have hx := E.1
  have hb := E.2.1
  have hts := E.2.2.1
  have hown := E.2.2.2.1
  have hl : lv_has ls 8 [(0, .ref G.1), (1, .int (nI a)), (2, .int (nI b))] := hl
  have hCn := cnt_n hC.1
  have hCi := cnt_i hC.1
  refine lv_aload_n (pc := 0) hx hb dX1_isBetter_0 rfl (lv_at hl 0 rfl) ?_
  refine lv_iload_n (pc := 1) hx hb dX1_isBetter_1 rfl (lv_at hl 1 rfl) ?_
  refine m_cVi (pc := 2) (As := [.int (nI a)]) (rest := []) E hml hl.1 hw (mt_totalOf l G (st) a (by omega) hC hQ hV hP hD hZ) q1454 q1456 qs44 q1457 hdX1_totalOf ⟨Nat.le_of_ble_eq_true rfl, Nat.le_of_ble_eq_true rfl⟩ rfl rfl rfl (Nat.le_of_ble_eq_true rfl) dX1_isBetter_2 (fun H locs hw => ?_)
  refine lv_istore_n (pc := 5) (lv' := [(3, .int (ttl st a)), (0, .ref G.1), (1, .int (nI a)), (2, .int (nI b))]) hx hb dX1_isBetter_5 rfl hl (by decide) rfl (fun ls hl => ?_)
  refine lv_aload_n (pc := 6) hx hb dX1_isBetter_6 rfl (lv_at hl 1 rfl) ?_
  refine lv_iload_n (pc := 7) hx hb dX1_isBetter_7 rfl (lv_at hl 3 rfl) ?_
  refine m_cVi (pc := 8) (As := [.int (nI b)]) (rest := []) E hml hl.1 hw (mt_totalOf l G (st) b (by omega) hC hQ hV hP hD hZ) q1454 q1456 qs44 q1457 hdX1_totalOf ⟨Nat.le_of_ble_eq_true rfl, Nat.le_of_ble_eq_true rfl⟩ rfl rfl rfl (Nat.le_of_ble_eq_true rfl) dX1_isBetter_8 (fun H locs hw => ?_)
  refine lv_istore (pc := 11) (lv' := [(4, .int (ttl st b)), (3, .int (ttl st a)), (0, .ref G.1), (1, .int (nI a)), (2, .int (nI b))]) hx hb dX1_isBetter_11 hl (by decide) rfl (fun ls hl => ?_)
  refine lv_iload_n (pc := 13) hx hb dX1_isBetter_13 rfl (lv_at hl 1 rfl) ?_
  refine lv_iload (pc := 14) hx hb dX1_isBetter_14 (lv_at hl 0 rfl) ?_
  refine lv_icmp_eq (pc := 16) (tgt := 31) hx hb dX1_isBetter_16 (by decide) (fun c_1 => ?_) (fun c_1 => ?_)
  · refine lv_iconst (pc := 31) (v := (-1)) hx hb dX1_isBetter_31 (by decide) ?_
    refine lv_istore (pc := 32) (lv' := [(5, .int (-1)), (4, .int (ttl st b)), (3, .int (ttl st a)), (0, .ref G.1), (1, .int (nI a)), (2, .int (nI b))]) hx hb dX1_isBetter_32 hl (by decide) rfl (fun ls hl => ?_)
    refine lv_iconst (pc := 34) (v := 0) hx hb dX1_isBetter_34 (by decide) ?_
    refine lv_istore (pc := 35) (lv' := [(6, .int 0), (5, .int (-1)), (4, .int (ttl st b)), (3, .int (ttl st a)), (0, .ref G.1), (1, .int (nI a)), (2, .int (nI b))]) hx hb dX1_isBetter_35 hl (by decide) rfl (fun ls hl => ?_)
    have loop : ∀ (n : Nat) (i : Nat) (z : Int32), i + n = cnt st 30 → -1 ≤ z.toInt ∧ z.toInt < i → ∀ (H : Heap) (locs : List Loc), mWd G s.heap st H locs → ∀ ls : Array Slot, lv_has ls 8 [(0, .ref G.1), (1, .int (nI a)), (2, .int (nI b)), (5, .int z), (6, .int (nI i))] → W p l e (mR 4) s m (Value.ref G.1 :: [.int (nI a), .int (nI b)] : List Value).toArray below meth c H locs 0 0 (MQ below (mQ G (some (.int (bI (bt2 st a b (fsu st a b n i z))))) (st)) (Value.ref G.1 :: [.int (nI a), .int (nI b)] : List Value).toArray s 0 0 (mA G)) (F0 m 37 ls []) := by
      intro n
      induction n with
      | zero =>
        intro i z hi hz H locs hw ls hl
        refine lv_iload (pc := 37) hx hb dX1_isBetter_37 (lv_at hl 4 rfl) ?_
        refine lv_aload_n (pc := 39) hx hb dX1_isBetter_39 rfl (lv_at hl 0 rfl) ?_
        refine m_getv (pc := 40) (v := (nI (cnt st 30))) E hw 30 (by decide) rfl hCn q1122 dX1_isBetter_40 ?_
        refine li_icmp_geN (pc := 43) (a := i) (b := cnt st 30) (tgt := 112) hx hb (by omega) (by omega) dX1_isBetter_43 (by decide) (fun c_2 => ?_) (fun c_2 => absurd c_2 (by omega))
        refine lv_iload (pc := 112) hx hb dX1_isBetter_112 (lv_at hl 3 rfl) ?_
        refine li_if_ge (pc := 114) (tgt := 130) hx hb dX1_isBetter_114 (by decide) (fun c_3 => ?_) (fun c_3 => ?_)
        · have hzn := clamp_n (x := z) (by omega)
          have hzi := clamp_i (x := z) (by omega)
          refine lv_aload_n (pc := 130) hx hb dX1_isBetter_130 rfl (lv_at hl 0 rfl) ?_
          refine lv_iload_n (pc := 131) hx hb dX1_isBetter_131 rfl (lv_at hl 1 rfl) ?_
          refine lv_iload (pc := 132) hx hb dX1_isBetter_132 (lv_at hl 3 rfl) ?_
          refine li_top (v' := .int (nI z.toNatClampNeg)) (congrArg Value.int hzn) ?_
          refine m_cVi (pc := 134) (As := [.int (nI a), .int (nI z.toNatClampNeg)]) (rest := []) E hml hl.1 hw (mt_pointsAt l G (st) a z.toNatClampNeg (by omega) (by omega) hC hQ hV hP hD hZ) q1439 q1441 qs42 q1442 hdX1_pointsAt ⟨Nat.le_of_ble_eq_true rfl, Nat.le_of_ble_eq_true rfl⟩ rfl rfl rfl (Nat.le_of_ble_eq_true rfl) dX1_isBetter_134 (fun H locs hw => ?_)
          refine lv_aload_n (pc := 137) hx hb dX1_isBetter_137 rfl (lv_at hl 0 rfl) ?_
          refine lv_iload_n (pc := 138) hx hb dX1_isBetter_138 rfl (lv_at hl 2 rfl) ?_
          refine lv_iload (pc := 139) hx hb dX1_isBetter_139 (lv_at hl 3 rfl) ?_
          refine li_top (v' := .int (nI z.toNatClampNeg)) (congrArg Value.int hzn) ?_
          refine m_cVi (pc := 141) (As := [.int (nI b), .int (nI z.toNatClampNeg)]) (rest := [.int (pts st a z.toNatClampNeg)]) E hml hl.1 hw (mt_pointsAt l G (st) b z.toNatClampNeg (by omega) (by omega) hC hQ hV hP hD hZ) q1439 q1441 qs42 q1442 hdX1_pointsAt ⟨Nat.le_of_ble_eq_true rfl, Nat.le_of_ble_eq_true rfl⟩ rfl rfl rfl (Nat.le_of_ble_eq_true rfl) dX1_isBetter_141 (fun H locs hw => ?_)
          refine li_icmp_ge (pc := 144) (tgt := 151) hx hb dX1_isBetter_144 (by decide) (fun c_4 => ?_) (fun c_4 => ?_)
          · refine lv_iconst (pc := 151) (v := 0) hx hb dX1_isBetter_151 (by decide) ?_
            exact m_zret E hr hlk hw dX1_isBetter_152 rfl (bI_f (by show ¬ bt2 st a b z; simp only [bt2, if_neg c_3]; exact c_4)).symm rfl
          · refine lv_iconst (pc := 147) (v := 1) hx hb dX1_isBetter_147 (by decide) ?_
            refine lv_goto (pc := 148) (tgt := 152) hx hb dX1_isBetter_148 (by decide) ?_
            exact m_zret E hr hlk hw dX1_isBetter_152 rfl (bI_t (by show bt2 st a b z; simp only [bt2, if_neg c_3]; exact c_4)).symm rfl
        · refine lv_iload_n (pc := 117) hx hb dX1_isBetter_117 rfl (lv_at hl 1 rfl) ?_
          refine lv_iload_n (pc := 118) hx hb dX1_isBetter_118 rfl (lv_at hl 2 rfl) ?_
          refine li_icmp_geN (pc := 119) (a := a) (b := b) (tgt := 126) hx hb (by omega) (by omega) dX1_isBetter_119 (by decide) (fun c_5 => ?_) (fun c_5 => ?_)
          · refine lv_iconst (pc := 126) (v := 0) hx hb dX1_isBetter_126 (by decide) ?_
            refine lv_goto (pc := 127) (tgt := 152) hx hb dX1_isBetter_127 (by decide) ?_
            exact m_zret E hr hlk hw dX1_isBetter_152 rfl (bI_f (by show ¬ bt2 st a b z; simp only [bt2, if_pos c_3]; exact c_5)).symm rfl
          · refine lv_iconst (pc := 122) (v := 1) hx hb dX1_isBetter_122 (by decide) ?_
            refine lv_goto (pc := 123) (tgt := 152) hx hb dX1_isBetter_123 (by decide) ?_
            exact m_zret E hr hlk hw dX1_isBetter_152 rfl (bI_t (by show bt2 st a b z; simp only [bt2, if_pos c_3]; exact c_5)).symm rfl
      | succ n ih_loop =>
        intro i z hi hz H locs hw ls hl
        refine lv_iload (pc := 37) hx hb dX1_isBetter_37 (lv_at hl 4 rfl) ?_
        refine lv_aload_n (pc := 39) hx hb dX1_isBetter_39 rfl (lv_at hl 0 rfl) ?_
        refine m_getv (pc := 40) (v := (nI (cnt st 30))) E hw 30 (by decide) rfl hCn q1122 dX1_isBetter_40 ?_
        refine li_icmp_geN (pc := 43) (a := i) (b := cnt st 30) (tgt := 112) hx hb (by omega) (by omega) dX1_isBetter_43 (by decide) (fun c_6 => absurd c_6 (by omega)) (fun c_6 => ?_)
        refine lv_aload_n (pc := 46) hx hb dX1_isBetter_46 rfl (lv_at hl 0 rfl) ?_
        refine lv_iload_n (pc := 47) hx hb dX1_isBetter_47 rfl (lv_at hl 1 rfl) ?_
        refine lv_iload (pc := 48) hx hb dX1_isBetter_48 (lv_at hl 4 rfl) ?_
        refine m_cVi (pc := 50) (As := [.int (nI a), .int (nI i)]) (rest := []) E hml hl.1 hw (mt_pointsAt l G (st) a i (by omega) (by omega) hC hQ hV hP hD hZ) q1439 q1441 qs42 q1442 hdX1_pointsAt ⟨Nat.le_of_ble_eq_true rfl, Nat.le_of_ble_eq_true rfl⟩ rfl rfl rfl (Nat.le_of_ble_eq_true rfl) dX1_isBetter_50 (fun H locs hw => ?_)
        refine lv_aload_n (pc := 53) hx hb dX1_isBetter_53 rfl (lv_at hl 0 rfl) ?_
        refine lv_iload_n (pc := 54) hx hb dX1_isBetter_54 rfl (lv_at hl 2 rfl) ?_
        refine lv_iload (pc := 55) hx hb dX1_isBetter_55 (lv_at hl 4 rfl) ?_
        refine m_cVi (pc := 57) (As := [.int (nI b), .int (nI i)]) (rest := [.int (pts st a i)]) E hml hl.1 hw (mt_pointsAt l G (st) b i (by omega) (by omega) hC hQ hV hP hD hZ) q1439 q1441 qs42 q1442 hdX1_pointsAt ⟨Nat.le_of_ble_eq_true rfl, Nat.le_of_ble_eq_true rfl⟩ rfl rfl rfl (Nat.le_of_ble_eq_true rfl) dX1_isBetter_57 (fun H locs hw => ?_)
        refine lv_icmp_eq (pc := 60) (tgt := 67) hx hb dX1_isBetter_60 (by decide) (fun c_7 => ?_) (fun c_7 => ?_)
        · refine lv_iconst (pc := 67) (v := 0) hx hb dX1_isBetter_67 (by decide) ?_
          refine lv_istore (pc := 68) (lv' := [(7, .int 0), (0, .ref G.1), (1, .int (nI a)), (2, .int (nI b)), (5, .int z), (6, .int (nI i))]) hx hb dX1_isBetter_68 hl (by decide) rfl (fun ls hl => ?_)
          refine lv_iload (pc := 70) hx hb dX1_isBetter_70 (lv_at hl 0 rfl) ?_
          refine lv_if_eq (pc := 72) (tgt := 102) hx hb dX1_isBetter_72 (by decide) (fun _ => ?_) (fun h_ => absurd h_ (by decide))
          refine lv_iload (pc := 102) hx hb dX1_isBetter_102 (lv_at hl 4 rfl) ?_
          refine lv_istore (pc := 104) (lv' := [(5, .int z), (7, .int 0), (0, .ref G.1), (1, .int (nI a)), (2, .int (nI b)), (6, .int (nI i))]) hx hb dX1_isBetter_104 hl (by decide) rfl (fun ls hl => ?_)
          refine lv_iinc (pc := 106) (v := (nI (i + 1))) (lv' := [(6, .int (nI (i + 1))), (5, .int z), (7, .int 0), (0, .ref G.1), (1, .int (nI a)), (2, .int (nI b))]) hx hb dX1_isBetter_106 hl (k := 5) rfl (nI_1 _) (by decide) rfl (fun ls hl => ?_)
          refine lv_goto (pc := 109) (tgt := 37) hx hb dX1_isBetter_109 (by decide) ?_
          exact m_to (by simp only [fsu, if_pos c_7]) rfl (ih_loop (i + 1) z (by omega) (by omega) _ _ hw _ (lv_sub hl [3, 4, 5, 1, 0] rfl))
        · refine lv_iconst (pc := 63) (v := 1) hx hb dX1_isBetter_63 (by decide) ?_
          refine lv_goto (pc := 64) (tgt := 68) hx hb dX1_isBetter_64 (by decide) ?_
          refine lv_istore (pc := 68) (lv' := [(7, .int 1), (0, .ref G.1), (1, .int (nI a)), (2, .int (nI b)), (5, .int z), (6, .int (nI i))]) hx hb dX1_isBetter_68 hl (by decide) rfl (fun ls hl => ?_)
          refine lv_iload (pc := 70) hx hb dX1_isBetter_70 (lv_at hl 0 rfl) ?_
          refine lv_if_eq (pc := 72) (tgt := 102) hx hb dX1_isBetter_72 (by decide) (fun h_ => absurd h_ (by decide)) (fun _ => ?_)
          refine lv_iload (pc := 75) hx hb dX1_isBetter_75 (lv_at hl 4 rfl) ?_
          refine li_if_lt (pc := 77) (tgt := 97) hx hb dX1_isBetter_77 (by decide) (fun c_8 => ?_) (fun c_8 => ?_)
          · refine lv_iload (pc := 97) hx hb dX1_isBetter_97 (lv_at hl 5 rfl) ?_
            refine lv_goto (pc := 99) (tgt := 104) hx hb dX1_isBetter_99 (by decide) ?_
            refine lv_istore (pc := 104) (lv' := [(5, .int (nI i)), (7, .int 1), (0, .ref G.1), (1, .int (nI a)), (2, .int (nI b)), (6, .int (nI i))]) hx hb dX1_isBetter_104 hl (by decide) rfl (fun ls hl => ?_)
            refine lv_iinc (pc := 106) (v := (nI (i + 1))) (lv' := [(6, .int (nI (i + 1))), (5, .int (nI i)), (7, .int 1), (0, .ref G.1), (1, .int (nI a)), (2, .int (nI b))]) hx hb dX1_isBetter_106 hl (k := 5) rfl (nI_1 _) (by decide) rfl (fun ls hl => ?_)
            refine lv_goto (pc := 109) (tgt := 37) hx hb dX1_isBetter_109 (by decide) ?_
            exact m_to (by simp only [fsu, if_neg c_7, if_pos c_8]) rfl (ih_loop (i + 1) (nI i) (by omega) (by rw [nI_toInt (by omega)]; omega) _ _ hw _ (lv_sub hl [3, 4, 5, 1, 0] rfl))
          · have hzn := clamp_n (x := z) (by omega)
            have hzi := clamp_i (x := z) (by omega)
            refine lv_aload_n (pc := 80) hx hb dX1_isBetter_80 rfl (lv_at hl 1 rfl) ?_
            refine m_geta (pc := 81) E hw 31 (by decide) (by decide) q1123 dX1_isBetter_81 ?_
            refine lv_iload (pc := 84) hx hb dX1_isBetter_84 (lv_at hl 5 rfl) ?_
            refine m_aldN (pc := 86) (v := (st 31 i)) E hw 31 (i) (by decide) rfl (show i < 8 from (by omega)) (by decide) rfl dX1_isBetter_86 ?_
            refine lv_aload_n (pc := 87) hx hb dX1_isBetter_87 rfl (lv_at hl 1 rfl) ?_
            refine m_geta (pc := 88) E hw 31 (by decide) (by decide) q1123 dX1_isBetter_88 ?_
            refine lv_iload (pc := 91) hx hb dX1_isBetter_91 (lv_at hl 4 rfl) ?_
            refine m_ald (pc := 93) E hw 31 (by decide) rfl (show vp_in z 8 from vp_in_iff.mpr ⟨by omega, by omega⟩) dX1_isBetter_93 ?_
            refine li_icmp_ge (pc := 94) (tgt := 102) hx hb dX1_isBetter_94 (by decide) (fun c_9 => ?_) (fun c_9 => ?_)
            · refine lv_iload (pc := 102) hx hb dX1_isBetter_102 (lv_at hl 4 rfl) ?_
              refine lv_istore (pc := 104) (lv' := [(5, .int z), (7, .int 1), (0, .ref G.1), (1, .int (nI a)), (2, .int (nI b)), (6, .int (nI i))]) hx hb dX1_isBetter_104 hl (by decide) rfl (fun ls hl => ?_)
              refine lv_iinc (pc := 106) (v := (nI (i + 1))) (lv' := [(6, .int (nI (i + 1))), (5, .int z), (7, .int 1), (0, .ref G.1), (1, .int (nI a)), (2, .int (nI b))]) hx hb dX1_isBetter_106 hl (k := 5) rfl (nI_1 _) (by decide) rfl (fun ls hl => ?_)
              refine lv_goto (pc := 109) (tgt := 37) hx hb dX1_isBetter_109 (by decide) ?_
              exact m_to (by simp only [fsu, if_neg c_7, if_neg c_8, if_neg c_9]) rfl (ih_loop (i + 1) z (by omega) (by omega) _ _ hw _ (lv_sub hl [3, 4, 5, 1, 0] rfl))
            · refine lv_iload (pc := 97) hx hb dX1_isBetter_97 (lv_at hl 5 rfl) ?_
              refine lv_goto (pc := 99) (tgt := 104) hx hb dX1_isBetter_99 (by decide) ?_
              refine lv_istore (pc := 104) (lv' := [(5, .int (nI i)), (7, .int 1), (0, .ref G.1), (1, .int (nI a)), (2, .int (nI b)), (6, .int (nI i))]) hx hb dX1_isBetter_104 hl (by decide) rfl (fun ls hl => ?_)
              refine lv_iinc (pc := 106) (v := (nI (i + 1))) (lv' := [(6, .int (nI (i + 1))), (5, .int (nI i)), (7, .int 1), (0, .ref G.1), (1, .int (nI a)), (2, .int (nI b))]) hx hb dX1_isBetter_106 hl (k := 5) rfl (nI_1 _) (by decide) rfl (fun ls hl => ?_)
              refine lv_goto (pc := 109) (tgt := 37) hx hb dX1_isBetter_109 (by decide) ?_
              exact m_to (by simp only [fsu, if_neg c_7, if_neg c_8, if_pos c_9]) rfl (ih_loop (i + 1) (nI i) (by omega) (by rw [nI_toInt (by omega)]; omega) _ _ hw _ (lv_sub hl [3, 4, 5, 1, 0] rfl))
    exact m_to (by simp only [btr, if_pos c_1]) rfl (loop (cnt st 30) 0 (-1) (by omega) (by decide) _ _ hw _ (lv_sub hl [4, 5, 6, 1, 0] rfl))
  · refine lv_iload_n (pc := 19) hx hb dX1_isBetter_19 rfl (lv_at hl 1 rfl) ?_
    refine lv_iload (pc := 20) hx hb dX1_isBetter_20 (lv_at hl 0 rfl) ?_
    refine li_icmp_ge (pc := 22) (tgt := 29) hx hb dX1_isBetter_22 (by decide) (fun c_10 => ?_) (fun c_10 => ?_)
    · refine lv_iconst (pc := 29) (v := 0) hx hb dX1_isBetter_29 (by decide) ?_
      exact m_zret E hr hlk hw dX1_isBetter_30 rfl (bI_f (by simp only [btr, if_neg c_1]; exact c_10)).symm rfl
    · refine lv_iconst (pc := 25) (v := 1) hx hb dX1_isBetter_25 (by decide) ?_
      refine lv_goto (pc := 26) (tgt := 30) hx hb dX1_isBetter_26 (by decide) ?_
      exact m_zret E hr hlk hw dX1_isBetter_30 rfl (bI_t (by simp only [btr, if_neg c_1]; exact c_10)).symm rfl
set_option maxHeartbeats 4000000 in
set_option maxRecDepth 100000 in
theorem mt_result (l : Launch) (G : mG) (st : mS) (a : Int32) (w : Int32)  (hC : 0 ≤ (st 0 30).toInt ∧ (st 0 30).toInt ≤ 8) (hK : 0 ≤ (st 0 35).toInt ∧ (st 0 35).toInt ≤ 8) (hQ : ∀ c, c < 8 → ¬ st 33 c = 0 → (st 34 (4 * c + 2)).toInt < (st 34 (4 * c + 3)).toInt) (hV : 0 ≤ (st 0 27).toInt ∧ (st 0 27).toInt ≤ 8) (hP : ∀ k, k < cnt st 27 → 0 < (st 29 k).toInt) (hZ : ∀ c, c < cnt st 30 → 0 ≤ (st 31 c).toInt) (hL : 0 ≤ (st 0 24).toInt ∧ (st 0 24).toInt ≤ 10) : Met l yX1_result (ws_ yX1_result cX1_result 6 (some .int)) (mR 5) (mP G [.int a, .int w] st) (mQ G (some (.int (sp_result st a w))) (st)) 0 0 (mA G) := by
  refine m_head (As := [.int a, .int w]) (bytes := cX1_result) (maxL := 6) (ret := (some .int)) (by decide) rfl (Nat.le_of_ble_eq_true rfl) ?_
  intro p e s m below meth c E hml hr hlk hw ls hl
  have hx := E.1
  have hb := E.2.1
  have hts := E.2.2.1
  have hown := E.2.2.2.1
  have hl : lv_has ls 6 [(0, .ref G.1), (1, .int a), (2, .int w)] := hl
  have hCn := cnt_n hC.1
  have hCi := cnt_i hC.1
  have hKn := cnt_n hK.1
  have hKi := cnt_i hK.1
  refine lv_aload_n (pc := 0) hx hb dX1_result_0 rfl (lv_at hl 0 rfl) ?_
  refine lv_iload_n (pc := 1) hx hb dX1_result_1 rfl (lv_at hl 1 rfl) ?_
  refine m_cVi (pc := 2) (As := [.int a]) (rest := []) E hml hl.1 hw (mt_noCar l G (st) a) q1414 q1416 qs39 q1417 hdX1_noCar ⟨Nat.le_of_ble_eq_true rfl, Nat.le_of_ble_eq_true rfl⟩ rfl rfl rfl (Nat.le_of_ble_eq_true rfl) dX1_result_2 (fun H locs hw => ?_)
  refine nb_eq (pc := 5) (tgt := 10) hx hb dX1_result_5 (by decide) (fun c_1 => ?_) (fun c_1 => ?_)
  · refine lv_iload_n (pc := 10) hx hb dX1_result_10 rfl (lv_at hl 2 rfl) ?_
    refine lv_i2l (pc := 11) (v := w.toInt64) hx hb dX1_result_11 rfl ?_
    refine lv_lconst (pc := 12) (v := 0) hx hb dX1_result_12 (by decide) ?_
    refine lv_ldc2 (pc := 13) hx hb hown (hts _ q1267) dX1_result_13 ?_
    refine m_cS (pc := 16) (As := [.long w.toInt64, .long 0, .long 3]) (rest := []) E hml hl.1 (mt_inB l w 0 3 0 3 rfl rfl) q1231 q1232 q1233 hdX1_in ⟨Nat.le_of_ble_eq_true rfl, Nat.le_of_ble_eq_true rfl⟩ rfl rfl rfl (Nat.le_of_ble_eq_true rfl) dX1_result_16 ?_
    refine lb_ne (pc := 19) (tgt := 25) hx hb dX1_result_19 (by decide) (fun c_2 => ?_) (fun c_2 => ?_)
    · refine lv_aload_n (pc := 25) hx hb dX1_result_25 rfl (lv_at hl 0 rfl) ?_
      refine m_cVi (pc := 26) (As := []) (rest := []) E hml hl.1 hw (mt_hasDue l G (st) hL hV) q1364 q1366 qs35 q1367 hdX1_hasDue ⟨Nat.le_of_ble_eq_true rfl, Nat.le_of_ble_eq_true rfl⟩ rfl rfl rfl (Nat.le_of_ble_eq_true rfl) dX1_result_26 (fun H locs hw => ?_)
      refine lb_ne (pc := 29) (tgt := 35) hx hb dX1_result_29 (by decide) (fun c_3 => ?_) (fun c_3 => ?_)
      · have hD := c_3
        have han := clamp_n (x := a) c_1.1
        have hai := clamp_i (x := a) c_1.1
        refine lv_iload_n (pc := 35) hx hb dX1_result_35 rfl (lv_at hl 2 rfl) ?_
        refine li_ne (pc := 36) (tgt := 45) hx hb dX1_result_36 (by decide) (fun c_4 => ?_) (fun c_4 => ?_)
        · refine lv_iconst (pc := 45) (v := 0) hx hb dX1_result_45 (by decide) ?_
          refine lv_istore_n (pc := 46) (lv' := [(3, .int 0), (0, .ref G.1), (1, .int a), (2, .int w)]) hx hb dX1_result_46 rfl hl (by decide) rfl (fun ls hl => ?_)
          refine lv_iload_n (pc := 47) hx hb dX1_result_47 rfl (lv_at hl 3 rfl) ?_
          refine lv_iconst (pc := 48) (v := 1) hx hb dX1_result_48 (by decide) ?_
          refine li_icne (pc := 49) (tgt := 98) hx hb dX1_result_49 (by decide) (fun c_5 => ?_) (fun c_5 => ?_)
          · refine lv_iconst (pc := 98) (v := 0) hx hb dX1_result_98 (by decide) ?_
            refine lv_istore (pc := 99) (lv' := [(4, .int 0), (3, .int 0), (0, .ref G.1), (1, .int a), (2, .int w)]) hx hb dX1_result_99 hl (by decide) rfl (fun ls hl => ?_)
            have loopB : ∀ (n : Nat) (i : Nat) (y : Int32), i + n = cnt st 30 → ∀ (H : Heap) (locs : List Loc), mWd G s.heap st H locs → ∀ ls : Array Slot, lv_has ls 6 [(0, .ref G.1), (1, .int a), (2, .int w), (3, .int y), (4, .int (nI i))] → W p l e (mR 5) s m (Value.ref G.1 :: [.int a, .int w] : List Value).toArray below meth c H locs 0 0 (MQ below (mQ G (some (.int (cn2 st a.toNatClampNeg w n i y))) (st)) (Value.ref G.1 :: [.int a, .int w] : List Value).toArray s 0 0 (mA G)) (F0 m 101 ls []) := by
              intro n
              induction n with
              | zero =>
                intro i y hi H locs hw ls hl
                refine lv_iload (pc := 101) hx hb dX1_result_101 (lv_at hl 4 rfl) ?_
                refine lv_aload_n (pc := 103) hx hb dX1_result_103 rfl (lv_at hl 0 rfl) ?_
                refine m_getv (pc := 104) (v := (nI (cnt st 30))) E hw 30 (by decide) rfl hCn q1122 dX1_result_104 ?_
                refine li_icmp_geN (pc := 107) (a := i) (b := cnt st 30) (tgt := 184) hx hb (by omega) (by omega) dX1_result_107 (by decide) (fun c_6 => ?_) (fun c_6 => absurd c_6 (by omega))
                refine lv_iload_n (pc := 184) hx hb dX1_result_184 rfl (lv_at hl 3 rfl) ?_
                exact m_iret E hr hlk hw dX1_result_185 rfl rfl
              | succ n ih_loopB =>
                intro i y hi H locs hw ls hl
                refine lv_iload (pc := 101) hx hb dX1_result_101 (lv_at hl 4 rfl) ?_
                refine lv_aload_n (pc := 103) hx hb dX1_result_103 rfl (lv_at hl 0 rfl) ?_
                refine m_getv (pc := 104) (v := (nI (cnt st 30))) E hw 30 (by decide) rfl hCn q1122 dX1_result_104 ?_
                refine li_icmp_geN (pc := 107) (a := i) (b := cnt st 30) (tgt := 184) hx hb (by omega) (by omega) dX1_result_107 (by decide) (fun c_7 => absurd c_7 (by omega)) (fun c_7 => ?_)
                refine lv_aload_n (pc := 110) hx hb dX1_result_110 rfl (lv_at hl 0 rfl) ?_
                refine m_geta (pc := 111) E hw 39 (by decide) (by decide) q1131 dX1_result_111 ?_
                refine lv_bipush (pc := 114) (v := 8) hx hb dX1_result_114 (by decide) ?_
                refine lv_iload_n (pc := 116) hx hb dX1_result_116 rfl (lv_at hl 1 rfl) ?_
                refine li_top (v' := .int (nI a.toNatClampNeg)) (congrArg Value.int han) ?_
                refine li_mulN (pc := 117) (a := 8) (b := a.toNatClampNeg) hx hb dX1_result_117 ?_
                refine lv_iload (pc := 118) hx hb dX1_result_118 (lv_at hl 4 rfl) ?_
                refine li_addN (pc := 120) (a := 8 * a.toNatClampNeg) (b := i) hx hb dX1_result_120 ?_
                refine m_aldN (pc := 121) (v := (st 39 ((8 * a.toNatClampNeg) + i))) E hw 39 ((8 * a.toNatClampNeg) + i) (by decide) rfl (show (8 * a.toNatClampNeg) + i < 64 from (by omega)) (by decide) rfl dX1_result_121 ?_
                refine li_if_le (pc := 122) (tgt := 129) hx hb dX1_result_122 (by decide) (fun c_8 => ?_) (fun c_8 => ?_)
                · refine lv_iconst (pc := 129) (v := 0) hx hb dX1_result_129 (by decide) ?_
                  refine lv_istore (pc := 130) (lv' := [(5, .int 0), (0, .ref G.1), (1, .int a), (2, .int w), (3, .int y), (4, .int (nI i))]) hx hb dX1_result_130 hl (by decide) rfl (fun ls hl => ?_)
                  refine lv_iload_n (pc := 132) hx hb dX1_result_132 rfl (lv_at hl 4 rfl) ?_
                  refine lv_aload_n (pc := 133) hx hb dX1_result_133 rfl (lv_at hl 1 rfl) ?_
                  refine m_geta (pc := 134) E hw 32 (by decide) (by decide) q1124 dX1_result_134 ?_
                  refine lv_iload (pc := 137) hx hb dX1_result_137 (lv_at hl 5 rfl) ?_
                  refine m_zldN (pc := 139) (v := (st 32 i)) E hw 32 (i) (by decide) rfl (show i < 8 from (by omega)) (by decide) rfl dX1_result_139 ?_
                  refine li_ne (pc := 140) (tgt := 175) hx hb dX1_result_140 (by decide) (fun c_9 => ?_) (fun c_9 => ?_)
                  · refine lv_iconst (pc := 175) (v := 0) hx hb dX1_result_175 (by decide) ?_
                    refine lv_iadd (pc := 176) hx hb dX1_result_176 ?_
                    refine lv_istore_n (pc := 177) (lv' := [(3, .int (y + 0)), (5, .int 0), (0, .ref G.1), (1, .int a), (2, .int w), (4, .int (nI i))]) hx hb dX1_result_177 rfl hl (by decide) rfl (fun ls hl => ?_)
                    refine lv_iinc (pc := 178) (v := (nI (i + 1))) (lv' := [(4, .int (nI (i + 1))), (3, .int (y + 0)), (5, .int 0), (0, .ref G.1), (1, .int a), (2, .int w)]) hx hb dX1_result_178 hl (k := 5) rfl (nI_1 _) (by decide) rfl (fun ls hl => ?_)
                    refine lv_goto (pc := 181) (tgt := 101) hx hb dX1_result_181 (by decide) ?_
                    exact m_to (by simp only [cn2, if_neg c_8, if_neg c_9]) rfl (ih_loopB (i + 1) (y + 0) (by omega) _ _ hw _ (lv_sub hl [3, 4, 5, 1, 0] rfl))
                  · refine lv_iload_n (pc := 143) hx hb dX1_result_143 rfl (lv_at hl 3 rfl) ?_
                    refine lv_iconst (pc := 144) (v := 2) hx hb dX1_result_144 (by decide) ?_
                    refine li_icne (pc := 145) (tgt := 156) hx hb dX1_result_145 (by decide) (fun c_10 => ?_) (fun c_10 => ?_)
                    · refine lv_iload (pc := 156) hx hb dX1_result_156 (lv_at hl 0 rfl) ?_
                      refine lv_if_eq (pc := 158) (tgt := 175) hx hb dX1_result_158 (by decide) (fun _ => ?_) (fun h_ => absurd h_ (by decide))
                      refine lv_iconst (pc := 175) (v := 0) hx hb dX1_result_175 (by decide) ?_
                      refine lv_iadd (pc := 176) hx hb dX1_result_176 ?_
                      refine lv_istore_n (pc := 177) (lv' := [(3, .int (y + 0)), (5, .int 0), (0, .ref G.1), (1, .int a), (2, .int w), (4, .int (nI i))]) hx hb dX1_result_177 rfl hl (by decide) rfl (fun ls hl => ?_)
                      refine lv_iinc (pc := 178) (v := (nI (i + 1))) (lv' := [(4, .int (nI (i + 1))), (3, .int (y + 0)), (5, .int 0), (0, .ref G.1), (1, .int a), (2, .int w)]) hx hb dX1_result_178 hl (k := 5) rfl (nI_1 _) (by decide) rfl (fun ls hl => ?_)
                      refine lv_goto (pc := 181) (tgt := 101) hx hb dX1_result_181 (by decide) ?_
                      exact m_to (by simp only [cn2, if_neg c_8, if_pos c_9, if_neg c_10]) rfl (ih_loopB (i + 1) (y + 0) (by omega) _ _ hw _ (lv_sub hl [3, 4, 5, 1, 0] rfl))
                    · refine lv_iload (pc := 148) hx hb dX1_result_148 (lv_at hl 0 rfl) ?_
                      refine li_ne (pc := 150) (tgt := 175) hx hb dX1_result_150 (by decide) (fun h_ => absurd h_ (by decide)) (fun _ => ?_)
                      refine lv_goto (pc := 153) (tgt := 171) hx hb dX1_result_153 (by decide) ?_
                      refine lv_iconst (pc := 171) (v := 1) hx hb dX1_result_171 (by decide) ?_
                      refine lv_goto (pc := 172) (tgt := 176) hx hb dX1_result_172 (by decide) ?_
                      refine lv_iadd (pc := 176) hx hb dX1_result_176 ?_
                      refine lv_istore_n (pc := 177) (lv' := [(3, .int (y + 1)), (5, .int 0), (0, .ref G.1), (1, .int a), (2, .int w), (4, .int (nI i))]) hx hb dX1_result_177 rfl hl (by decide) rfl (fun ls hl => ?_)
                      refine lv_iinc (pc := 178) (v := (nI (i + 1))) (lv' := [(4, .int (nI (i + 1))), (3, .int (y + 1)), (5, .int 0), (0, .ref G.1), (1, .int a), (2, .int w)]) hx hb dX1_result_178 hl (k := 5) rfl (nI_1 _) (by decide) rfl (fun ls hl => ?_)
                      refine lv_goto (pc := 181) (tgt := 101) hx hb dX1_result_181 (by decide) ?_
                      exact m_to (by simp only [cn2, if_neg c_8, if_pos c_9, if_pos c_10]) rfl (ih_loopB (i + 1) (y + 1) (by omega) _ _ hw _ (lv_sub hl [3, 4, 5, 1, 0] rfl))
                · refine lv_iconst (pc := 125) (v := 1) hx hb dX1_result_125 (by decide) ?_
                  refine lv_goto (pc := 126) (tgt := 130) hx hb dX1_result_126 (by decide) ?_
                  refine lv_istore (pc := 130) (lv' := [(5, .int 1), (0, .ref G.1), (1, .int a), (2, .int w), (3, .int y), (4, .int (nI i))]) hx hb dX1_result_130 hl (by decide) rfl (fun ls hl => ?_)
                  refine lv_iload_n (pc := 132) hx hb dX1_result_132 rfl (lv_at hl 4 rfl) ?_
                  refine lv_aload_n (pc := 133) hx hb dX1_result_133 rfl (lv_at hl 1 rfl) ?_
                  refine m_geta (pc := 134) E hw 32 (by decide) (by decide) q1124 dX1_result_134 ?_
                  refine lv_iload (pc := 137) hx hb dX1_result_137 (lv_at hl 5 rfl) ?_
                  refine m_zldN (pc := 139) (v := (st 32 i)) E hw 32 (i) (by decide) rfl (show i < 8 from (by omega)) (by decide) rfl dX1_result_139 ?_
                  refine li_ne (pc := 140) (tgt := 175) hx hb dX1_result_140 (by decide) (fun c_11 => ?_) (fun c_11 => ?_)
                  · refine lv_iconst (pc := 175) (v := 0) hx hb dX1_result_175 (by decide) ?_
                    refine lv_iadd (pc := 176) hx hb dX1_result_176 ?_
                    refine lv_istore_n (pc := 177) (lv' := [(3, .int (y + 0)), (5, .int 1), (0, .ref G.1), (1, .int a), (2, .int w), (4, .int (nI i))]) hx hb dX1_result_177 rfl hl (by decide) rfl (fun ls hl => ?_)
                    refine lv_iinc (pc := 178) (v := (nI (i + 1))) (lv' := [(4, .int (nI (i + 1))), (3, .int (y + 0)), (5, .int 1), (0, .ref G.1), (1, .int a), (2, .int w)]) hx hb dX1_result_178 hl (k := 5) rfl (nI_1 _) (by decide) rfl (fun ls hl => ?_)
                    refine lv_goto (pc := 181) (tgt := 101) hx hb dX1_result_181 (by decide) ?_
                    exact m_to (by simp only [cn2, if_pos c_8, if_neg c_11]) rfl (ih_loopB (i + 1) (y + 0) (by omega) _ _ hw _ (lv_sub hl [3, 4, 5, 1, 0] rfl))
                  · refine lv_iload_n (pc := 143) hx hb dX1_result_143 rfl (lv_at hl 3 rfl) ?_
                    refine lv_iconst (pc := 144) (v := 2) hx hb dX1_result_144 (by decide) ?_
                    refine li_icne (pc := 145) (tgt := 156) hx hb dX1_result_145 (by decide) (fun c_12 => ?_) (fun c_12 => ?_)
                    · refine lv_iload (pc := 156) hx hb dX1_result_156 (lv_at hl 0 rfl) ?_
                      refine lv_if_eq (pc := 158) (tgt := 175) hx hb dX1_result_158 (by decide) (fun h_ => absurd h_ (by decide)) (fun _ => ?_)
                      refine lv_aload_n (pc := 161) hx hb dX1_result_161 rfl (lv_at hl 1 rfl) ?_
                      refine lv_iload_n (pc := 162) hx hb dX1_result_162 rfl (lv_at hl 2 rfl) ?_
                      refine li_top (v' := .int (nI a.toNatClampNeg)) (congrArg Value.int han) ?_
                      refine lv_iload (pc := 163) hx hb dX1_result_163 (lv_at hl 5 rfl) ?_
                      refine m_cVi (pc := 165) (As := [.int (nI a.toNatClampNeg), .int (nI i)]) (rest := [.int y]) E hml hl.1 hw (mt_isOutOfOrder l G (st) a.toNatClampNeg i (by omega) (by omega) hC) q1443 q1445 qs43 q1446 hdX1_isOutOfOrder ⟨Nat.le_of_ble_eq_true rfl, Nat.le_of_ble_eq_true rfl⟩ rfl rfl rfl (Nat.le_of_ble_eq_true rfl) dX1_result_165 (fun H locs hw => ?_)
                      refine lv_if_eq (pc := 168) (tgt := 175) hx hb dX1_result_168 (by decide) (fun c_13 => ?_) (fun c_13 => ?_)
                      · refine lv_iconst (pc := 175) (v := 0) hx hb dX1_result_175 (by decide) ?_
                        refine lv_iadd (pc := 176) hx hb dX1_result_176 ?_
                        refine lv_istore_n (pc := 177) (lv' := [(3, .int (y + 0)), (5, .int 1), (0, .ref G.1), (1, .int a), (2, .int w), (4, .int (nI i))]) hx hb dX1_result_177 rfl hl (by decide) rfl (fun ls hl => ?_)
                        refine lv_iinc (pc := 178) (v := (nI (i + 1))) (lv' := [(4, .int (nI (i + 1))), (3, .int (y + 0)), (5, .int 1), (0, .ref G.1), (1, .int a), (2, .int w)]) hx hb dX1_result_178 hl (k := 5) rfl (nI_1 _) (by decide) rfl (fun ls hl => ?_)
                        refine lv_goto (pc := 181) (tgt := 101) hx hb dX1_result_181 (by decide) ?_
                        exact m_to (by simp only [cn2, if_pos c_8, if_pos c_11, if_neg c_12, if_pos c_13]) rfl (ih_loopB (i + 1) (y + 0) (by omega) _ _ hw _ (lv_sub hl [3, 4, 5, 1, 0] rfl))
                      · refine lv_iconst (pc := 171) (v := 1) hx hb dX1_result_171 (by decide) ?_
                        refine lv_goto (pc := 172) (tgt := 176) hx hb dX1_result_172 (by decide) ?_
                        refine lv_iadd (pc := 176) hx hb dX1_result_176 ?_
                        refine lv_istore_n (pc := 177) (lv' := [(3, .int (y + 1)), (5, .int 1), (0, .ref G.1), (1, .int a), (2, .int w), (4, .int (nI i))]) hx hb dX1_result_177 rfl hl (by decide) rfl (fun ls hl => ?_)
                        refine lv_iinc (pc := 178) (v := (nI (i + 1))) (lv' := [(4, .int (nI (i + 1))), (3, .int (y + 1)), (5, .int 1), (0, .ref G.1), (1, .int a), (2, .int w)]) hx hb dX1_result_178 hl (k := 5) rfl (nI_1 _) (by decide) rfl (fun ls hl => ?_)
                        refine lv_goto (pc := 181) (tgt := 101) hx hb dX1_result_181 (by decide) ?_
                        exact m_to (by simp only [cn2, if_pos c_8, if_pos c_11, if_neg c_12, if_neg c_13]) rfl (ih_loopB (i + 1) (y + 1) (by omega) _ _ hw _ (lv_sub hl [3, 4, 5, 1, 0] rfl))
                    · refine lv_iload (pc := 148) hx hb dX1_result_148 (lv_at hl 0 rfl) ?_
                      refine li_ne (pc := 150) (tgt := 175) hx hb dX1_result_150 (by decide) (fun _ => ?_) (fun h_ => absurd h_ (by decide))
                      refine lv_iconst (pc := 175) (v := 0) hx hb dX1_result_175 (by decide) ?_
                      refine lv_iadd (pc := 176) hx hb dX1_result_176 ?_
                      refine lv_istore_n (pc := 177) (lv' := [(3, .int (y + 0)), (5, .int 1), (0, .ref G.1), (1, .int a), (2, .int w), (4, .int (nI i))]) hx hb dX1_result_177 rfl hl (by decide) rfl (fun ls hl => ?_)
                      refine lv_iinc (pc := 178) (v := (nI (i + 1))) (lv' := [(4, .int (nI (i + 1))), (3, .int (y + 0)), (5, .int 1), (0, .ref G.1), (1, .int a), (2, .int w)]) hx hb dX1_result_178 hl (k := 5) rfl (nI_1 _) (by decide) rfl (fun ls hl => ?_)
                      refine lv_goto (pc := 181) (tgt := 101) hx hb dX1_result_181 (by decide) ?_
                      exact m_to (by simp only [cn2, if_pos c_8, if_pos c_11, if_pos c_12]) rfl (ih_loopB (i + 1) (y + 0) (by omega) _ _ hw _ (lv_sub hl [3, 4, 5, 1, 0] rfl))
            exact m_to (by simp only [sp_result, if_pos c_1, if_pos c_2, if_pos c_3, if_neg c_4, if_neg c_5]) rfl (loopB (cnt st 30) 0 0 (by omega) _ _ hw _ (lv_sub hl [2, 3, 4, 1, 0] rfl))
          · refine lv_iconst (pc := 52) (v := 0) hx hb dX1_result_52 (by decide) ?_
            refine lv_istore (pc := 53) (lv' := [(4, .int 0), (3, .int 0), (0, .ref G.1), (1, .int a), (2, .int w)]) hx hb dX1_result_53 hl (by decide) rfl (fun ls hl => ?_)
            have loopA : ∀ (n : Nat) (i : Nat) (y : Int32), i + n = cnt st 35 → ∀ (H : Heap) (locs : List Loc), mWd G s.heap st H locs → ∀ ls : Array Slot, lv_has ls 6 [(0, .ref G.1), (1, .int a), (2, .int w), (3, .int y), (4, .int (nI i))] → W p l e (mR 5) s m (Value.ref G.1 :: [.int a, .int w] : List Value).toArray below meth c H locs 0 0 (MQ below (mQ G (some (.int (rnk st a.toNatClampNeg n i y))) (st)) (Value.ref G.1 :: [.int a, .int w] : List Value).toArray s 0 0 (mA G)) (F0 m 55 ls []) := by
              intro n
              induction n with
              | zero =>
                intro i y hi H locs hw ls hl
                refine lv_iload (pc := 55) hx hb dX1_result_55 (lv_at hl 4 rfl) ?_
                refine lv_aload_n (pc := 57) hx hb dX1_result_57 rfl (lv_at hl 0 rfl) ?_
                refine m_getv (pc := 58) (v := (nI (cnt st 35))) E hw 35 (by decide) rfl hKn q1127 dX1_result_58 ?_
                refine li_icmp_geN (pc := 61) (a := i) (b := cnt st 35) (tgt := 94) hx hb (by omega) (by omega) dX1_result_61 (by decide) (fun c_14 => ?_) (fun c_14 => absurd c_14 (by omega))
                refine lv_iload_n (pc := 94) hx hb dX1_result_94 rfl (lv_at hl 3 rfl) ?_
                refine lv_iconst (pc := 95) (v := 1) hx hb dX1_result_95 (by decide) ?_
                refine lv_iadd (pc := 96) hx hb dX1_result_96 ?_
                exact m_iret E hr hlk hw dX1_result_97 rfl rfl
              | succ n ih_loopA =>
                intro i y hi H locs hw ls hl
                refine lv_iload (pc := 55) hx hb dX1_result_55 (lv_at hl 4 rfl) ?_
                refine lv_aload_n (pc := 57) hx hb dX1_result_57 rfl (lv_at hl 0 rfl) ?_
                refine m_getv (pc := 58) (v := (nI (cnt st 35))) E hw 35 (by decide) rfl hKn q1127 dX1_result_58 ?_
                refine li_icmp_geN (pc := 61) (a := i) (b := cnt st 35) (tgt := 94) hx hb (by omega) (by omega) dX1_result_61 (by decide) (fun c_15 => absurd c_15 (by omega)) (fun c_15 => ?_)
                refine lv_iload_n (pc := 64) hx hb dX1_result_64 rfl (lv_at hl 3 rfl) ?_
                refine lv_iload (pc := 65) hx hb dX1_result_65 (lv_at hl 4 rfl) ?_
                refine lv_iload_n (pc := 67) hx hb dX1_result_67 rfl (lv_at hl 1 rfl) ?_
                refine li_top (v' := .int (nI a.toNatClampNeg)) (congrArg Value.int han) ?_
                refine li_icmp_eqN (pc := 68) (a := i) (b := a.toNatClampNeg) (tgt := 85) hx hb (by omega) (by omega) dX1_result_68 (by decide) (fun c_16 => ?_) (fun c_16 => ?_)
                · refine lv_iconst (pc := 85) (v := 0) hx hb dX1_result_85 (by decide) ?_
                  refine lv_iadd (pc := 86) hx hb dX1_result_86 ?_
                  refine lv_istore_n (pc := 87) (lv' := [(3, .int (y + 0)), (0, .ref G.1), (1, .int a), (2, .int w), (4, .int (nI i))]) hx hb dX1_result_87 rfl hl (by decide) rfl (fun ls hl => ?_)
                  refine lv_iinc (pc := 88) (v := (nI (i + 1))) (lv' := [(4, .int (nI (i + 1))), (3, .int (y + 0)), (0, .ref G.1), (1, .int a), (2, .int w)]) hx hb dX1_result_88 hl (k := 4) rfl (nI_1 _) (by decide) rfl (fun ls hl => ?_)
                  refine lv_goto (pc := 91) (tgt := 55) hx hb dX1_result_91 (by decide) ?_
                  exact m_to (by simp only [rnk, if_pos c_16]) rfl (ih_loopA (i + 1) (y + 0) (by omega) _ _ hw _ (lv_sub hl [2, 3, 4, 1, 0] rfl))
                · refine lv_aload_n (pc := 71) hx hb dX1_result_71 rfl (lv_at hl 0 rfl) ?_
                  refine lv_iload (pc := 72) hx hb dX1_result_72 (lv_at hl 4 rfl) ?_
                  refine lv_iload_n (pc := 74) hx hb dX1_result_74 rfl (lv_at hl 1 rfl) ?_
                  refine li_top (v' := .int (nI a.toNatClampNeg)) (congrArg Value.int han) ?_
                  refine m_cVi (pc := 75) (As := [.int (nI i), .int (nI a.toNatClampNeg)]) (rest := [.int y]) E hml hl.1 hw (mt_isBetter l G (st) i a.toNatClampNeg (by omega) (by omega) hC hQ hV hP hD hZ) q1458 q1460 qs45 q1461 hdX1_isBetter ⟨Nat.le_of_ble_eq_true rfl, Nat.le_of_ble_eq_true rfl⟩ rfl rfl rfl (Nat.le_of_ble_eq_true rfl) dX1_result_75 (fun H locs hw => ?_)
                  refine lb_eq (pc := 78) (tgt := 85) hx hb dX1_result_78 (by decide) (fun c_17 => ?_) (fun c_17 => ?_)
                  · refine lv_iconst (pc := 85) (v := 0) hx hb dX1_result_85 (by decide) ?_
                    refine lv_iadd (pc := 86) hx hb dX1_result_86 ?_
                    refine lv_istore_n (pc := 87) (lv' := [(3, .int (y + 0)), (0, .ref G.1), (1, .int a), (2, .int w), (4, .int (nI i))]) hx hb dX1_result_87 rfl hl (by decide) rfl (fun ls hl => ?_)
                    refine lv_iinc (pc := 88) (v := (nI (i + 1))) (lv' := [(4, .int (nI (i + 1))), (3, .int (y + 0)), (0, .ref G.1), (1, .int a), (2, .int w)]) hx hb dX1_result_88 hl (k := 4) rfl (nI_1 _) (by decide) rfl (fun ls hl => ?_)
                    refine lv_goto (pc := 91) (tgt := 55) hx hb dX1_result_91 (by decide) ?_
                    exact m_to (by simp only [rnk, if_neg c_16, bI_f c_17]) rfl (ih_loopA (i + 1) (y + 0) (by omega) _ _ hw _ (lv_sub hl [2, 3, 4, 1, 0] rfl))
                  · refine lv_iconst (pc := 81) (v := 1) hx hb dX1_result_81 (by decide) ?_
                    refine lv_goto (pc := 82) (tgt := 86) hx hb dX1_result_82 (by decide) ?_
                    refine lv_iadd (pc := 86) hx hb dX1_result_86 ?_
                    refine lv_istore_n (pc := 87) (lv' := [(3, .int (y + 1)), (0, .ref G.1), (1, .int a), (2, .int w), (4, .int (nI i))]) hx hb dX1_result_87 rfl hl (by decide) rfl (fun ls hl => ?_)
                    refine lv_iinc (pc := 88) (v := (nI (i + 1))) (lv' := [(4, .int (nI (i + 1))), (3, .int (y + 1)), (0, .ref G.1), (1, .int a), (2, .int w)]) hx hb dX1_result_88 hl (k := 4) rfl (nI_1 _) (by decide) rfl (fun ls hl => ?_)
                    refine lv_goto (pc := 91) (tgt := 55) hx hb dX1_result_91 (by decide) ?_
                    exact m_to (by simp only [rnk, if_neg c_16, bI_t c_17]) rfl (ih_loopA (i + 1) (y + 1) (by omega) _ _ hw _ (lv_sub hl [2, 3, 4, 1, 0] rfl))
            exact m_to (by simp only [sp_result, if_pos c_1, if_pos c_2, if_pos c_3, if_neg c_4, if_pos c_5]) rfl (loopA (cnt st 35) 0 0 (by omega) _ _ hw _ (lv_sub hl [2, 3, 4, 1, 0] rfl))
        · refine lv_aload_n (pc := 39) hx hb dX1_result_39 rfl (lv_at hl 0 rfl) ?_
          refine lv_iload_n (pc := 40) hx hb dX1_result_40 rfl (lv_at hl 1 rfl) ?_
          refine li_top (v' := .int (nI a.toNatClampNeg)) (congrArg Value.int han) ?_
          refine m_cVi (pc := 41) (As := [.int (nI a.toNatClampNeg)]) (rest := []) E hml hl.1 hw (mt_totalOf l G (st) a.toNatClampNeg (by omega) hC hQ hV hP hD hZ) q1454 q1456 qs44 q1457 hdX1_totalOf ⟨Nat.le_of_ble_eq_true rfl, Nat.le_of_ble_eq_true rfl⟩ rfl rfl rfl (Nat.le_of_ble_eq_true rfl) dX1_result_41 (fun H locs hw => ?_)
          exact m_iret E hr hlk hw dX1_result_44 (by first | (simp only [sp_result, if_pos c_1, if_pos c_2, if_pos c_3, if_pos c_4]; done) | contradiction | (simp only [sp_result, c_1, c_2, c_3, c_4, if_true, if_false]; done)) rfl
      · refine lv_bipush (pc := 32) (v := (-3)) hx hb dX1_result_32 (by decide) ?_
        exact m_iret E hr hlk hw dX1_result_34 (by first | (simp only [sp_result, if_pos c_1, if_pos c_2, if_neg c_3]; done) | contradiction | (simp only [sp_result, c_1, c_2, c_3, if_true, if_false]; done)) rfl
    · refine lv_bipush (pc := 22) (v := (-2)) hx hb dX1_result_22 (by decide) ?_
      exact m_iret E hr hlk hw dX1_result_24 (by first | (simp only [sp_result, if_pos c_1, if_neg c_2]; done) | contradiction | (simp only [sp_result, c_1, c_2, if_true, if_false]; done)) rfl
  · refine lv_iconst (pc := 8) (v := (-1)) hx hb dX1_result_8 (by decide) ?_
    exact m_iret E hr hlk hw dX1_result_9 (by first | (simp only [sp_result, if_neg c_1]; done) | contradiction | (simp only [sp_result, c_1, if_true, if_false]; done)) rfl
set_option maxHeartbeats 4000000 in
set_option maxRecDepth 100000 in
theorem mt_traced (l : Launch) (G : mG) (st : mS) (x : Int32)   : Met l yX1_traced (ws_ yX1_traced cX1_traced 2 none) (mR 0) (mP G [.int x] st) (mQ G (none) (tr1 st x)) 0 0 (mA G) := by
  refine m_head (As := [.int x]) (bytes := cX1_traced) (maxL := 2) (ret := none) (by decide) rfl (Nat.le_of_ble_eq_true rfl) ?_
  intro p e s m below meth c E hml hr hlk hw ls hl
  have hx := E.1
  have hb := E.2.1
  have hts := E.2.2.1
  have hown := E.2.2.2.1
  have hl : lv_has ls 2 [(0, .ref G.1), (1, .int x)] := hl
  refine lv_aload_n (pc := 0) hx hb dX1_traced_0 rfl (lv_at hl 0 rfl) ?_
  refine lv_bipush (pc := 1) (v := 31) hx hb dX1_traced_1 (by decide) ?_
  refine lv_aload_n (pc := 3) hx hb dX1_traced_3 rfl (lv_at hl 0 rfl) ?_
  refine m_getv (pc := 4) (v := (st 0 42)) E hw 42 (by decide) rfl rfl q1134 dX1_traced_4 ?_
  refine lv_imul (pc := 7) hx hb dX1_traced_7 ?_
  refine lv_iload_n (pc := 8) hx hb dX1_traced_8 rfl (lv_at hl 1 rfl) ?_
  refine lv_iadd (pc := 9) hx hb dX1_traced_9 ?_
  refine m_put (pc := 10) (v := ((31 * (st 0 42)) + x)) E hw 42 (by decide) rfl rfl rfl q1134 dX1_traced_10 (fun H locs hw => ?_)
  exact m_vret E hr hlk hw dX1_traced_13 rfl
set_option maxHeartbeats 4000000 in
set_option maxRecDepth 100000 in
theorem mt_tell (l : Launch) (G : mG) (st : mS) (r : Int32)  (hR : 0 ≤ (st 0 1).toInt ∧ (st 0 1).toInt ≤ 16) : Met l yX1_tell (ws_ yX1_tell cX1_tell 2 (some .int)) (mR 2) (mP G [.int r] st) (mQ G (some (.int (sp_tell st r).1)) ((sp_tell st r).2)) 0 0 (mA G) := by
  refine m_head (As := [.int r]) (bytes := cX1_tell) (maxL := 2) (ret := (some .int)) (by decide) rfl (Nat.le_of_ble_eq_true rfl) ?_
  intro p e s m below meth c E hml hr hlk hw ls hl
  have hx := E.1
  have hb := E.2.1
  have hts := E.2.2.1
  have hown := E.2.2.2.1
  have hl : lv_has ls 2 [(0, .ref G.1), (1, .int r)] := hl
  have hRn := cnt_n hR.1
  have hRi := cnt_i hR.1
  refine lv_aload_n (pc := 0) hx hb dX1_tell_0 rfl (lv_at hl 0 rfl) ?_
  refine lv_iload_n (pc := 1) hx hb dX1_tell_1 rfl (lv_at hl 1 rfl) ?_
  refine m_cVi (pc := 2) (As := [.int r]) (rest := []) E hml hl.1 hw (mt_noRoad l G (st) r) q1240 q1242 qs22 q1243 hdX1_noRoad ⟨Nat.le_of_ble_eq_true rfl, Nat.le_of_ble_eq_true rfl⟩ rfl rfl rfl (Nat.le_of_ble_eq_true rfl) dX1_tell_2 (fun H locs hw => ?_)
  refine nb_eq (pc := 5) (tgt := 10) hx hb dX1_tell_5 (by decide) (fun c_1 => ?_) (fun c_1 => ?_)
  · refine lv_aload_n (pc := 10) hx hb dX1_tell_10 rfl (lv_at hl 0 rfl) ?_
    refine m_geta (pc := 11) E hw 5 (by decide) (by decide) q1097 dX1_tell_11 ?_
    refine lv_iload_n (pc := 14) hx hb dX1_tell_14 rfl (lv_at hl 1 rfl) ?_
    refine m_ald (pc := 15) E hw 5 (by decide) rfl (show vp_in r 16 from vp_in_iff.mpr ⟨by omega, by omega⟩) dX1_tell_15 ?_
    refine li_if_le (pc := 16) (tgt := 38) hx hb dX1_tell_16 (by decide) (fun c_2 => ?_) (fun c_2 => ?_)
    · refine lv_aload_n (pc := 38) hx hb dX1_tell_38 rfl (lv_at hl 0 rfl) ?_
      refine lv_iconst (pc := 39) (v := 1) hx hb dX1_tell_39 (by decide) ?_
      refine m_cVv (pc := 40) (As := [.int 1]) (rest := []) E hml hl.1 hw (mt_traced l G (st) 1) q1466 q1468 qs46 q1469 hdX1_traced ⟨Nat.le_of_ble_eq_true rfl, Nat.le_of_ble_eq_true rfl⟩ rfl rfl rfl (Nat.le_of_ble_eq_true rfl) dX1_tell_40 (fun H locs hw => ?_)
      refine lv_aload_n (pc := 43) hx hb dX1_tell_43 rfl (lv_at hl 0 rfl) ?_
      refine m_geta (pc := 44) E hw 5 (by decide) (by decide) q1097 dX1_tell_44 ?_
      refine lv_iload_n (pc := 47) hx hb dX1_tell_47 rfl (lv_at hl 1 rfl) ?_
      refine m_ald (pc := 48) E hw 5 (by decide) rfl (show vp_in r 16 from vp_in_iff.mpr ⟨by omega, by omega⟩) dX1_tell_48 ?_
      refine li_top (v' := .int (st 5 r.toNatClampNeg)) (by first | rfl | (rw [rfl]; rfl) | simp [mu]) ?_
      refine lv_iconst (pc := 49) (v := 1) hx hb dX1_tell_49 (by decide) ?_
      refine li_icne (pc := 50) (tgt := 64) hx hb dX1_tell_50 (by decide) (fun c_3 => ?_) (fun c_3 => ?_)
      · refine lv_aload_n (pc := 64) hx hb dX1_tell_64 rfl (lv_at hl 0 rfl) ?_
        refine m_geta (pc := 65) E hw 7 (by decide) (by decide) q1099 dX1_tell_65 ?_
        refine lv_iload_n (pc := 68) hx hb dX1_tell_68 rfl (lv_at hl 1 rfl) ?_
        refine m_zld (pc := 69) E hw 7 (by decide) rfl (show vp_in r 16 from vp_in_iff.mpr ⟨by omega, by omega⟩) dX1_tell_69 ?_
        refine li_top (v' := .int (st 7 r.toNatClampNeg)) (by first | rfl | (rw [rfl]; rfl) | simp [mu]) ?_
        refine lv_if_eq (pc := 70) (tgt := 83) hx hb dX1_tell_70 (by decide) (fun c_4 => ?_) (fun c_4 => ?_)
        · refine lv_aload_n (pc := 83) hx hb dX1_tell_83 rfl (lv_at hl 0 rfl) ?_
          refine m_geta (pc := 84) E hw 4 (by decide) (by decide) q1096 dX1_tell_84 ?_
          refine lv_iload_n (pc := 87) hx hb dX1_tell_87 rfl (lv_at hl 1 rfl) ?_
          refine m_ald (pc := 88) E hw 4 (by decide) rfl (show vp_in r 16 from vp_in_iff.mpr ⟨by omega, by omega⟩) dX1_tell_88 ?_
          refine li_top (v' := .int (st 4 r.toNatClampNeg)) (by first | rfl | (rw [rfl]; rfl) | simp [mu]) ?_
          exact m_iret E hr hlk hw dX1_tell_89 (by first | (simp only [sp_tell, if_pos c_1, if_neg c_2, if_neg c_3, if_pos c_4]; done) | contradiction | (simp only [sp_tell, c_1, c_2, c_3, c_4, if_true, if_false]; done)) (by first | (simp only [sp_tell, if_pos c_1, if_neg c_2, if_neg c_3, if_pos c_4]; done) | contradiction | (simp only [sp_tell, c_1, c_2, c_3, c_4, if_true, if_false]; done))
        · refine lv_aload_n (pc := 73) hx hb dX1_tell_73 rfl (lv_at hl 0 rfl) ?_
          refine m_geta (pc := 74) E hw 4 (by decide) (by decide) q1096 dX1_tell_74 ?_
          refine lv_iload_n (pc := 77) hx hb dX1_tell_77 rfl (lv_at hl 1 rfl) ?_
          refine m_ald (pc := 78) E hw 4 (by decide) rfl (show vp_in r 16 from vp_in_iff.mpr ⟨by omega, by omega⟩) dX1_tell_78 ?_
          refine li_top (v' := .int (st 4 r.toNatClampNeg)) (by first | rfl | (rw [rfl]; rfl) | simp [mu]) ?_
          refine lv_ineg (pc := 79) hx hb dX1_tell_79 ?_
          refine lv_goto (pc := 80) (tgt := 89) hx hb dX1_tell_80 (by decide) ?_
          exact m_iret E hr hlk hw dX1_tell_89 (by first | (simp only [sp_tell, if_pos c_1, if_neg c_2, if_neg c_3, if_neg c_4]; done) | contradiction | (simp only [sp_tell, c_1, c_2, c_3, c_4, if_true, if_false]; done)) (by first | (simp only [sp_tell, if_pos c_1, if_neg c_2, if_neg c_3, if_neg c_4]; done) | contradiction | (simp only [sp_tell, c_1, c_2, c_3, c_4, if_true, if_false]; done))
      · refine lv_iconst (pc := 53) (v := 1) hx hb dX1_tell_53 (by decide) ?_
        refine lv_aload_n (pc := 54) hx hb dX1_tell_54 rfl (lv_at hl 0 rfl) ?_
        refine m_geta (pc := 55) E hw 4 (by decide) (by decide) q1096 dX1_tell_55 ?_
        refine lv_iload_n (pc := 58) hx hb dX1_tell_58 rfl (lv_at hl 1 rfl) ?_
        refine m_ald (pc := 59) E hw 4 (by decide) rfl (show vp_in r 16 from vp_in_iff.mpr ⟨by omega, by omega⟩) dX1_tell_59 ?_
        refine li_top (v' := .int (st 4 r.toNatClampNeg)) (by first | rfl | (rw [rfl]; rfl) | simp [mu]) ?_
        refine lv_iadd (pc := 60) hx hb dX1_tell_60 ?_
        refine lv_goto (pc := 61) (tgt := 89) hx hb dX1_tell_61 (by decide) ?_
        exact m_iret E hr hlk hw dX1_tell_89 (by first | (simp only [sp_tell, if_pos c_1, if_neg c_2, if_pos c_3]; done) | contradiction | (simp only [sp_tell, c_1, c_2, c_3, if_true, if_false]; done)) (by first | (simp only [sp_tell, if_pos c_1, if_neg c_2, if_pos c_3]; done) | contradiction | (simp only [sp_tell, c_1, c_2, c_3, if_true, if_false]; done))
    · refine lv_aload_n (pc := 19) hx hb dX1_tell_19 rfl (lv_at hl 0 rfl) ?_
      refine lv_aload_n (pc := 20) hx hb dX1_tell_20 rfl (lv_at hl 0 rfl) ?_
      refine m_geta (pc := 21) E hw 5 (by decide) (by decide) q1097 dX1_tell_21 ?_
      refine lv_iload_n (pc := 24) hx hb dX1_tell_24 rfl (lv_at hl 1 rfl) ?_
      refine m_ald (pc := 25) E hw 5 (by decide) rfl (show vp_in r 16 from vp_in_iff.mpr ⟨by omega, by omega⟩) dX1_tell_25 ?_
      refine lv_iconst (pc := 26) (v := 1) hx hb dX1_tell_26 (by decide) ?_
      refine li_icne (pc := 27) (tgt := 34) hx hb dX1_tell_27 (by decide) (fun c_5 => ?_) (fun c_5 => ?_)
      · refine lv_iconst (pc := 34) (v := 3) hx hb dX1_tell_34 (by decide) ?_
        refine m_cVv (pc := 35) (As := [.int 3]) (rest := []) E hml hl.1 hw (mt_traced l G (st) 3) q1466 q1468 qs46 q1469 hdX1_traced ⟨Nat.le_of_ble_eq_true rfl, Nat.le_of_ble_eq_true rfl⟩ rfl rfl rfl (Nat.le_of_ble_eq_true rfl) dX1_tell_35 (fun H locs hw => ?_)
        refine lv_aload_n (pc := 38) hx hb dX1_tell_38 rfl (lv_at hl 0 rfl) ?_
        refine lv_iconst (pc := 39) (v := 1) hx hb dX1_tell_39 (by decide) ?_
        refine m_cVv (pc := 40) (As := [.int 1]) (rest := []) E hml hl.1 hw (mt_traced l G (tr1 st 3) 1) q1466 q1468 qs46 q1469 hdX1_traced ⟨Nat.le_of_ble_eq_true rfl, Nat.le_of_ble_eq_true rfl⟩ rfl rfl rfl (Nat.le_of_ble_eq_true rfl) dX1_tell_40 (fun H locs hw => ?_)
        refine lv_aload_n (pc := 43) hx hb dX1_tell_43 rfl (lv_at hl 0 rfl) ?_
        refine m_geta (pc := 44) E hw 5 (by decide) (by decide) q1097 dX1_tell_44 ?_
        refine lv_iload_n (pc := 47) hx hb dX1_tell_47 rfl (lv_at hl 1 rfl) ?_
        refine m_ald (pc := 48) E hw 5 (by decide) rfl (show vp_in r 16 from vp_in_iff.mpr ⟨by omega, by omega⟩) dX1_tell_48 ?_
        refine li_top (v' := .int (st 5 r.toNatClampNeg)) (by first | rfl | (rw [rfl]; rfl) | simp [mu]) ?_
        refine lv_iconst (pc := 49) (v := 1) hx hb dX1_tell_49 (by decide) ?_
        refine li_icne (pc := 50) (tgt := 64) hx hb dX1_tell_50 (by decide) (fun c_6 => ?_) (fun c_6 => ?_)
        · refine lv_aload_n (pc := 64) hx hb dX1_tell_64 rfl (lv_at hl 0 rfl) ?_
          refine m_geta (pc := 65) E hw 7 (by decide) (by decide) q1099 dX1_tell_65 ?_
          refine lv_iload_n (pc := 68) hx hb dX1_tell_68 rfl (lv_at hl 1 rfl) ?_
          refine m_zld (pc := 69) E hw 7 (by decide) rfl (show vp_in r 16 from vp_in_iff.mpr ⟨by omega, by omega⟩) dX1_tell_69 ?_
          refine li_top (v' := .int (st 7 r.toNatClampNeg)) (by first | rfl | (rw [rfl]; rfl) | simp [mu]) ?_
          refine lv_if_eq (pc := 70) (tgt := 83) hx hb dX1_tell_70 (by decide) (fun c_7 => ?_) (fun c_7 => ?_)
          · refine lv_aload_n (pc := 83) hx hb dX1_tell_83 rfl (lv_at hl 0 rfl) ?_
            refine m_geta (pc := 84) E hw 4 (by decide) (by decide) q1096 dX1_tell_84 ?_
            refine lv_iload_n (pc := 87) hx hb dX1_tell_87 rfl (lv_at hl 1 rfl) ?_
            refine m_ald (pc := 88) E hw 4 (by decide) rfl (show vp_in r 16 from vp_in_iff.mpr ⟨by omega, by omega⟩) dX1_tell_88 ?_
            refine li_top (v' := .int (st 4 r.toNatClampNeg)) (by first | rfl | (rw [rfl]; rfl) | simp [mu]) ?_
            exact m_iret E hr hlk hw dX1_tell_89 (by first | (simp only [sp_tell, if_pos c_1, if_pos c_2, if_neg c_5, if_neg c_6, if_pos c_7]; done) | contradiction | (simp only [sp_tell, c_1, c_2, c_5, c_6, c_7, if_true, if_false]; done)) (by first | (simp only [sp_tell, if_pos c_1, if_pos c_2, if_neg c_5, if_neg c_6, if_pos c_7]; done) | contradiction | (simp only [sp_tell, c_1, c_2, c_5, c_6, c_7, if_true, if_false]; done))
          · refine lv_aload_n (pc := 73) hx hb dX1_tell_73 rfl (lv_at hl 0 rfl) ?_
            refine m_geta (pc := 74) E hw 4 (by decide) (by decide) q1096 dX1_tell_74 ?_
            refine lv_iload_n (pc := 77) hx hb dX1_tell_77 rfl (lv_at hl 1 rfl) ?_
            refine m_ald (pc := 78) E hw 4 (by decide) rfl (show vp_in r 16 from vp_in_iff.mpr ⟨by omega, by omega⟩) dX1_tell_78 ?_
            refine li_top (v' := .int (st 4 r.toNatClampNeg)) (by first | rfl | (rw [rfl]; rfl) | simp [mu]) ?_
            refine lv_ineg (pc := 79) hx hb dX1_tell_79 ?_
            refine lv_goto (pc := 80) (tgt := 89) hx hb dX1_tell_80 (by decide) ?_
            exact m_iret E hr hlk hw dX1_tell_89 (by first | (simp only [sp_tell, if_pos c_1, if_pos c_2, if_neg c_5, if_neg c_6, if_neg c_7]; done) | contradiction | (simp only [sp_tell, c_1, c_2, c_5, c_6, c_7, if_true, if_false]; done)) (by first | (simp only [sp_tell, if_pos c_1, if_pos c_2, if_neg c_5, if_neg c_6, if_neg c_7]; done) | contradiction | (simp only [sp_tell, c_1, c_2, c_5, c_6, c_7, if_true, if_false]; done))
        · refine lv_iconst (pc := 53) (v := 1) hx hb dX1_tell_53 (by decide) ?_
          refine lv_aload_n (pc := 54) hx hb dX1_tell_54 rfl (lv_at hl 0 rfl) ?_
          refine m_geta (pc := 55) E hw 4 (by decide) (by decide) q1096 dX1_tell_55 ?_
          refine lv_iload_n (pc := 58) hx hb dX1_tell_58 rfl (lv_at hl 1 rfl) ?_
          refine m_ald (pc := 59) E hw 4 (by decide) rfl (show vp_in r 16 from vp_in_iff.mpr ⟨by omega, by omega⟩) dX1_tell_59 ?_
          refine li_top (v' := .int (st 4 r.toNatClampNeg)) (by first | rfl | (rw [rfl]; rfl) | simp [mu]) ?_
          refine lv_iadd (pc := 60) hx hb dX1_tell_60 ?_
          refine lv_goto (pc := 61) (tgt := 89) hx hb dX1_tell_61 (by decide) ?_
          exact m_iret E hr hlk hw dX1_tell_89 (by first | (simp only [sp_tell, if_pos c_1, if_pos c_2, if_neg c_5, if_pos c_6]; done) | contradiction | (simp only [sp_tell, c_1, c_2, c_5, c_6, if_true, if_false]; done)) (by first | (simp only [sp_tell, if_pos c_1, if_pos c_2, if_neg c_5, if_pos c_6]; done) | contradiction | (simp only [sp_tell, c_1, c_2, c_5, c_6, if_true, if_false]; done))
      · refine lv_iconst (pc := 30) (v := 2) hx hb dX1_tell_30 (by decide) ?_
        refine lv_goto (pc := 31) (tgt := 35) hx hb dX1_tell_31 (by decide) ?_
        refine m_cVv (pc := 35) (As := [.int 2]) (rest := []) E hml hl.1 hw (mt_traced l G (st) 2) q1466 q1468 qs46 q1469 hdX1_traced ⟨Nat.le_of_ble_eq_true rfl, Nat.le_of_ble_eq_true rfl⟩ rfl rfl rfl (Nat.le_of_ble_eq_true rfl) dX1_tell_35 (fun H locs hw => ?_)
        refine lv_aload_n (pc := 38) hx hb dX1_tell_38 rfl (lv_at hl 0 rfl) ?_
        refine lv_iconst (pc := 39) (v := 1) hx hb dX1_tell_39 (by decide) ?_
        refine m_cVv (pc := 40) (As := [.int 1]) (rest := []) E hml hl.1 hw (mt_traced l G (tr1 st 2) 1) q1466 q1468 qs46 q1469 hdX1_traced ⟨Nat.le_of_ble_eq_true rfl, Nat.le_of_ble_eq_true rfl⟩ rfl rfl rfl (Nat.le_of_ble_eq_true rfl) dX1_tell_40 (fun H locs hw => ?_)
        refine lv_aload_n (pc := 43) hx hb dX1_tell_43 rfl (lv_at hl 0 rfl) ?_
        refine m_geta (pc := 44) E hw 5 (by decide) (by decide) q1097 dX1_tell_44 ?_
        refine lv_iload_n (pc := 47) hx hb dX1_tell_47 rfl (lv_at hl 1 rfl) ?_
        refine m_ald (pc := 48) E hw 5 (by decide) rfl (show vp_in r 16 from vp_in_iff.mpr ⟨by omega, by omega⟩) dX1_tell_48 ?_
        refine li_top (v' := .int (st 5 r.toNatClampNeg)) (by first | rfl | (rw [rfl]; rfl) | simp [mu]) ?_
        refine lv_iconst (pc := 49) (v := 1) hx hb dX1_tell_49 (by decide) ?_
        refine li_icne (pc := 50) (tgt := 64) hx hb dX1_tell_50 (by decide) (fun c_8 => ?_) (fun c_8 => ?_)
        · refine lv_aload_n (pc := 64) hx hb dX1_tell_64 rfl (lv_at hl 0 rfl) ?_
          refine m_geta (pc := 65) E hw 7 (by decide) (by decide) q1099 dX1_tell_65 ?_
          refine lv_iload_n (pc := 68) hx hb dX1_tell_68 rfl (lv_at hl 1 rfl) ?_
          refine m_zld (pc := 69) E hw 7 (by decide) rfl (show vp_in r 16 from vp_in_iff.mpr ⟨by omega, by omega⟩) dX1_tell_69 ?_
          refine li_top (v' := .int (st 7 r.toNatClampNeg)) (by first | rfl | (rw [rfl]; rfl) | simp [mu]) ?_
          refine lv_if_eq (pc := 70) (tgt := 83) hx hb dX1_tell_70 (by decide) (fun c_9 => ?_) (fun c_9 => ?_)
          · refine lv_aload_n (pc := 83) hx hb dX1_tell_83 rfl (lv_at hl 0 rfl) ?_
            refine m_geta (pc := 84) E hw 4 (by decide) (by decide) q1096 dX1_tell_84 ?_
            refine lv_iload_n (pc := 87) hx hb dX1_tell_87 rfl (lv_at hl 1 rfl) ?_
            refine m_ald (pc := 88) E hw 4 (by decide) rfl (show vp_in r 16 from vp_in_iff.mpr ⟨by omega, by omega⟩) dX1_tell_88 ?_
            refine li_top (v' := .int (st 4 r.toNatClampNeg)) (by first | rfl | (rw [rfl]; rfl) | simp [mu]) ?_
            exact m_iret E hr hlk hw dX1_tell_89 (by first | (simp only [sp_tell, if_pos c_1, if_pos c_2, if_pos c_5, if_neg c_8, if_pos c_9]; done) | contradiction | (simp only [sp_tell, c_1, c_2, c_5, c_8, c_9, if_true, if_false]; done)) (by first | (simp only [sp_tell, if_pos c_1, if_pos c_2, if_pos c_5, if_neg c_8, if_pos c_9]; done) | contradiction | (simp only [sp_tell, c_1, c_2, c_5, c_8, c_9, if_true, if_false]; done))
          · refine lv_aload_n (pc := 73) hx hb dX1_tell_73 rfl (lv_at hl 0 rfl) ?_
            refine m_geta (pc := 74) E hw 4 (by decide) (by decide) q1096 dX1_tell_74 ?_
            refine lv_iload_n (pc := 77) hx hb dX1_tell_77 rfl (lv_at hl 1 rfl) ?_
            refine m_ald (pc := 78) E hw 4 (by decide) rfl (show vp_in r 16 from vp_in_iff.mpr ⟨by omega, by omega⟩) dX1_tell_78 ?_
            refine li_top (v' := .int (st 4 r.toNatClampNeg)) (by first | rfl | (rw [rfl]; rfl) | simp [mu]) ?_
            refine lv_ineg (pc := 79) hx hb dX1_tell_79 ?_
            refine lv_goto (pc := 80) (tgt := 89) hx hb dX1_tell_80 (by decide) ?_
            exact m_iret E hr hlk hw dX1_tell_89 (by first | (simp only [sp_tell, if_pos c_1, if_pos c_2, if_pos c_5, if_neg c_8, if_neg c_9]; done) | contradiction | (simp only [sp_tell, c_1, c_2, c_5, c_8, c_9, if_true, if_false]; done)) (by first | (simp only [sp_tell, if_pos c_1, if_pos c_2, if_pos c_5, if_neg c_8, if_neg c_9]; done) | contradiction | (simp only [sp_tell, c_1, c_2, c_5, c_8, c_9, if_true, if_false]; done))
        · refine lv_iconst (pc := 53) (v := 1) hx hb dX1_tell_53 (by decide) ?_
          refine lv_aload_n (pc := 54) hx hb dX1_tell_54 rfl (lv_at hl 0 rfl) ?_
          refine m_geta (pc := 55) E hw 4 (by decide) (by decide) q1096 dX1_tell_55 ?_
          refine lv_iload_n (pc := 58) hx hb dX1_tell_58 rfl (lv_at hl 1 rfl) ?_
          refine m_ald (pc := 59) E hw 4 (by decide) rfl (show vp_in r 16 from vp_in_iff.mpr ⟨by omega, by omega⟩) dX1_tell_59 ?_
          refine li_top (v' := .int (st 4 r.toNatClampNeg)) (by first | rfl | (rw [rfl]; rfl) | simp [mu]) ?_
          refine lv_iadd (pc := 60) hx hb dX1_tell_60 ?_
          refine lv_goto (pc := 61) (tgt := 89) hx hb dX1_tell_61 (by decide) ?_
          exact m_iret E hr hlk hw dX1_tell_89 (by first | (simp only [sp_tell, if_pos c_1, if_pos c_2, if_pos c_5, if_pos c_8]; done) | contradiction | (simp only [sp_tell, c_1, c_2, c_5, c_8, if_true, if_false]; done)) (by first | (simp only [sp_tell, if_pos c_1, if_pos c_2, if_pos c_5, if_pos c_8]; done) | contradiction | (simp only [sp_tell, c_1, c_2, c_5, c_8, if_true, if_false]; done))
  · refine lv_iconst (pc := 8) (v := (-1)) hx hb dX1_tell_8 (by decide) ?_
    exact m_iret E hr hlk hw dX1_tell_9 (by first | (simp only [sp_tell, if_neg c_1]; done) | contradiction | (simp only [sp_tell, c_1, if_true, if_false]; done)) (by first | (simp only [sp_tell, if_neg c_1]; done) | contradiction | (simp only [sp_tell, c_1, if_true, if_false]; done))
set_option maxHeartbeats 4000000 in
set_option maxRecDepth 100000 in
theorem mt_greet (l : Launch) (G : mG) (st : mS) (a : Int32)  (hK : 0 ≤ (st 0 35).toInt ∧ (st 0 35).toInt ≤ 8) : Met l yX1_greet (ws_ yX1_greet cX1_greet 2 (some .int)) (mR 2) (mP G [.int a] st) (mQ G (some (.int (sp_greet st a).1)) ((sp_greet st a).2)) 0 0 (mA G) := by
  refine m_head (As := [.int a]) (bytes := cX1_greet) (maxL := 2) (ret := (some .int)) (by decide) rfl (Nat.le_of_ble_eq_true rfl) ?_
  intro p e s m below meth c E hml hr hlk hw ls hl
  have hx := E.1
  have hb := E.2.1
  have hts := E.2.2.1
  have hown := E.2.2.2.1
  have hl : lv_has ls 2 [(0, .ref G.1), (1, .int a)] := hl
  have hKn := cnt_n hK.1
  have hKi := cnt_i hK.1
  refine lv_aload_n (pc := 0) hx hb dX1_greet_0 rfl (lv_at hl 0 rfl) ?_
  refine lv_iload_n (pc := 1) hx hb dX1_greet_1 rfl (lv_at hl 1 rfl) ?_
  refine m_cVi (pc := 2) (As := [.int a]) (rest := []) E hml hl.1 hw (mt_noCar l G (st) a) q1414 q1416 qs39 q1417 hdX1_noCar ⟨Nat.le_of_ble_eq_true rfl, Nat.le_of_ble_eq_true rfl⟩ rfl rfl rfl (Nat.le_of_ble_eq_true rfl) dX1_greet_2 (fun H locs hw => ?_)
  refine nb_eq (pc := 5) (tgt := 10) hx hb dX1_greet_5 (by decide) (fun c_1 => ?_) (fun c_1 => ?_)
  · refine lv_aload_n (pc := 10) hx hb dX1_greet_10 rfl (lv_at hl 0 rfl) ?_
    refine m_geta (pc := 11) E hw 37 (by decide) (by decide) q1129 dX1_greet_11 ?_
    refine lv_iload_n (pc := 14) hx hb dX1_greet_14 rfl (lv_at hl 1 rfl) ?_
    refine m_ald (pc := 15) E hw 37 (by decide) rfl (show vp_in a 8 from vp_in_iff.mpr ⟨by omega, by omega⟩) dX1_greet_15 ?_
    refine li_ne (pc := 16) (tgt := 29) hx hb dX1_greet_16 (by decide) (fun c_2 => ?_) (fun c_2 => ?_)
    · refine lv_aload_n (pc := 29) hx hb dX1_greet_29 rfl (lv_at hl 0 rfl) ?_
      refine m_geta (pc := 30) E hw 37 (by decide) (by decide) q1129 dX1_greet_30 ?_
      refine lv_iload_n (pc := 33) hx hb dX1_greet_33 rfl (lv_at hl 1 rfl) ?_
      refine m_ald (pc := 34) E hw 37 (by decide) rfl (show vp_in a 8 from vp_in_iff.mpr ⟨by omega, by omega⟩) dX1_greet_34 ?_
      refine lv_iconst (pc := 35) (v := 2) hx hb dX1_greet_35 (by decide) ?_
      refine li_icne (pc := 36) (tgt := 45) hx hb dX1_greet_36 (by decide) (fun c_3 => ?_) (fun c_3 => ?_)
      · refine lv_aload_n (pc := 45) hx hb dX1_greet_45 rfl (lv_at hl 0 rfl) ?_
        refine lv_iconst (pc := 46) (v := 5) hx hb dX1_greet_46 (by decide) ?_
        refine m_cVv (pc := 47) (As := [.int 5]) (rest := []) E hml hl.1 hw (mt_traced l G (st) 5) q1466 q1468 qs46 q1469 hdX1_traced ⟨Nat.le_of_ble_eq_true rfl, Nat.le_of_ble_eq_true rfl⟩ rfl rfl rfl (Nat.le_of_ble_eq_true rfl) dX1_greet_47 (fun H locs hw => ?_)
        refine lv_aload_n (pc := 50) hx hb dX1_greet_50 rfl (lv_at hl 0 rfl) ?_
        refine m_geta (pc := 51) E hw 37 (by decide) (by decide) q1129 dX1_greet_51 ?_
        refine lv_iload_n (pc := 54) hx hb dX1_greet_54 rfl (lv_at hl 1 rfl) ?_
        refine m_ald (pc := 55) E hw 37 (by decide) rfl (show vp_in a 8 from vp_in_iff.mpr ⟨by omega, by omega⟩) dX1_greet_55 ?_
        refine li_top (v' := .int (st 37 a.toNatClampNeg)) (by first | rfl | (rw [rfl]; rfl) | simp [mu]) ?_
        refine lv_iconst (pc := 56) (v := 2) hx hb dX1_greet_56 (by decide) ?_
        refine li_icne (pc := 57) (tgt := 65) hx hb dX1_greet_57 (by decide) (fun c_4 => ?_) (fun c_4 => ?_)
        · refine lv_bipush (pc := 65) (v := 7) hx hb dX1_greet_65 (by decide) ?_
          exact m_iret E hr hlk hw dX1_greet_67 (by first | (simp only [sp_greet, if_pos c_1, if_neg c_2, if_neg c_3, if_neg c_4]; done) | contradiction | (simp only [sp_greet, c_1, c_2, c_3, c_4, if_true, if_false]; done)) (by first | (simp only [sp_greet, if_pos c_1, if_neg c_2, if_neg c_3, if_neg c_4]; done) | contradiction | (simp only [sp_greet, c_1, c_2, c_3, c_4, if_true, if_false]; done))
        · refine lv_bipush (pc := 60) (v := 8) hx hb dX1_greet_60 (by decide) ?_
          refine lv_goto (pc := 62) (tgt := 67) hx hb dX1_greet_62 (by decide) ?_
          exact m_iret E hr hlk hw dX1_greet_67 (by first | (simp only [sp_greet, if_pos c_1, if_neg c_2, if_neg c_3, if_pos c_4]; done) | contradiction | (simp only [sp_greet, c_1, c_2, c_3, c_4, if_true, if_false]; done)) (by first | (simp only [sp_greet, if_pos c_1, if_neg c_2, if_neg c_3, if_pos c_4]; done) | contradiction | (simp only [sp_greet, c_1, c_2, c_3, c_4, if_true, if_false]; done))
      · refine lv_aload_n (pc := 39) hx hb dX1_greet_39 rfl (lv_at hl 0 rfl) ?_
        refine lv_bipush (pc := 40) (v := 6) hx hb dX1_greet_40 (by decide) ?_
        refine m_cVv (pc := 42) (As := [.int 6]) (rest := []) E hml hl.1 hw (mt_traced l G (st) 6) q1466 q1468 qs46 q1469 hdX1_traced ⟨Nat.le_of_ble_eq_true rfl, Nat.le_of_ble_eq_true rfl⟩ rfl rfl rfl (Nat.le_of_ble_eq_true rfl) dX1_greet_42 (fun H locs hw => ?_)
        refine lv_aload_n (pc := 45) hx hb dX1_greet_45 rfl (lv_at hl 0 rfl) ?_
        refine lv_iconst (pc := 46) (v := 5) hx hb dX1_greet_46 (by decide) ?_
        refine m_cVv (pc := 47) (As := [.int 5]) (rest := []) E hml hl.1 hw (mt_traced l G (tr1 st 6) 5) q1466 q1468 qs46 q1469 hdX1_traced ⟨Nat.le_of_ble_eq_true rfl, Nat.le_of_ble_eq_true rfl⟩ rfl rfl rfl (Nat.le_of_ble_eq_true rfl) dX1_greet_47 (fun H locs hw => ?_)
        refine lv_aload_n (pc := 50) hx hb dX1_greet_50 rfl (lv_at hl 0 rfl) ?_
        refine m_geta (pc := 51) E hw 37 (by decide) (by decide) q1129 dX1_greet_51 ?_
        refine lv_iload_n (pc := 54) hx hb dX1_greet_54 rfl (lv_at hl 1 rfl) ?_
        refine m_ald (pc := 55) E hw 37 (by decide) rfl (show vp_in a 8 from vp_in_iff.mpr ⟨by omega, by omega⟩) dX1_greet_55 ?_
        refine li_top (v' := .int (st 37 a.toNatClampNeg)) (by first | rfl | (rw [rfl]; rfl) | simp [mu]) ?_
        refine lv_iconst (pc := 56) (v := 2) hx hb dX1_greet_56 (by decide) ?_
        refine li_icne (pc := 57) (tgt := 65) hx hb dX1_greet_57 (by decide) (fun c_5 => ?_) (fun c_5 => ?_)
        · refine lv_bipush (pc := 65) (v := 7) hx hb dX1_greet_65 (by decide) ?_
          exact m_iret E hr hlk hw dX1_greet_67 (by first | (simp only [sp_greet, if_pos c_1, if_neg c_2, if_pos c_3, if_neg c_5]; done) | contradiction | (simp only [sp_greet, c_1, c_2, c_3, c_5, if_true, if_false]; done)) (by first | (simp only [sp_greet, if_pos c_1, if_neg c_2, if_pos c_3, if_neg c_5]; done) | contradiction | (simp only [sp_greet, c_1, c_2, c_3, c_5, if_true, if_false]; done))
        · refine lv_bipush (pc := 60) (v := 8) hx hb dX1_greet_60 (by decide) ?_
          refine lv_goto (pc := 62) (tgt := 67) hx hb dX1_greet_62 (by decide) ?_
          exact m_iret E hr hlk hw dX1_greet_67 (by first | (simp only [sp_greet, if_pos c_1, if_neg c_2, if_pos c_3, if_pos c_5]; done) | contradiction | (simp only [sp_greet, c_1, c_2, c_3, c_5, if_true, if_false]; done)) (by first | (simp only [sp_greet, if_pos c_1, if_neg c_2, if_pos c_3, if_pos c_5]; done) | contradiction | (simp only [sp_greet, c_1, c_2, c_3, c_5, if_true, if_false]; done))
    · refine lv_aload_n (pc := 19) hx hb dX1_greet_19 rfl (lv_at hl 0 rfl) ?_
      refine lv_iconst (pc := 20) (v := 4) hx hb dX1_greet_20 (by decide) ?_
      refine m_cVv (pc := 21) (As := [.int 4]) (rest := []) E hml hl.1 hw (mt_traced l G (st) 4) q1466 q1468 qs46 q1469 hdX1_traced ⟨Nat.le_of_ble_eq_true rfl, Nat.le_of_ble_eq_true rfl⟩ rfl rfl rfl (Nat.le_of_ble_eq_true rfl) dX1_greet_21 (fun H locs hw => ?_)
      refine lv_bipush (pc := 24) (v := 10) hx hb dX1_greet_24 (by decide) ?_
      refine lv_iload_n (pc := 26) hx hb dX1_greet_26 rfl (lv_at hl 1 rfl) ?_
      refine lv_imul (pc := 27) hx hb dX1_greet_27 ?_
      exact m_iret E hr hlk hw dX1_greet_28 (by first | (simp only [sp_greet, if_pos c_1, if_pos c_2]; done) | contradiction | (simp only [sp_greet, c_1, c_2, if_true, if_false]; done)) (by first | (simp only [sp_greet, if_pos c_1, if_pos c_2]; done) | contradiction | (simp only [sp_greet, c_1, c_2, if_true, if_false]; done))
  · refine lv_iconst (pc := 8) (v := (-1)) hx hb dX1_greet_8 (by decide) ?_
    exact m_iret E hr hlk hw dX1_greet_9 (by first | (simp only [sp_greet, if_neg c_1]; done) | contradiction | (simp only [sp_greet, c_1, if_true, if_false]; done)) (by first | (simp only [sp_greet, if_neg c_1]; done) | contradiction | (simp only [sp_greet, c_1, if_true, if_false]; done))
set_option maxHeartbeats 4000000 in
set_option maxRecDepth 100000 in
theorem mt_as (l : Launch) (G : mG) (st : mS) (a : Int32) (k : Int32)  (hK : 0 ≤ (st 0 35).toInt ∧ (st 0 35).toInt ≤ 8) : Met l yX1_as (ws_ yX1_as cX1_as 3 (some .int)) (mR 2) (mP G [.int a, .int k] st) (mQ G (some (.int (sp_as st a k).1)) ((sp_as st a k).2)) 0 0 (mA G) := by
  refine m_head (As := [.int a, .int k]) (bytes := cX1_as) (maxL := 3) (ret := (some .int)) (by decide) rfl (Nat.le_of_ble_eq_true rfl) ?_
  intro p e s m below meth c E hml hr hlk hw ls hl
  have hx := E.1
  have hb := E.2.1
  have hts := E.2.2.1
  have hown := E.2.2.2.1
  have hl : lv_has ls 3 [(0, .ref G.1), (1, .int a), (2, .int k)] := hl
  have hKn := cnt_n hK.1
  have hKi := cnt_i hK.1
  refine lv_aload_n (pc := 0) hx hb dX1_as_0 rfl (lv_at hl 0 rfl) ?_
  refine lv_iload_n (pc := 1) hx hb dX1_as_1 rfl (lv_at hl 1 rfl) ?_
  refine m_cVi (pc := 2) (As := [.int a]) (rest := []) E hml hl.1 hw (mt_noCar l G (st) a) q1414 q1416 qs39 q1417 hdX1_noCar ⟨Nat.le_of_ble_eq_true rfl, Nat.le_of_ble_eq_true rfl⟩ rfl rfl rfl (Nat.le_of_ble_eq_true rfl) dX1_as_2 (fun H locs hw => ?_)
  refine nb_eq (pc := 5) (tgt := 14) hx hb dX1_as_5 (by decide) (fun c_1 => ?_) (fun c_1 => ?_)
  · refine lv_iload_n (pc := 14) hx hb dX1_as_14 rfl (lv_at hl 2 rfl) ?_
    refine lv_i2l (pc := 15) (v := k.toInt64) hx hb dX1_as_15 rfl ?_
    refine lv_lconst (pc := 16) (v := 0) hx hb dX1_as_16 (by decide) ?_
    refine lv_ldc2 (pc := 17) hx hb hown (hts _ q1235) dX1_as_17 ?_
    refine m_cS (pc := 20) (As := [.long k.toInt64, .long 0, .long 2]) (rest := []) E hml hl.1 (mt_inB l k 0 2 0 2 rfl rfl) q1231 q1232 q1233 hdX1_in ⟨Nat.le_of_ble_eq_true rfl, Nat.le_of_ble_eq_true rfl⟩ rfl rfl rfl (Nat.le_of_ble_eq_true rfl) dX1_as_20 ?_
    refine lb_ne (pc := 23) (tgt := 33) hx hb dX1_as_23 (by decide) (fun c_2 => ?_) (fun c_2 => ?_)
    · refine lv_aload_n (pc := 33) hx hb dX1_as_33 rfl (lv_at hl 0 rfl) ?_
      refine m_geta (pc := 34) E hw 37 (by decide) (by decide) q1129 dX1_as_34 ?_
      refine lv_iload_n (pc := 37) hx hb dX1_as_37 rfl (lv_at hl 1 rfl) ?_
      refine m_ald (pc := 38) E hw 37 (by decide) rfl (show vp_in a 8 from vp_in_iff.mpr ⟨by omega, by omega⟩) dX1_as_38 ?_
      refine lv_iload_n (pc := 39) hx hb dX1_as_39 rfl (lv_at hl 2 rfl) ?_
      refine li_icmp_lt (pc := 40) (tgt := 51) hx hb dX1_as_40 (by decide) (fun c_3 => ?_) (fun c_3 => ?_)
      · refine lv_aload_n (pc := 51) hx hb dX1_as_51 rfl (lv_at hl 0 rfl) ?_
        refine lv_iconst (pc := 52) (v := 2) hx hb dX1_as_52 (by decide) ?_
        refine m_cVi (pc := 53) (As := [.int 2]) (rest := []) E hml hl.1 hw (mt_failed l G (st) 2 (-12) (by decide)) q1252 q1254 qs24 q1255 hdX1_failed ⟨Nat.le_of_ble_eq_true rfl, Nat.le_of_ble_eq_true rfl⟩ rfl rfl rfl (Nat.le_of_ble_eq_true rfl) dX1_as_53 (fun H locs hw => ?_)
        exact m_iret E hr hlk hw dX1_as_56 (by first | (simp only [sp_as, if_pos c_1, if_pos c_2, if_pos c_3]; done) | contradiction | (simp only [sp_as, c_1, c_2, c_3, if_true, if_false]; done)) (by first | (simp only [sp_as, if_pos c_1, if_pos c_2, if_pos c_3]; done) | contradiction | (simp only [sp_as, c_1, c_2, c_3, if_true, if_false]; done))
      · refine lv_aload_n (pc := 43) hx hb dX1_as_43 rfl (lv_at hl 0 rfl) ?_
        refine lv_iconst (pc := 44) (v := 1) hx hb dX1_as_44 (by decide) ?_
        refine m_cVi (pc := 45) (As := [.int 1]) (rest := []) E hml hl.1 hw (mt_refused l G (st) 1) q1248 q1250 qs23 q1251 hdX1_refused ⟨Nat.le_of_ble_eq_true rfl, Nat.le_of_ble_eq_true rfl⟩ rfl rfl rfl (Nat.le_of_ble_eq_true rfl) dX1_as_45 (fun H locs hw => ?_)
        refine lv_goto (pc := 48) (tgt := 56) hx hb dX1_as_48 (by decide) ?_
        exact m_iret E hr hlk hw dX1_as_56 (by first | (simp only [sp_as, if_pos c_1, if_pos c_2, if_neg c_3]; done) | contradiction | (simp only [sp_as, c_1, c_2, c_3, if_true, if_false]; done)) (by first | (simp only [sp_as, if_pos c_1, if_pos c_2, if_neg c_3]; done) | contradiction | (simp only [sp_as, c_1, c_2, c_3, if_true, if_false]; done))
    · refine lv_aload_n (pc := 26) hx hb dX1_as_26 rfl (lv_at hl 0 rfl) ?_
      refine lv_bipush (pc := 27) (v := (-2)) hx hb dX1_as_27 (by decide) ?_
      refine m_cVi (pc := 29) (As := [.int (-2)]) (rest := []) E hml hl.1 hw (mt_refused l G (st) (-2)) q1248 q1250 qs23 q1251 hdX1_refused ⟨Nat.le_of_ble_eq_true rfl, Nat.le_of_ble_eq_true rfl⟩ rfl rfl rfl (Nat.le_of_ble_eq_true rfl) dX1_as_29 (fun H locs hw => ?_)
      exact m_iret E hr hlk hw dX1_as_32 (by first | (simp only [sp_as, if_pos c_1, if_neg c_2]; done) | contradiction | (simp only [sp_as, c_1, c_2, if_true, if_false]; done)) (by first | (simp only [sp_as, if_pos c_1, if_neg c_2]; done) | contradiction | (simp only [sp_as, c_1, c_2, if_true, if_false]; done))
  · refine lv_aload_n (pc := 8) hx hb dX1_as_8 rfl (lv_at hl 0 rfl) ?_
    refine lv_iconst (pc := 9) (v := (-1)) hx hb dX1_as_9 (by decide) ?_
    refine m_cVi (pc := 10) (As := [.int (-1)]) (rest := []) E hml hl.1 hw (mt_refused l G (st) (-1)) q1248 q1250 qs23 q1251 hdX1_refused ⟨Nat.le_of_ble_eq_true rfl, Nat.le_of_ble_eq_true rfl⟩ rfl rfl rfl (Nat.le_of_ble_eq_true rfl) dX1_as_10 (fun H locs hw => ?_)
    exact m_iret E hr hlk hw dX1_as_13 (by first | (simp only [sp_as, if_neg c_1]; done) | contradiction | (simp only [sp_as, c_1, if_true, if_false]; done)) (by first | (simp only [sp_as, if_neg c_1]; done) | contradiction | (simp only [sp_as, c_1, if_true, if_false]; done))
set_option maxHeartbeats 4000000 in
set_option maxRecDepth 100000 in
theorem mt_trace (l : Launch) (G : mG) (st : mS)    : Met l yX1_trace (ws_ yX1_trace cX1_trace 1 (some .int)) (mR 0) (mP G [] st) (mQ G (some (.int (st 0 42))) (st)) 0 0 (mA G) := by
  refine m_head (As := []) (bytes := cX1_trace) (maxL := 1) (ret := (some .int)) (by decide) rfl (Nat.le_of_ble_eq_true rfl) ?_
  intro p e s m below meth c E hml hr hlk hw ls hl
  have hx := E.1
  have hb := E.2.1
  have hts := E.2.2.1
  have hown := E.2.2.2.1
  have hl : lv_has ls 1 [(0, .ref G.1)] := hl
  refine lv_aload_n (pc := 0) hx hb dX1_trace_0 rfl (lv_at hl 0 rfl) ?_
  refine m_getv (pc := 1) (v := (st 0 42)) E hw 42 (by decide) rfl rfl q1134 dX1_trace_1 ?_
  exact m_iret E hr hlk hw dX1_trace_4 rfl rfl
set_option maxHeartbeats 4000000 in
set_option maxRecDepth 100000 in
theorem mt_fault (l : Launch) (G : mG) (st : mS)    : Met l yX1_fault (ws_ yX1_fault cX1_fault 1 (some .int)) (mR 0) (mP G [] st) (mQ G (some (.int (st 0 0))) (st)) 0 0 (mA G) := by
  refine m_head (As := []) (bytes := cX1_fault) (maxL := 1) (ret := (some .int)) (by decide) rfl (Nat.le_of_ble_eq_true rfl) ?_
  intro p e s m below meth c E hml hr hlk hw ls hl
  have hx := E.1
  have hb := E.2.1
  have hts := E.2.2.1
  have hown := E.2.2.2.1
  have hl : lv_has ls 1 [(0, .ref G.1)] := hl
  refine lv_aload_n (pc := 0) hx hb dX1_fault_0 rfl (lv_at hl 0 rfl) ?_
  refine m_getv (pc := 1) (v := (st 0 0)) E hw 0 (by decide) rfl rfl q1092 dX1_fault_1 ?_
  exact m_iret E hr hlk hw dX1_fault_4 rfl rfl
set_option maxHeartbeats 4000000 in
set_option maxRecDepth 100000 in
theorem mt_told (l : Launch) (G : mG) (st : mS) (x : Int32)   : Met l yX1_told (ws_ yX1_told cX1_told 2 (some .int)) (mR 0) (mP G [.int x] st) (mQ G (some (.int (sp_told st x))) (st)) 0 0 (mA G) := by
  refine m_head (As := [.int x]) (bytes := cX1_told) (maxL := 2) (ret := (some .int)) (by decide) rfl (Nat.le_of_ble_eq_true rfl) ?_
  intro p e s m below meth c E hml hr hlk hw ls hl
  have hx := E.1
  have hb := E.2.1
  have hts := E.2.2.1
  have hown := E.2.2.2.1
  have hl : lv_has ls 2 [(0, .ref G.1), (1, .int x)] := hl
  refine lv_iload_n (pc := 0) hx hb dX1_told_0 rfl (lv_at hl 1 rfl) ?_
  by_cases t_1 : x = 0
  · refine lv_tableIn (pc := 1) (off := 47) (tgt := 48) hx hb dX1_told_1 (by rw [t_1]; decide) (by rw [t_1]; decide) (by rw [t_1]; rfl) (by decide) ?_
    refine lv_aload_n (pc := 48) hx hb dX1_told_48 rfl (lv_at hl 0 rfl) ?_
    refine m_getv (pc := 49) (v := (st 0 1)) E hw 1 (by decide) rfl rfl q1093 dX1_told_49 ?_
    exact m_iret E hr hlk hw dX1_told_52 (by first | (simp only [sp_told, if_pos t_1]; done) | contradiction | (simp only [sp_told, t_1, if_true, if_false]; done)) rfl
  by_cases t_2 : x = 1
  · refine lv_tableIn (pc := 1) (off := 52) (tgt := 53) hx hb dX1_told_1 (by rw [t_2]; decide) (by rw [t_2]; decide) (by rw [t_2]; rfl) (by decide) ?_
    refine lv_aload_n (pc := 53) hx hb dX1_told_53 rfl (lv_at hl 0 rfl) ?_
    refine m_getv (pc := 54) (v := (st 0 24)) E hw 24 (by decide) rfl rfl q1116 dX1_told_54 ?_
    exact m_iret E hr hlk hw dX1_told_57 (by first | (simp only [sp_told, if_neg t_1, if_pos t_2]; done) | contradiction | (simp only [sp_told, t_1, t_2, if_true, if_false]; done)) rfl
  by_cases t_3 : x = 2
  · refine lv_tableIn (pc := 1) (off := 57) (tgt := 58) hx hb dX1_told_1 (by rw [t_3]; decide) (by rw [t_3]; decide) (by rw [t_3]; rfl) (by decide) ?_
    refine lv_aload_n (pc := 58) hx hb dX1_told_58 rfl (lv_at hl 0 rfl) ?_
    refine m_getv (pc := 59) (v := (st 0 24)) E hw 24 (by decide) rfl rfl q1116 dX1_told_59 ?_
    refine li_ne (pc := 62) (tgt := 69) hx hb dX1_told_62 (by decide) (fun c_4 => ?_) (fun c_4 => ?_)
    · refine lv_aload_n (pc := 69) hx hb dX1_told_69 rfl (lv_at hl 0 rfl) ?_
      refine m_getv (pc := 70) (v := (st 0 25)) E hw 25 (by decide) rfl rfl q1117 dX1_told_70 ?_
      exact m_iret E hr hlk hw dX1_told_73 (by first | (simp only [sp_told, if_neg t_1, if_neg t_2, if_pos t_3, if_neg c_4]; done) | contradiction | (simp only [sp_told, t_1, t_2, t_3, c_4, if_true, if_false]; done)) rfl
    · refine lv_iconst (pc := 65) (v := 0) hx hb dX1_told_65 (by decide) ?_
      refine lv_goto (pc := 66) (tgt := 73) hx hb dX1_told_66 (by decide) ?_
      exact m_iret E hr hlk hw dX1_told_73 (by first | (simp only [sp_told, if_neg t_1, if_neg t_2, if_pos t_3, if_pos c_4]; done) | contradiction | (simp only [sp_told, t_1, t_2, t_3, c_4, if_true, if_false]; done)) rfl
  by_cases t_5 : x = 3
  · refine lv_tableIn (pc := 1) (off := 73) (tgt := 74) hx hb dX1_told_1 (by rw [t_5]; decide) (by rw [t_5]; decide) (by rw [t_5]; rfl) (by decide) ?_
    refine lv_aload_n (pc := 74) hx hb dX1_told_74 rfl (lv_at hl 0 rfl) ?_
    refine m_getv (pc := 75) (v := (st 0 27)) E hw 27 (by decide) rfl rfl q1119 dX1_told_75 ?_
    exact m_iret E hr hlk hw dX1_told_78 (by first | (simp only [sp_told, if_neg t_1, if_neg t_2, if_neg t_3, if_pos t_5]; done) | contradiction | (simp only [sp_told, t_1, t_2, t_3, t_5, if_true, if_false]; done)) rfl
  by_cases t_6 : x = 4
  · refine lv_tableIn (pc := 1) (off := 78) (tgt := 79) hx hb dX1_told_1 (by rw [t_6]; decide) (by rw [t_6]; decide) (by rw [t_6]; rfl) (by decide) ?_
    refine lv_aload_n (pc := 79) hx hb dX1_told_79 rfl (lv_at hl 0 rfl) ?_
    refine m_getv (pc := 80) (v := (st 0 30)) E hw 30 (by decide) rfl rfl q1122 dX1_told_80 ?_
    exact m_iret E hr hlk hw dX1_told_83 (by first | (simp only [sp_told, if_neg t_1, if_neg t_2, if_neg t_3, if_neg t_5, if_pos t_6]; done) | contradiction | (simp only [sp_told, t_1, t_2, t_3, t_5, t_6, if_true, if_false]; done)) rfl
  by_cases t_7 : x = 5
  · refine lv_tableIn (pc := 1) (off := 83) (tgt := 84) hx hb dX1_told_1 (by rw [t_7]; decide) (by rw [t_7]; decide) (by rw [t_7]; rfl) (by decide) ?_
    refine lv_aload_n (pc := 84) hx hb dX1_told_84 rfl (lv_at hl 0 rfl) ?_
    refine m_getv (pc := 85) (v := (st 0 35)) E hw 35 (by decide) rfl rfl q1127 dX1_told_85 ?_
    exact m_iret E hr hlk hw dX1_told_88 (by first | (simp only [sp_told, if_neg t_1, if_neg t_2, if_neg t_3, if_neg t_5, if_neg t_6, if_pos t_7]; done) | contradiction | (simp only [sp_told, t_1, t_2, t_3, t_5, t_6, t_7, if_true, if_false]; done)) rfl
  by_cases t_8 : x = 6
  · refine lv_tableIn (pc := 1) (off := 88) (tgt := 89) hx hb dX1_told_1 (by rw [t_8]; decide) (by rw [t_8]; decide) (by rw [t_8]; rfl) (by decide) ?_
    refine lv_aload_n (pc := 89) hx hb dX1_told_89 rfl (lv_at hl 0 rfl) ?_
    refine m_getv (pc := 90) (v := (st 0 12)) E hw 12 (by decide) rfl rfl q1104 dX1_told_90 ?_
    exact m_iret E hr hlk hw dX1_told_93 (by first | (simp only [sp_told, if_neg t_1, if_neg t_2, if_neg t_3, if_neg t_5, if_neg t_6, if_neg t_7, if_pos t_8]; done) | contradiction | (simp only [sp_told, t_1, t_2, t_3, t_5, t_6, t_7, t_8, if_true, if_false]; done)) rfl
  by_cases t_9 : x = 7
  · refine lv_tableIn (pc := 1) (off := 93) (tgt := 94) hx hb dX1_told_1 (by rw [t_9]; decide) (by rw [t_9]; decide) (by rw [t_9]; rfl) (by decide) ?_
    refine lv_aload_n (pc := 94) hx hb dX1_told_94 rfl (lv_at hl 0 rfl) ?_
    refine m_getv (pc := 95) (v := (st 0 14)) E hw 14 (by decide) rfl rfl q1106 dX1_told_95 ?_
    exact m_iret E hr hlk hw dX1_told_98 (by first | (simp only [sp_told, if_neg t_1, if_neg t_2, if_neg t_3, if_neg t_5, if_neg t_6, if_neg t_7, if_neg t_8, if_pos t_9]; done) | contradiction | (simp only [sp_told, t_1, t_2, t_3, t_5, t_6, t_7, t_8, t_9, if_true, if_false]; done)) rfl
  have t_10 : x.toInt < 0 ∨ 7 < x.toInt := by
    have n0_ : ¬ x.toInt = 0 := lv_neT t_1 (by decide)
    have n1_ : ¬ x.toInt = 1 := lv_neT t_2 (by decide)
    have n2_ : ¬ x.toInt = 2 := lv_neT t_3 (by decide)
    have n3_ : ¬ x.toInt = 3 := lv_neT t_5 (by decide)
    have n4_ : ¬ x.toInt = 4 := lv_neT t_6 (by decide)
    have n5_ : ¬ x.toInt = 5 := lv_neT t_7 (by decide)
    have n6_ : ¬ x.toInt = 6 := lv_neT t_8 (by decide)
    have n7_ : ¬ x.toInt = 7 := lv_neT t_9 (by decide)
    omega
  refine lv_tableOut (pc := 1) (tgt := 99) hx hb dX1_told_1 t_10 (by decide) ?_
  refine lv_bipush (pc := 99) (v := (-2)) hx hb dX1_told_99 (by decide) ?_
  exact m_iret E hr hlk hw dX1_told_101 (by first | (simp only [sp_told, if_neg t_1, if_neg t_2, if_neg t_3, if_neg t_5, if_neg t_6, if_neg t_7, if_neg t_8, if_neg t_9]; done) | contradiction | (simp only [sp_told, t_1, t_2, t_3, t_5, t_6, t_7, t_8, t_9, if_true, if_false]; done)) rfl
set_option maxHeartbeats 4000000 in
set_option maxRecDepth 100000 in
theorem mt_laid (l : Launch) (G : mG) (st : mS) (i : Int32)  (hL : 0 ≤ (st 0 24).toInt ∧ (st 0 24).toInt ≤ 10) : Met l yX1_laid (ws_ yX1_laid cX1_laid 2 (some .int)) (mR 1) (mP G [.int i] st) (mQ G (some (.int (sp_laid st i))) (st)) 0 0 (mA G) := by
  refine m_head (As := [.int i]) (bytes := cX1_laid) (maxL := 2) (ret := (some .int)) (by decide) rfl (Nat.le_of_ble_eq_true rfl) ?_
  intro p e s m below meth c E hml hr hlk hw ls hl
  have hx := E.1
  have hb := E.2.1
  have hts := E.2.2.1
  have hown := E.2.2.2.1
  have hl : lv_has ls 2 [(0, .ref G.1), (1, .int i)] := hl
  refine lv_iload_n (pc := 0) hx hb dX1_laid_0 rfl (lv_at hl 1 rfl) ?_
  refine lv_i2l (pc := 1) (v := i.toInt64) hx hb dX1_laid_1 rfl ?_
  refine lv_lconst (pc := 2) (v := 0) hx hb dX1_laid_2 (by decide) ?_
  refine lv_aload_n (pc := 3) hx hb dX1_laid_3 rfl (lv_at hl 0 rfl) ?_
  refine m_getv (pc := 4) (v := (st 0 24)) E hw 24 (by decide) rfl rfl q1116 dX1_laid_4 ?_
  refine lv_i2l (pc := 7) (v := (st 0 24).toInt64) hx hb dX1_laid_7 rfl ?_
  refine lv_lconst (pc := 8) (v := 1) hx hb dX1_laid_8 (by decide) ?_
  refine lv_lsub (pc := 9) hx hb dX1_laid_9 ?_
  refine m_cS (pc := 10) (As := [.long i.toInt64, .long 0, .long ((st 0 24).toInt64 - 1)]) (rest := []) E hml hl.1 (mt_inN l i (st 0 24)) q1231 q1232 q1233 hdX1_in ⟨Nat.le_of_ble_eq_true rfl, Nat.le_of_ble_eq_true rfl⟩ rfl rfl rfl (Nat.le_of_ble_eq_true rfl) dX1_laid_10 ?_
  refine lb_eq (pc := 13) (tgt := 25) hx hb dX1_laid_13 (by decide) (fun c_1 => ?_) (fun c_1 => ?_)
  · refine lv_iconst (pc := 25) (v := (-1)) hx hb dX1_laid_25 (by decide) ?_
    exact m_iret E hr hlk hw dX1_laid_26 (by first | (simp only [sp_laid, if_neg c_1]; done) | contradiction | (simp only [sp_laid, c_1, if_true, if_false]; done)) rfl
  · refine lv_aload_n (pc := 16) hx hb dX1_laid_16 rfl (lv_at hl 0 rfl) ?_
    refine m_geta (pc := 17) E hw 26 (by decide) (by decide) q1118 dX1_laid_17 ?_
    refine lv_iload_n (pc := 20) hx hb dX1_laid_20 rfl (lv_at hl 1 rfl) ?_
    refine m_ald (pc := 21) E hw 26 (by decide) rfl (show vp_in i 10 from vp_in_iff.mpr ⟨by omega, by omega⟩) dX1_laid_21 ?_
    refine lv_goto (pc := 22) (tgt := 26) hx hb dX1_laid_22 (by decide) ?_
    exact m_iret E hr hlk hw dX1_laid_26 (by first | (simp only [sp_laid, if_pos c_1]; done) | contradiction | (simp only [sp_laid, c_1, if_true, if_false]; done)) rfl
