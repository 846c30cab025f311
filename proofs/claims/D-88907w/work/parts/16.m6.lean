/-! the reference's methods, sixth part: proofs, the search's helpers -/
def wah (st : mS) (b x : Nat) : Nat → Nat → Int32 → Int32
  | 0, _, w => w
  | n + 1, j, w => wah st b x n (j + 1) (if w = 0 then if st 10 (b + j) = st 10 (b + x) then 1 else 0 else 1)
def prv (st : mS) (b N : Nat) : Nat → Nat → Int32 → Nat → Int64 → Int64
  | 0, _, s, m, a => if N = 0 then -100 else if 10 < N then -100 else if m < cnt st 12 then -100 else if s = st 13 (cnt st 12 - 1) then a else -100
  | n + 1, x, s, m, a => if inN (st 10 (b + x)) (st 0 1) then if wah st b x x 0 0 = 0 then if (ldr st (st 10 (b + x)).toNatClampNeg s).toInt < 0 then -1 - (nI x).toInt64 else prv st b N n (x + 1) (ldr st (st 10 (b + x)).toNatClampNeg s) (if m < cnt st 12 then if st 13 m = ldr st (st 10 (b + x)).toNatClampNeg s then m + 1 else m else m) (a + (st 4 (st 10 (b + x)).toNatClampNeg).toInt64) else -1 - (nI x).toInt64 else -1 - (nI x).toInt64
def sp_proof (st : mS) (k w i n : Int32) : Int64 × mS :=
  if inB k 0 3 then if inB w 0 2 then if cnt st 12 = 0 then (LOST, mu st 0 0 0) else if 0 < (fof (mu st 0 0 0) k w i n).toInt then (LOST, mu (mu st 0 0 0) 0 0 (fof (mu st 0 0 0) k w i n)) else (prv (mu st 0 0 0) (32 * k.toNatClampNeg + i.toNatClampNeg) n.toNatClampNeg n.toNatClampNeg 0 ((mu st 0 0 0) 13 0) 1 0, mu st 0 0 0) else (LOST, mu st 0 0 0) else (LOST, mu st 0 0 0)
def isx (st : mS) (r : Nat) : Nat → Nat → Int32 → Int32
  | 0, _, y => y
  | n + 1, i, y => isx st r n (i + 1) (if y = 0 then if st 20 i = nI r then 1 else 0 else 1)
def cpb : Nat → Nat → mS → mS
  | 0, _, st => st
  | n + 1, i, st => cpb n (i + 1) (mu st 17 i (st 20 i))
def jnw (st : mS) (d : Nat) : mS := cpb d 0 (mu (mu (mu st 0 15 (st 23 d)) 0 16 (nI d)) 0 18 0)
def jdg (st : mS) (d : Nat) : mS :=
  if (st 22 d).toInt < (st 0 12).toInt then st else if st 21 d = st 13 (cnt st 12 - 1) then if (st 0 15).toInt < 0 then jnw st d else if (st 23 d).toInt < (st 0 15).toInt then jnw st d else if st 23 d = st 0 15 then mu st 0 18 (st 0 18 + 1) else st else st
set_option maxHeartbeats 4000000 in
set_option maxRecDepth 100000 in
theorem mt_wasAhead (l : Launch) (G : mG) (st : mS) (k : Nat) (i : Nat) (x : Nat)  (hk : k < 4) (hix : i + x < 32) : Met l yX1_wasAhead (ws_ yX1_wasAhead cX1_wasAhead 6 (some .boolean)) (mR 0) (mP G [.int (nI k), .int (nI i), .int (nI x)] st) (mQ G (some (.int (wah st (32 * k + i) x x 0 0))) (st)) 0 0 (mA G) := by
  refine m_head (As := [.int (nI k), .int (nI i), .int (nI x)]) (bytes := cX1_wasAhead) (maxL := 6) (ret := (some .boolean)) (by decide) rfl (Nat.le_of_ble_eq_true rfl) ?_
  intro p e s m below meth c E hml hr hlk hw ls hl
  have hx := E.1
  have hb := E.2.1
  have hts := E.2.2.1
  have hown := E.2.2.2.1
  have hl : lv_has ls 6 [(0, .ref G.1), (1, .int (nI k)), (2, .int (nI i)), (3, .int (nI x))] := hl
  refine lv_iconst (pc := 0) (v := 0) hx hb dX1_wasAhead_0 (by decide) ?_
  refine lv_istore (pc := 1) (lv' := [(4, .int 0), (0, .ref G.1), (1, .int (nI k)), (2, .int (nI i)), (3, .int (nI x))]) hx hb dX1_wasAhead_1 hl (by decide) rfl (fun ls hl => ?_)
  refine lv_iconst (pc := 3) (v := 0) hx hb dX1_wasAhead_3 (by decide) ?_
  refine lv_istore (pc := 4) (lv' := [(5, .int 0), (4, .int 0), (0, .ref G.1), (1, .int (nI k)), (2, .int (nI i)), (3, .int (nI x))]) hx hb dX1_wasAhead_4 hl (by decide) rfl (fun ls hl => ?_)
  have loop : ∀ (n : Nat) (j : Nat) (y : Int32), j + n = x → (y = 0 ∨ y = 1) → ∀ (H : Heap) (locs : List Loc), mWd G s.heap st H locs → ∀ ls : Array Slot, lv_has ls 6 [(0, .ref G.1), (1, .int (nI k)), (2, .int (nI i)), (3, .int (nI x)), (4, .int y), (5, .int (nI j))] → W p l e (mR 0) s m (Value.ref G.1 :: [.int (nI k), .int (nI i), .int (nI x)] : List Value).toArray below meth c H locs 0 0 (MQ below (mQ G (some (.int (wah st (32 * k + i) x n j y))) (st)) (Value.ref G.1 :: [.int (nI k), .int (nI i), .int (nI x)] : List Value).toArray s 0 0 (mA G)) (F0 m 6 ls []) := by
    intro n
    induction n with
    | zero =>
      intro j y hi hy H locs hw ls hl
      refine lv_iload (pc := 6) hx hb dX1_wasAhead_6 (lv_at hl 5 rfl) ?_
      refine lv_iload_n (pc := 8) hx hb dX1_wasAhead_8 rfl (lv_at hl 3 rfl) ?_
      refine li_icmp_geN (pc := 9) (a := j) (b := x) (tgt := 60) hx hb (by omega) (by omega) dX1_wasAhead_9 (by decide) (fun c_1 => ?_) (fun c_1 => absurd c_1 (by omega))
      refine lv_iload (pc := 60) hx hb dX1_wasAhead_60 (lv_at hl 4 rfl) ?_
      exact m_zret E hr hlk hw dX1_wasAhead_62 (b01_nar hy) rfl rfl
    | succ n ih_loop =>
      intro j y hi hy H locs hw ls hl
      refine lv_iload (pc := 6) hx hb dX1_wasAhead_6 (lv_at hl 5 rfl) ?_
      refine lv_iload_n (pc := 8) hx hb dX1_wasAhead_8 rfl (lv_at hl 3 rfl) ?_
      refine li_icmp_geN (pc := 9) (a := j) (b := x) (tgt := 60) hx hb (by omega) (by omega) dX1_wasAhead_9 (by decide) (fun c_2 => absurd c_2 (by omega)) (fun c_2 => ?_)
      refine lv_iload (pc := 12) hx hb dX1_wasAhead_12 (lv_at hl 4 rfl) ?_
      refine li_ne (pc := 14) (tgt := 47) hx hb dX1_wasAhead_14 (by decide) (fun c_3 => ?_) (fun c_3 => ?_)
      · refine lv_iconst (pc := 47) (v := 1) hx hb dX1_wasAhead_47 (by decide) ?_
        refine lv_goto (pc := 48) (tgt := 52) hx hb dX1_wasAhead_48 (by decide) ?_
        refine lv_istore (pc := 52) (lv' := [(4, .int 1), (0, .ref G.1), (1, .int (nI k)), (2, .int (nI i)), (3, .int (nI x)), (5, .int (nI j))]) hx hb dX1_wasAhead_52 hl (by decide) rfl (fun ls hl => ?_)
        refine lv_iinc (pc := 54) (v := (nI (j + 1))) (lv' := [(5, .int (nI (j + 1))), (4, .int 1), (0, .ref G.1), (1, .int (nI k)), (2, .int (nI i)), (3, .int (nI x))]) hx hb dX1_wasAhead_54 hl (k := 5) rfl (nI_1 _) (by decide) rfl (fun ls hl => ?_)
        refine lv_goto (pc := 57) (tgt := 6) hx hb dX1_wasAhead_57 (by decide) ?_
        exact m_to (by simp only [wah, if_neg c_3]) rfl (ih_loop (j + 1) 1 (by omega) (Or.inr rfl) _ _ hw _ (lv_sub hl [2, 3, 4, 5, 1, 0] rfl))
      · refine lv_aload_n (pc := 17) hx hb dX1_wasAhead_17 rfl (lv_at hl 0 rfl) ?_
        refine m_geta (pc := 18) E hw 10 (by decide) (by decide) q1102 dX1_wasAhead_18 ?_
        refine lv_bipush (pc := 21) (v := 32) hx hb dX1_wasAhead_21 (by decide) ?_
        refine lv_iload_n (pc := 23) hx hb dX1_wasAhead_23 rfl (lv_at hl 1 rfl) ?_
        refine li_mulN (pc := 24) (a := 32) (b := k) hx hb dX1_wasAhead_24 ?_
        refine lv_iload_n (pc := 25) hx hb dX1_wasAhead_25 rfl (lv_at hl 2 rfl) ?_
        refine li_addN (pc := 26) (a := 32 * k) (b := i) hx hb dX1_wasAhead_26 ?_
        refine lv_iload (pc := 27) hx hb dX1_wasAhead_27 (lv_at hl 5 rfl) ?_
        refine li_addN (pc := 29) (a := (32 * k) + i) (b := j) hx hb dX1_wasAhead_29 ?_
        refine m_aldN (pc := 30) (v := (st 10 (((32 * k) + i) + j))) E hw 10 (((32 * k) + i) + j) (by decide) rfl (show ((32 * k) + i) + j < 128 from (by omega)) (by decide) rfl dX1_wasAhead_30 ?_
        refine lv_aload_n (pc := 31) hx hb dX1_wasAhead_31 rfl (lv_at hl 0 rfl) ?_
        refine m_geta (pc := 32) E hw 10 (by decide) (by decide) q1102 dX1_wasAhead_32 ?_
        refine lv_bipush (pc := 35) (v := 32) hx hb dX1_wasAhead_35 (by decide) ?_
        refine lv_iload_n (pc := 37) hx hb dX1_wasAhead_37 rfl (lv_at hl 1 rfl) ?_
        refine li_mulN (pc := 38) (a := 32) (b := k) hx hb dX1_wasAhead_38 ?_
        refine lv_iload_n (pc := 39) hx hb dX1_wasAhead_39 rfl (lv_at hl 2 rfl) ?_
        refine li_addN (pc := 40) (a := 32 * k) (b := i) hx hb dX1_wasAhead_40 ?_
        refine lv_iload_n (pc := 41) hx hb dX1_wasAhead_41 rfl (lv_at hl 3 rfl) ?_
        refine li_addN (pc := 42) (a := (32 * k) + i) (b := x) hx hb dX1_wasAhead_42 ?_
        refine m_aldN (pc := 43) (v := (st 10 (((32 * k) + i) + x))) E hw 10 (((32 * k) + i) + x) (by decide) rfl (show ((32 * k) + i) + x < 128 from (by omega)) (by decide) rfl dX1_wasAhead_43 ?_
        refine li_icne (pc := 44) (tgt := 51) hx hb dX1_wasAhead_44 (by decide) (fun c_4 => ?_) (fun c_4 => ?_)
        · refine lv_iconst (pc := 51) (v := 0) hx hb dX1_wasAhead_51 (by decide) ?_
          refine lv_istore (pc := 52) (lv' := [(4, .int 0), (0, .ref G.1), (1, .int (nI k)), (2, .int (nI i)), (3, .int (nI x)), (5, .int (nI j))]) hx hb dX1_wasAhead_52 hl (by decide) rfl (fun ls hl => ?_)
          refine lv_iinc (pc := 54) (v := (nI (j + 1))) (lv' := [(5, .int (nI (j + 1))), (4, .int 0), (0, .ref G.1), (1, .int (nI k)), (2, .int (nI i)), (3, .int (nI x))]) hx hb dX1_wasAhead_54 hl (k := 5) rfl (nI_1 _) (by decide) rfl (fun ls hl => ?_)
          refine lv_goto (pc := 57) (tgt := 6) hx hb dX1_wasAhead_57 (by decide) ?_
          exact m_to (by simp only [wah, if_pos c_3, if_neg c_4]) rfl (ih_loop (j + 1) 0 (by omega) (Or.inl rfl) _ _ hw _ (lv_sub hl [2, 3, 4, 5, 1, 0] rfl))
        · refine lv_iconst (pc := 47) (v := 1) hx hb dX1_wasAhead_47 (by decide) ?_
          refine lv_goto (pc := 48) (tgt := 52) hx hb dX1_wasAhead_48 (by decide) ?_
          refine lv_istore (pc := 52) (lv' := [(4, .int 1), (0, .ref G.1), (1, .int (nI k)), (2, .int (nI i)), (3, .int (nI x)), (5, .int (nI j))]) hx hb dX1_wasAhead_52 hl (by decide) rfl (fun ls hl => ?_)
          refine lv_iinc (pc := 54) (v := (nI (j + 1))) (lv' := [(5, .int (nI (j + 1))), (4, .int 1), (0, .ref G.1), (1, .int (nI k)), (2, .int (nI i)), (3, .int (nI x))]) hx hb dX1_wasAhead_54 hl (k := 5) rfl (nI_1 _) (by decide) rfl (fun ls hl => ?_)
          refine lv_goto (pc := 57) (tgt := 6) hx hb dX1_wasAhead_57 (by decide) ?_
          exact m_to (by simp only [wah, if_pos c_3, if_pos c_4]) rfl (ih_loop (j + 1) 1 (by omega) (Or.inr rfl) _ _ hw _ (lv_sub hl [2, 3, 4, 5, 1, 0] rfl))
  exact m_to rfl rfl (loop x 0 0 (by omega) (Or.inl rfl) _ _ hw _ (lv_sub hl [2, 3, 4, 5, 1, 0] rfl))
set_option maxHeartbeats 4000000 in
set_option maxRecDepth 100000 in
theorem mt_proved (l : Launch) (G : mG) (st : mS) (k : Nat) (i : Nat) (n : Nat)  (hk : k < 4) (hin : i + n ≤ 32) (hB1 : 1 ≤ cnt st 12) (hR : 0 ≤ (st 0 1).toInt ∧ (st 0 1).toInt ≤ 16) (hB : 0 ≤ (st 0 12).toInt ∧ (st 0 12).toInt ≤ 8) : Met l yX1_proved (ws_ yX1_proved cX1_proved 11 (some .long)) (mR 2) (mP G [.int (nI k), .int (nI i), .int (nI n)] st) (mQ G (some (.long (prv st (32 * k + i) n n 0 (st 13 0) 1 0))) (st)) 0 0 (mA G) := by
  refine m_head (As := [.int (nI k), .int (nI i), .int (nI n)]) (bytes := cX1_proved) (maxL := 11) (ret := (some .long)) (by decide) rfl (Nat.le_of_ble_eq_true rfl) ?_
  intro p e s m below meth c E hml hr hlk hw ls hl
  have hx := E.1
  have hb := E.2.1
  have hts := E.2.2.1
  have hown := E.2.2.2.1
  have hl : lv_has ls 11 [(0, .ref G.1), (1, .int (nI k)), (2, .int (nI i)), (3, .int (nI n))] := hl
  have hRn := cnt_n hR.1
  have hRi := cnt_i hR.1
  have hBn := cnt_n hB.1
  have hBi := cnt_i hB.1
  refine lv_aload_n (pc := 0) hx hb dX1_proved_0 rfl (lv_at hl 0 rfl) ?_
  refine m_geta (pc := 1) E hw 13 (by decide) (by decide) q1105 dX1_proved_1 ?_
  refine lv_iconst (pc := 4) (v := 0) hx hb dX1_proved_4 (by decide) ?_
  refine m_aldN (pc := 5) (v := (st 13 0)) E hw 13 (0) (by decide) rfl (show 0 < 8 from (by omega)) (by decide) rfl dX1_proved_5 ?_
  refine lv_istore (pc := 6) (lv' := [(4, .int (st 13 0)), (0, .ref G.1), (1, .int (nI k)), (2, .int (nI i)), (3, .int (nI n))]) hx hb dX1_proved_6 hl (by decide) rfl (fun ls hl => ?_)
  refine lv_iconst (pc := 8) (v := 1) hx hb dX1_proved_8 (by decide) ?_
  refine lv_istore (pc := 9) (lv' := [(5, .int 1), (4, .int (st 13 0)), (0, .ref G.1), (1, .int (nI k)), (2, .int (nI i)), (3, .int (nI n))]) hx hb dX1_proved_9 hl (by decide) rfl (fun ls hl => ?_)
  refine lv_lconst (pc := 11) (v := 0) hx hb dX1_proved_11 (by decide) ?_
  refine lv_lstore (pc := 12) (lv' := [(6, .long 0), (5, .int 1), (4, .int (st 13 0)), (0, .ref G.1), (1, .int (nI k)), (2, .int (nI i)), (3, .int (nI n))]) hx hb dX1_proved_12 hl (by decide) rfl (fun ls hl => ?_)
  refine lv_iconst (pc := 14) (v := 0) hx hb dX1_proved_14 (by decide) ?_
  refine lv_istore (pc := 15) (lv' := [(8, .int 0), (6, .long 0), (5, .int 1), (4, .int (st 13 0)), (0, .ref G.1), (1, .int (nI k)), (2, .int (nI i)), (3, .int (nI n))]) hx hb dX1_proved_15 hl (by decide) rfl (fun ls hl => ?_)
  have loop : ∀ (q : Nat) (x : Nat) (s_ : Int32) (m_ : Nat) (a_ : Int64), x + q = n → m_ ≤ cnt st 12 → ∀ (H : Heap) (locs : List Loc), mWd G s.heap st H locs → ∀ ls : Array Slot, lv_has ls 11 [(0, .ref G.1), (1, .int (nI k)), (2, .int (nI i)), (3, .int (nI n)), (4, .int s_), (5, .int (nI m_)), (6, .long a_), (8, .int (nI x))] → W p l e (mR 2) s m (Value.ref G.1 :: [.int (nI k), .int (nI i), .int (nI n)] : List Value).toArray below meth c H locs 0 0 (MQ below (mQ G (some (.long (prv st (32 * k + i) n q x s_ m_ a_))) (st)) (Value.ref G.1 :: [.int (nI k), .int (nI i), .int (nI n)] : List Value).toArray s 0 0 (mA G)) (F0 m 17 ls []) := by
    intro q
    induction q with
    | zero =>
      intro x s_ m_ a_ hi hm H locs hw ls hl
      refine lv_iload (pc := 17) hx hb dX1_proved_17 (lv_at hl 7 rfl) ?_
      refine lv_iload_n (pc := 19) hx hb dX1_proved_19 rfl (lv_at hl 3 rfl) ?_
      refine li_icmp_geN (pc := 20) (a := x) (b := n) (tgt := 140) hx hb (by omega) (by omega) dX1_proved_20 (by decide) (fun c_1 => ?_) (fun c_1 => absurd c_1 (by omega))
      refine lv_iload_n (pc := 140) hx hb dX1_proved_140 rfl (lv_at hl 3 rfl) ?_
      refine li_if_eqN (pc := 141) (tgt := 175) hx hb (by omega) dX1_proved_141 (by decide) (fun c_2 => ?_) (fun c_2 => ?_)
      · refine lv_ldc2 (pc := 175) hx hb hown (hts _ q1354) dX1_proved_175 ?_
        refine lv_goto (pc := 178) (tgt := 183) hx hb dX1_proved_178 (by decide) ?_
        exact m_lret E hr hlk hw dX1_proved_183 (by first | (simp only [prv, if_pos c_2]; done) | contradiction) rfl
      · refine lv_iload_n (pc := 144) hx hb dX1_proved_144 rfl (lv_at hl 3 rfl) ?_
        refine lv_bipush (pc := 145) (v := 10) hx hb dX1_proved_145 (by decide) ?_
        refine li_icmp_gtN (pc := 147) (a := n) (b := 10) (tgt := 175) hx hb (by omega) (by omega) dX1_proved_147 (by decide) (fun c_3 => ?_) (fun c_3 => ?_)
        · refine lv_ldc2 (pc := 175) hx hb hown (hts _ q1354) dX1_proved_175 ?_
          refine lv_goto (pc := 178) (tgt := 183) hx hb dX1_proved_178 (by decide) ?_
          exact m_lret E hr hlk hw dX1_proved_183 (by first | (simp only [prv, if_neg c_2, if_pos c_3]; done) | contradiction) rfl
        · refine lv_iload (pc := 150) hx hb dX1_proved_150 (lv_at hl 5 rfl) ?_
          refine lv_aload_n (pc := 152) hx hb dX1_proved_152 rfl (lv_at hl 0 rfl) ?_
          refine m_getv (pc := 153) (v := (nI (cnt st 12))) E hw 12 (by decide) rfl hBn q1104 dX1_proved_153 ?_
          refine li_icmp_ltN (pc := 156) (a := m_) (b := cnt st 12) (tgt := 175) hx hb (by omega) (by omega) dX1_proved_156 (by decide) (fun c_4 => ?_) (fun c_4 => ?_)
          · refine lv_ldc2 (pc := 175) hx hb hown (hts _ q1354) dX1_proved_175 ?_
            refine lv_goto (pc := 178) (tgt := 183) hx hb dX1_proved_178 (by decide) ?_
            exact m_lret E hr hlk hw dX1_proved_183 (by first | (simp only [prv, if_neg c_2, if_neg c_3, if_pos c_4]; done) | contradiction) rfl
          · refine lv_iload (pc := 159) hx hb dX1_proved_159 (lv_at hl 4 rfl) ?_
            refine lv_aload_n (pc := 161) hx hb dX1_proved_161 rfl (lv_at hl 0 rfl) ?_
            refine m_geta (pc := 162) E hw 13 (by decide) (by decide) q1105 dX1_proved_162 ?_
            refine lv_aload_n (pc := 165) hx hb dX1_proved_165 rfl (lv_at hl 0 rfl) ?_
            refine m_getv (pc := 166) (v := (nI (cnt st 12))) E hw 12 (by decide) rfl hBn q1104 dX1_proved_166 ?_
            refine lv_iconst (pc := 169) (v := 1) hx hb dX1_proved_169 (by decide) ?_
            refine li_subN (pc := 170) (a := cnt st 12) (b := 1) hx hb (by omega) dX1_proved_170 ?_
            refine m_aldN (pc := 171) (v := (st 13 ((cnt st 12) - 1))) E hw 13 ((cnt st 12) - 1) (by decide) rfl (show (cnt st 12) - 1 < 8 from (by omega)) (by decide) rfl dX1_proved_171 ?_
            refine lv_icmp_eq (pc := 172) (tgt := 181) hx hb dX1_proved_172 (by decide) (fun c_5 => ?_) (fun c_5 => ?_)
            · refine lv_lload (pc := 181) hx hb dX1_proved_181 (lv_at hl 6 rfl) ?_
              exact m_lret E hr hlk hw dX1_proved_183 (by first | (simp only [prv, if_neg c_2, if_neg c_3, if_neg c_4, if_pos c_5]; done) | contradiction) rfl
            · refine lv_ldc2 (pc := 175) hx hb hown (hts _ q1354) dX1_proved_175 ?_
              refine lv_goto (pc := 178) (tgt := 183) hx hb dX1_proved_178 (by decide) ?_
              exact m_lret E hr hlk hw dX1_proved_183 (by first | (simp only [prv, if_neg c_2, if_neg c_3, if_neg c_4, if_neg c_5]; done) | contradiction) rfl
    | succ q ih_loop =>
      intro x s_ m_ a_ hi hm H locs hw ls hl
      refine lv_iload (pc := 17) hx hb dX1_proved_17 (lv_at hl 7 rfl) ?_
      refine lv_iload_n (pc := 19) hx hb dX1_proved_19 rfl (lv_at hl 3 rfl) ?_
      refine li_icmp_geN (pc := 20) (a := x) (b := n) (tgt := 140) hx hb (by omega) (by omega) dX1_proved_20 (by decide) (fun c_6 => absurd c_6 (by omega)) (fun c_6 => ?_)
      refine lv_aload_n (pc := 23) hx hb dX1_proved_23 rfl (lv_at hl 0 rfl) ?_
      refine m_geta (pc := 24) E hw 10 (by decide) (by decide) q1102 dX1_proved_24 ?_
      refine lv_bipush (pc := 27) (v := 32) hx hb dX1_proved_27 (by decide) ?_
      refine lv_iload_n (pc := 29) hx hb dX1_proved_29 rfl (lv_at hl 1 rfl) ?_
      refine li_mulN (pc := 30) (a := 32) (b := k) hx hb dX1_proved_30 ?_
      refine lv_iload_n (pc := 31) hx hb dX1_proved_31 rfl (lv_at hl 2 rfl) ?_
      refine li_addN (pc := 32) (a := 32 * k) (b := i) hx hb dX1_proved_32 ?_
      refine lv_iload (pc := 33) hx hb dX1_proved_33 (lv_at hl 7 rfl) ?_
      refine li_addN (pc := 35) (a := (32 * k) + i) (b := x) hx hb dX1_proved_35 ?_
      refine m_aldN (pc := 36) (v := (st 10 (((32 * k) + i) + x))) E hw 10 (((32 * k) + i) + x) (by decide) rfl (show ((32 * k) + i) + x < 128 from (by omega)) (by decide) rfl dX1_proved_36 ?_
      refine lv_istore (pc := 37) (lv' := [(9, .int (st 10 (((32 * k) + i) + x))), (0, .ref G.1), (1, .int (nI k)), (2, .int (nI i)), (3, .int (nI n)), (4, .int s_), (5, .int (nI m_)), (6, .long a_), (8, .int (nI x))]) hx hb dX1_proved_37 hl (by decide) rfl (fun ls hl => ?_)
      refine lv_aload_n (pc := 39) hx hb dX1_proved_39 rfl (lv_at hl 1 rfl) ?_
      refine lv_iload (pc := 40) hx hb dX1_proved_40 (lv_at hl 0 rfl) ?_
      refine m_cVi (pc := 42) (As := [.int (st 10 (((32 * k) + i) + x))]) (rest := []) E hml hl.1 hw (mt_noRoad l G (st) (st 10 (((32 * k) + i) + x))) q1240 q1242 qs22 q1243 hdX1_noRoad ⟨Nat.le_of_ble_eq_true rfl, Nat.le_of_ble_eq_true rfl⟩ rfl rfl rfl (Nat.le_of_ble_eq_true rfl) dX1_proved_42 (fun H locs hw => ?_)
      refine nb_ne (pc := 45) (tgt := 59) hx hb dX1_proved_45 (by decide) (fun c_7 => ?_) (fun c_7 => ?_)
      · refine lv_iconst (pc := 59) (v := (-1)) hx hb dX1_proved_59 (by decide) ?_
        refine lv_goto (pc := 60) (tgt := 71) hx hb dX1_proved_60 (by decide) ?_
        refine lv_istore (pc := 71) (lv' := [(10, .int (-1)), (9, .int (st 10 (((32 * k) + i) + x))), (0, .ref G.1), (1, .int (nI k)), (2, .int (nI i)), (3, .int (nI n)), (4, .int s_), (5, .int (nI m_)), (6, .long a_), (8, .int (nI x))]) hx hb dX1_proved_71 hl (by decide) rfl (fun ls hl => ?_)
        refine lv_iload (pc := 73) hx hb dX1_proved_73 (lv_at hl 0 rfl) ?_
        refine li_if_ge (pc := 75) (tgt := 86) hx hb dX1_proved_75 (by decide) (fun h_ => absurd h_ (by decide)) (fun _ => ?_)
        refine lv_ldc2 (pc := 78) hx hb hown (hts _ q1353) dX1_proved_78 ?_
        refine lv_iload (pc := 81) hx hb dX1_proved_81 (lv_at hl 9 rfl) ?_
        refine lv_i2l (pc := 83) (v := (nI x).toInt64) hx hb dX1_proved_83 rfl ?_
        refine lv_lsub (pc := 84) hx hb dX1_proved_84 ?_
        exact m_lret E hr hlk hw dX1_proved_85 (by first | (simp only [prv, if_neg c_7]; done) | contradiction) rfl
      · refine lv_aload_n (pc := 48) hx hb dX1_proved_48 rfl (lv_at hl 1 rfl) ?_
        refine lv_iload_n (pc := 49) hx hb dX1_proved_49 rfl (lv_at hl 2 rfl) ?_
        refine lv_iload_n (pc := 50) hx hb dX1_proved_50 rfl (lv_at hl 3 rfl) ?_
        refine lv_iload (pc := 51) hx hb dX1_proved_51 (lv_at hl 8 rfl) ?_
        refine m_cVi (pc := 53) (As := [.int (nI k), .int (nI i), .int (nI x)]) (rest := []) E hml hl.1 hw (mt_wasAhead l G (st) k i x (by omega) (by omega)) q1349 q1351 qs34 q1352 hdX1_wasAhead ⟨Nat.le_of_ble_eq_true rfl, Nat.le_of_ble_eq_true rfl⟩ rfl rfl rfl (Nat.le_of_ble_eq_true rfl) dX1_proved_53 (fun H locs hw => ?_)
        refine lv_if_eq (pc := 56) (tgt := 63) hx hb dX1_proved_56 (by decide) (fun c_8 => ?_) (fun c_8 => ?_)
        · refine lv_aload_n (pc := 63) hx hb dX1_proved_63 rfl (lv_at hl 1 rfl) ?_
          refine lv_iload (pc := 64) hx hb dX1_proved_64 (lv_at hl 0 rfl) ?_
          refine lv_iload (pc := 66) hx hb dX1_proved_66 (lv_at hl 5 rfl) ?_
          refine m_cVi (pc := 68) (As := [.int (st 10 (((32 * k) + i) + x)), .int s_]) (rest := []) E hml hl.1 hw (mt_leads l G (st) (st 10 (((32 * k) + i) + x)) s_ ⟨by omega, by omega⟩) q1324 q1326 qs31 q1327 hdX1_leads ⟨Nat.le_of_ble_eq_true rfl, Nat.le_of_ble_eq_true rfl⟩ rfl rfl rfl (Nat.le_of_ble_eq_true rfl) dX1_proved_68 (fun H locs hw => ?_)
          refine lv_istore (pc := 71) (lv' := [(10, .int (ldr st (st 10 (((32 * k) + i) + x)).toNatClampNeg s_)), (9, .int (st 10 (((32 * k) + i) + x))), (0, .ref G.1), (1, .int (nI k)), (2, .int (nI i)), (3, .int (nI n)), (4, .int s_), (5, .int (nI m_)), (6, .long a_), (8, .int (nI x))]) hx hb dX1_proved_71 hl (by decide) rfl (fun ls hl => ?_)
          refine lv_iload (pc := 73) hx hb dX1_proved_73 (lv_at hl 0 rfl) ?_
          refine li_if_ge (pc := 75) (tgt := 86) hx hb dX1_proved_75 (by decide) (fun c_9 => ?_) (fun c_9 => ?_)
          · refine lv_iload (pc := 86) hx hb dX1_proved_86 (lv_at hl 0 rfl) ?_
            refine lv_istore (pc := 88) (lv' := [(4, .int (ldr st (st 10 (((32 * k) + i) + x)).toNatClampNeg s_)), (10, .int (ldr st (st 10 (((32 * k) + i) + x)).toNatClampNeg s_)), (9, .int (st 10 (((32 * k) + i) + x))), (0, .ref G.1), (1, .int (nI k)), (2, .int (nI i)), (3, .int (nI n)), (5, .int (nI m_)), (6, .long a_), (8, .int (nI x))]) hx hb dX1_proved_88 hl (by decide) rfl (fun ls hl => ?_)
            refine lv_iload (pc := 90) hx hb dX1_proved_90 (lv_at hl 7 rfl) ?_
            refine lv_iload (pc := 92) hx hb dX1_proved_92 (lv_at hl 7 rfl) ?_
            refine lv_aload_n (pc := 94) hx hb dX1_proved_94 rfl (lv_at hl 3 rfl) ?_
            refine m_getv (pc := 95) (v := (nI (cnt st 12))) E hw 12 (by decide) rfl hBn q1104 dX1_proved_95 ?_
            refine li_icmp_geN (pc := 98) (a := m_) (b := cnt st 12) (tgt := 117) hx hb (by omega) (by omega) dX1_proved_98 (by decide) (fun c_10 => ?_) (fun c_10 => ?_)
            · refine lv_iconst (pc := 117) (v := 0) hx hb dX1_proved_117 (by decide) ?_
              refine li_addN (pc := 118) (a := m_) (b := 0) hx hb dX1_proved_118 ?_
              refine li_top (v' := .int (nI m_)) rfl ?_
              refine lv_istore (pc := 119) (lv' := [(5, .int (nI m_)), (4, .int (ldr st (st 10 (((32 * k) + i) + x)).toNatClampNeg s_)), (10, .int (ldr st (st 10 (((32 * k) + i) + x)).toNatClampNeg s_)), (9, .int (st 10 (((32 * k) + i) + x))), (0, .ref G.1), (1, .int (nI k)), (2, .int (nI i)), (3, .int (nI n)), (6, .long a_), (8, .int (nI x))]) hx hb dX1_proved_119 hl (by decide) rfl (fun ls hl => ?_)
              refine lv_lload (pc := 121) hx hb dX1_proved_121 (lv_at hl 8 rfl) ?_
              refine lv_aload_n (pc := 123) hx hb dX1_proved_123 rfl (lv_at hl 4 rfl) ?_
              refine m_geta (pc := 124) E hw 4 (by decide) (by decide) q1096 dX1_proved_124 ?_
              refine lv_iload (pc := 127) hx hb dX1_proved_127 (lv_at hl 3 rfl) ?_
              refine m_ald (pc := 129) E hw 4 (by decide) rfl (show vp_in (st 10 (((32 * k) + i) + x)) 16 from vp_in_iff.mpr ⟨by omega, by omega⟩) dX1_proved_129 ?_
              refine lv_i2l (pc := 130) (v := (st 4 (st 10 (((32 * k) + i) + x)).toNatClampNeg).toInt64) hx hb dX1_proved_130 rfl ?_
              refine lv_ladd (pc := 131) hx hb dX1_proved_131 ?_
              refine lv_lstore (pc := 132) (lv' := [(6, .long (a_ + (st 4 (st 10 (((32 * k) + i) + x)).toNatClampNeg).toInt64)), (5, .int (nI m_)), (4, .int (ldr st (st 10 (((32 * k) + i) + x)).toNatClampNeg s_)), (10, .int (ldr st (st 10 (((32 * k) + i) + x)).toNatClampNeg s_)), (9, .int (st 10 (((32 * k) + i) + x))), (0, .ref G.1), (1, .int (nI k)), (2, .int (nI i)), (3, .int (nI n)), (8, .int (nI x))]) hx hb dX1_proved_132 hl (by decide) rfl (fun ls hl => ?_)
              refine lv_iinc (pc := 134) (v := (nI (x + 1))) (lv' := [(8, .int (nI (x + 1))), (6, .long (a_ + (st 4 (st 10 (((32 * k) + i) + x)).toNatClampNeg).toInt64)), (5, .int (nI m_)), (4, .int (ldr st (st 10 (((32 * k) + i) + x)).toNatClampNeg s_)), (10, .int (ldr st (st 10 (((32 * k) + i) + x)).toNatClampNeg s_)), (9, .int (st 10 (((32 * k) + i) + x))), (0, .ref G.1), (1, .int (nI k)), (2, .int (nI i)), (3, .int (nI n))]) hx hb dX1_proved_134 hl (k := 9) rfl (nI_1 _) (by decide) rfl (fun ls hl => ?_)
              refine lv_goto (pc := 137) (tgt := 17) hx hb dX1_proved_137 (by decide) ?_
              exact m_to (by first | (simp only [prv, Nat.add_zero, if_pos c_7, if_pos c_8, if_neg c_9, if_neg c_10]; done) | contradiction) rfl (ih_loop (x + 1) (ldr st (st 10 (((32 * k) + i) + x)).toNatClampNeg s_) m_ (a_ + (st 4 (st 10 (((32 * k) + i) + x)).toNatClampNeg).toInt64) (by omega) (by omega) _ _ hw _ (lv_sub hl [6, 7, 8, 9, 3, 2, 1, 0] rfl))
            · refine lv_aload_n (pc := 101) hx hb dX1_proved_101 rfl (lv_at hl 3 rfl) ?_
              refine m_geta (pc := 102) E hw 13 (by decide) (by decide) q1105 dX1_proved_102 ?_
              refine lv_iload (pc := 105) hx hb dX1_proved_105 (lv_at hl 7 rfl) ?_
              refine m_aldN (pc := 107) (v := (st 13 m_)) E hw 13 (m_) (by decide) rfl (show m_ < 8 from (by omega)) (by decide) rfl dX1_proved_107 ?_
              refine lv_iload (pc := 108) hx hb dX1_proved_108 (lv_at hl 0 rfl) ?_
              refine li_icne (pc := 110) (tgt := 117) hx hb dX1_proved_110 (by decide) (fun c_11 => ?_) (fun c_11 => ?_)
              · refine lv_iconst (pc := 117) (v := 0) hx hb dX1_proved_117 (by decide) ?_
                refine li_addN (pc := 118) (a := m_) (b := 0) hx hb dX1_proved_118 ?_
                refine li_top (v' := .int (nI m_)) rfl ?_
                refine lv_istore (pc := 119) (lv' := [(5, .int (nI m_)), (4, .int (ldr st (st 10 (((32 * k) + i) + x)).toNatClampNeg s_)), (10, .int (ldr st (st 10 (((32 * k) + i) + x)).toNatClampNeg s_)), (9, .int (st 10 (((32 * k) + i) + x))), (0, .ref G.1), (1, .int (nI k)), (2, .int (nI i)), (3, .int (nI n)), (6, .long a_), (8, .int (nI x))]) hx hb dX1_proved_119 hl (by decide) rfl (fun ls hl => ?_)
                refine lv_lload (pc := 121) hx hb dX1_proved_121 (lv_at hl 8 rfl) ?_
                refine lv_aload_n (pc := 123) hx hb dX1_proved_123 rfl (lv_at hl 4 rfl) ?_
                refine m_geta (pc := 124) E hw 4 (by decide) (by decide) q1096 dX1_proved_124 ?_
                refine lv_iload (pc := 127) hx hb dX1_proved_127 (lv_at hl 3 rfl) ?_
                refine m_ald (pc := 129) E hw 4 (by decide) rfl (show vp_in (st 10 (((32 * k) + i) + x)) 16 from vp_in_iff.mpr ⟨by omega, by omega⟩) dX1_proved_129 ?_
                refine lv_i2l (pc := 130) (v := (st 4 (st 10 (((32 * k) + i) + x)).toNatClampNeg).toInt64) hx hb dX1_proved_130 rfl ?_
                refine lv_ladd (pc := 131) hx hb dX1_proved_131 ?_
                refine lv_lstore (pc := 132) (lv' := [(6, .long (a_ + (st 4 (st 10 (((32 * k) + i) + x)).toNatClampNeg).toInt64)), (5, .int (nI m_)), (4, .int (ldr st (st 10 (((32 * k) + i) + x)).toNatClampNeg s_)), (10, .int (ldr st (st 10 (((32 * k) + i) + x)).toNatClampNeg s_)), (9, .int (st 10 (((32 * k) + i) + x))), (0, .ref G.1), (1, .int (nI k)), (2, .int (nI i)), (3, .int (nI n)), (8, .int (nI x))]) hx hb dX1_proved_132 hl (by decide) rfl (fun ls hl => ?_)
                refine lv_iinc (pc := 134) (v := (nI (x + 1))) (lv' := [(8, .int (nI (x + 1))), (6, .long (a_ + (st 4 (st 10 (((32 * k) + i) + x)).toNatClampNeg).toInt64)), (5, .int (nI m_)), (4, .int (ldr st (st 10 (((32 * k) + i) + x)).toNatClampNeg s_)), (10, .int (ldr st (st 10 (((32 * k) + i) + x)).toNatClampNeg s_)), (9, .int (st 10 (((32 * k) + i) + x))), (0, .ref G.1), (1, .int (nI k)), (2, .int (nI i)), (3, .int (nI n))]) hx hb dX1_proved_134 hl (k := 9) rfl (nI_1 _) (by decide) rfl (fun ls hl => ?_)
                refine lv_goto (pc := 137) (tgt := 17) hx hb dX1_proved_137 (by decide) ?_
                exact m_to (by first | (simp only [prv, Nat.add_zero, if_pos c_7, if_pos c_8, if_neg c_9, if_pos c_10, if_neg c_11]; done) | contradiction) rfl (ih_loop (x + 1) (ldr st (st 10 (((32 * k) + i) + x)).toNatClampNeg s_) m_ (a_ + (st 4 (st 10 (((32 * k) + i) + x)).toNatClampNeg).toInt64) (by omega) (by omega) _ _ hw _ (lv_sub hl [6, 7, 8, 9, 3, 2, 1, 0] rfl))
              · refine lv_iconst (pc := 113) (v := 1) hx hb dX1_proved_113 (by decide) ?_
                refine lv_goto (pc := 114) (tgt := 118) hx hb dX1_proved_114 (by decide) ?_
                refine li_addN (pc := 118) (a := m_) (b := 1) hx hb dX1_proved_118 ?_
                refine lv_istore (pc := 119) (lv' := [(5, .int (nI (m_ + 1))), (4, .int (ldr st (st 10 (((32 * k) + i) + x)).toNatClampNeg s_)), (10, .int (ldr st (st 10 (((32 * k) + i) + x)).toNatClampNeg s_)), (9, .int (st 10 (((32 * k) + i) + x))), (0, .ref G.1), (1, .int (nI k)), (2, .int (nI i)), (3, .int (nI n)), (6, .long a_), (8, .int (nI x))]) hx hb dX1_proved_119 hl (by decide) rfl (fun ls hl => ?_)
                refine lv_lload (pc := 121) hx hb dX1_proved_121 (lv_at hl 8 rfl) ?_
                refine lv_aload_n (pc := 123) hx hb dX1_proved_123 rfl (lv_at hl 4 rfl) ?_
                refine m_geta (pc := 124) E hw 4 (by decide) (by decide) q1096 dX1_proved_124 ?_
                refine lv_iload (pc := 127) hx hb dX1_proved_127 (lv_at hl 3 rfl) ?_
                refine m_ald (pc := 129) E hw 4 (by decide) rfl (show vp_in (st 10 (((32 * k) + i) + x)) 16 from vp_in_iff.mpr ⟨by omega, by omega⟩) dX1_proved_129 ?_
                refine lv_i2l (pc := 130) (v := (st 4 (st 10 (((32 * k) + i) + x)).toNatClampNeg).toInt64) hx hb dX1_proved_130 rfl ?_
                refine lv_ladd (pc := 131) hx hb dX1_proved_131 ?_
                refine lv_lstore (pc := 132) (lv' := [(6, .long (a_ + (st 4 (st 10 (((32 * k) + i) + x)).toNatClampNeg).toInt64)), (5, .int (nI (m_ + 1))), (4, .int (ldr st (st 10 (((32 * k) + i) + x)).toNatClampNeg s_)), (10, .int (ldr st (st 10 (((32 * k) + i) + x)).toNatClampNeg s_)), (9, .int (st 10 (((32 * k) + i) + x))), (0, .ref G.1), (1, .int (nI k)), (2, .int (nI i)), (3, .int (nI n)), (8, .int (nI x))]) hx hb dX1_proved_132 hl (by decide) rfl (fun ls hl => ?_)
                refine lv_iinc (pc := 134) (v := (nI (x + 1))) (lv' := [(8, .int (nI (x + 1))), (6, .long (a_ + (st 4 (st 10 (((32 * k) + i) + x)).toNatClampNeg).toInt64)), (5, .int (nI (m_ + 1))), (4, .int (ldr st (st 10 (((32 * k) + i) + x)).toNatClampNeg s_)), (10, .int (ldr st (st 10 (((32 * k) + i) + x)).toNatClampNeg s_)), (9, .int (st 10 (((32 * k) + i) + x))), (0, .ref G.1), (1, .int (nI k)), (2, .int (nI i)), (3, .int (nI n))]) hx hb dX1_proved_134 hl (k := 9) rfl (nI_1 _) (by decide) rfl (fun ls hl => ?_)
                refine lv_goto (pc := 137) (tgt := 17) hx hb dX1_proved_137 (by decide) ?_
                exact m_to (by first | (simp only [prv, Nat.add_zero, if_pos c_7, if_pos c_8, if_neg c_9, if_pos c_10, if_pos c_11]; done) | contradiction) rfl (ih_loop (x + 1) (ldr st (st 10 (((32 * k) + i) + x)).toNatClampNeg s_) (m_ + 1) (a_ + (st 4 (st 10 (((32 * k) + i) + x)).toNatClampNeg).toInt64) (by omega) (by omega) _ _ hw _ (lv_sub hl [6, 7, 8, 9, 3, 2, 1, 0] rfl))
          · refine lv_ldc2 (pc := 78) hx hb hown (hts _ q1353) dX1_proved_78 ?_
            refine lv_iload (pc := 81) hx hb dX1_proved_81 (lv_at hl 9 rfl) ?_
            refine lv_i2l (pc := 83) (v := (nI x).toInt64) hx hb dX1_proved_83 rfl ?_
            refine lv_lsub (pc := 84) hx hb dX1_proved_84 ?_
            exact m_lret E hr hlk hw dX1_proved_85 (by first | (simp only [prv, if_pos c_7, if_pos c_8, if_pos c_9]; done) | contradiction) rfl
        · refine lv_iconst (pc := 59) (v := (-1)) hx hb dX1_proved_59 (by decide) ?_
          refine lv_goto (pc := 60) (tgt := 71) hx hb dX1_proved_60 (by decide) ?_
          refine lv_istore (pc := 71) (lv' := [(10, .int (-1)), (9, .int (st 10 (((32 * k) + i) + x))), (0, .ref G.1), (1, .int (nI k)), (2, .int (nI i)), (3, .int (nI n)), (4, .int s_), (5, .int (nI m_)), (6, .long a_), (8, .int (nI x))]) hx hb dX1_proved_71 hl (by decide) rfl (fun ls hl => ?_)
          refine lv_iload (pc := 73) hx hb dX1_proved_73 (lv_at hl 0 rfl) ?_
          refine li_if_ge (pc := 75) (tgt := 86) hx hb dX1_proved_75 (by decide) (fun h_ => absurd h_ (by decide)) (fun _ => ?_)
          refine lv_ldc2 (pc := 78) hx hb hown (hts _ q1353) dX1_proved_78 ?_
          refine lv_iload (pc := 81) hx hb dX1_proved_81 (lv_at hl 9 rfl) ?_
          refine lv_i2l (pc := 83) (v := (nI x).toInt64) hx hb dX1_proved_83 rfl ?_
          refine lv_lsub (pc := 84) hx hb dX1_proved_84 ?_
          exact m_lret E hr hlk hw dX1_proved_85 (by first | (simp only [prv, if_pos c_7, if_neg c_8]; done) | contradiction) rfl
  exact m_to rfl rfl (loop n 0 (st 13 0) 1 0 (by omega) (by omega) _ _ hw _ (lv_sub hl [4, 5, 6, 7, 3, 2, 1, 0] rfl))
set_option maxHeartbeats 4000000 in
set_option maxRecDepth 100000 in
theorem mt_proof (l : Launch) (G : mG) (st : mS) (k : Int32) (x : Int32) (i : Int32) (n : Int32)  (hS : ∀ j, j < 4 → -1 ≤ (st 8 j).toInt ∧ (st 8 j).toInt ≤ 32) (hR : 0 ≤ (st 0 1).toInt ∧ (st 0 1).toInt ≤ 16) (hB : 0 ≤ (st 0 12).toInt ∧ (st 0 12).toInt ≤ 8) : Met l yX1_proof (ws_ yX1_proof cX1_proof 6 (some .long)) (mR 3) (mP G [.int k, .int x, .int i, .int n] st) (mQ G (some (.long (sp_proof st k x i n).1)) ((sp_proof st k x i n).2)) 0 0 (mA G) := by
  refine m_head (As := [.int k, .int x, .int i, .int n]) (bytes := cX1_proof) (maxL := 6) (ret := (some .long)) (by decide) rfl (Nat.le_of_ble_eq_true rfl) ?_
  intro p e s m below meth c E hml hr hlk hw ls hl
  have hx := E.1
  have hb := E.2.1
  have hts := E.2.2.1
  have hown := E.2.2.2.1
  have hl : lv_has ls 6 [(0, .ref G.1), (1, .int k), (2, .int x), (3, .int i), (4, .int n)] := hl
  have hBn := cnt_n hB.1
  have hBi := cnt_i hB.1
  refine lv_aload_n (pc := 0) hx hb dX1_proof_0 rfl (lv_at hl 0 rfl) ?_
  refine lv_iconst (pc := 1) (v := 0) hx hb dX1_proof_1 (by decide) ?_
  refine m_put (pc := 2) (v := 0) E hw 0 (by decide) rfl rfl rfl q1092 dX1_proof_2 (fun H locs hw => ?_)
  refine lv_iload_n (pc := 5) hx hb dX1_proof_5 rfl (lv_at hl 1 rfl) ?_
  refine m_cS (pc := 6) (As := [.int k]) (rest := []) E hml hl.1 (mt_noSheet l k) q1264 q1265 q1266 hdX1_noSheet ⟨Nat.le_of_ble_eq_true rfl, Nat.le_of_ble_eq_true rfl⟩ rfl rfl rfl (Nat.le_of_ble_eq_true rfl) dX1_proof_6 ?_
  refine nb_ne (pc := 9) (tgt := 31) hx hb dX1_proof_9 (by decide) (fun c_1 => ?_) (fun c_1 => ?_)
  · refine m_cS (pc := 31) (As := []) (rest := []) E hml hl.1 (mt_lost l) q1284 q1285 q1286 hdX1_lost ⟨Nat.le_of_ble_eq_true rfl, Nat.le_of_ble_eq_true rfl⟩ rfl rfl rfl (Nat.le_of_ble_eq_true rfl) dX1_proof_31 ?_
    exact m_lret E hr hlk hw dX1_proof_34 (by first | (simp only [sp_proof, if_neg c_1]; done) | contradiction | (simp only [sp_proof, c_1, if_true, if_false]; done)) (by first | (simp only [sp_proof, if_neg c_1]; done) | contradiction | (simp only [sp_proof, c_1, if_true, if_false]; done))
  · refine lv_iload_n (pc := 12) hx hb dX1_proof_12 rfl (lv_at hl 2 rfl) ?_
    refine lv_i2l (pc := 13) (v := x.toInt64) hx hb dX1_proof_13 rfl ?_
    refine lv_lconst (pc := 14) (v := 0) hx hb dX1_proof_14 (by decide) ?_
    refine lv_ldc2 (pc := 15) hx hb hown (hts _ q1235) dX1_proof_15 ?_
    refine m_cS (pc := 18) (As := [.long x.toInt64, .long 0, .long 2]) (rest := []) E hml hl.1 (mt_inB l x 0 2 0 2 rfl rfl) q1231 q1232 q1233 hdX1_in ⟨Nat.le_of_ble_eq_true rfl, Nat.le_of_ble_eq_true rfl⟩ rfl rfl rfl (Nat.le_of_ble_eq_true rfl) dX1_proof_18 ?_
    refine lb_eq (pc := 21) (tgt := 31) hx hb dX1_proof_21 (by decide) (fun c_2 => ?_) (fun c_2 => ?_)
    · refine m_cS (pc := 31) (As := []) (rest := []) E hml hl.1 (mt_lost l) q1284 q1285 q1286 hdX1_lost ⟨Nat.le_of_ble_eq_true rfl, Nat.le_of_ble_eq_true rfl⟩ rfl rfl rfl (Nat.le_of_ble_eq_true rfl) dX1_proof_31 ?_
      exact m_lret E hr hlk hw dX1_proof_34 (by first | (simp only [sp_proof, if_pos c_1, if_neg c_2]; done) | contradiction | (simp only [sp_proof, c_1, c_2, if_true, if_false]; done)) (by first | (simp only [sp_proof, if_pos c_1, if_neg c_2]; done) | contradiction | (simp only [sp_proof, c_1, c_2, if_true, if_false]; done))
    · refine lv_aload_n (pc := 24) hx hb dX1_proof_24 rfl (lv_at hl 0 rfl) ?_
      refine m_getv (pc := 25) (v := (nI (cnt st 12))) E hw 12 (by decide) rfl hBn q1104 dX1_proof_25 ?_
      refine li_if_neN (pc := 28) (tgt := 35) hx hb (by omega) dX1_proof_28 (by decide) (fun c_3 => ?_) (fun c_3 => ?_)
      · refine lv_aload_n (pc := 35) hx hb dX1_proof_35 rfl (lv_at hl 0 rfl) ?_
        refine lv_iload_n (pc := 36) hx hb dX1_proof_36 rfl (lv_at hl 1 rfl) ?_
        refine lv_iload_n (pc := 37) hx hb dX1_proof_37 rfl (lv_at hl 2 rfl) ?_
        refine lv_iload_n (pc := 38) hx hb dX1_proof_38 rfl (lv_at hl 3 rfl) ?_
        refine lv_iload (pc := 39) hx hb dX1_proof_39 (lv_at hl 4 rfl) ?_
        refine m_cVi (pc := 41) (As := [.int k, .int x, .int i, .int n]) (rest := []) E hml hl.1 hw (mt_faultOf l G (mu st 0 0 0) k x i n c_1) q1303 q1305 qs27 q1306 hdX1_faultOf ⟨Nat.le_of_ble_eq_true rfl, Nat.le_of_ble_eq_true rfl⟩ rfl rfl rfl (Nat.le_of_ble_eq_true rfl) dX1_proof_41 (fun H locs hw => ?_)
        refine lv_istore (pc := 44) (lv' := [(5, .int (fof (mu st 0 0 0) k x i n)), (0, .ref G.1), (1, .int k), (2, .int x), (3, .int i), (4, .int n)]) hx hb dX1_proof_44 hl (by decide) rfl (fun ls hl => ?_)
        refine lv_iload (pc := 46) hx hb dX1_proof_46 (lv_at hl 0 rfl) ?_
        refine li_if_le (pc := 48) (tgt := 60) hx hb dX1_proof_48 (by decide) (fun c_4 => ?_) (fun c_4 => ?_)
        · have hf_ : ¬ (st 8 k.toNatClampNeg).toInt < 0 ∧ st 9 k.toNatClampNeg = x ∧ ¬ n.toInt < 0 ∧ ¬ bey i n (st 8 k.toNatClampNeg) := fof_ok c_4
          have hkn := clamp_n (x := k) c_1.1
          have hki := clamp_i (x := k) c_1.1
          have hS1 := hS k.toNatClampNeg (by omega)
          have hbey := hf_.2.2.2
          have hin := clamp_n (x := i) (by omega)
          have hii := clamp_i (x := i) (by omega)
          have hnn := clamp_n (x := n) (by omega)
          have hni := clamp_i (x := n) (by omega)
          refine lv_aload_n (pc := 60) hx hb dX1_proof_60 rfl (lv_at hl 1 rfl) ?_
          refine lv_iload_n (pc := 61) hx hb dX1_proof_61 rfl (lv_at hl 2 rfl) ?_
          refine li_top (v' := .int (nI k.toNatClampNeg)) (congrArg Value.int hkn) ?_
          refine lv_iload_n (pc := 62) hx hb dX1_proof_62 rfl (lv_at hl 4 rfl) ?_
          refine li_top (v' := .int (nI i.toNatClampNeg)) (congrArg Value.int hin) ?_
          refine lv_iload (pc := 63) hx hb dX1_proof_63 (lv_at hl 5 rfl) ?_
          refine li_top (v' := .int (nI n.toNatClampNeg)) (congrArg Value.int hnn) ?_
          refine m_cVi (pc := 65) (As := [.int (nI k.toNatClampNeg), .int (nI i.toNatClampNeg), .int (nI n.toNatClampNeg)]) (rest := []) E hml hl.1 hw (mt_proved l G (mu st 0 0 0) k.toNatClampNeg i.toNatClampNeg n.toNatClampNeg (by omega) (by omega) (by show 1 ≤ cnt st 12; omega) hR hB) q1345 q1347 qs33 q1348 hdX1_proved ⟨Nat.le_of_ble_eq_true rfl, Nat.le_of_ble_eq_true rfl⟩ rfl rfl rfl (Nat.le_of_ble_eq_true rfl) dX1_proof_65 (fun H locs hw => ?_)
          exact m_lret E hr hlk hw dX1_proof_68 (by first | (simp only [sp_proof, if_pos c_1, if_pos c_2, if_neg c_3, if_neg c_4]; done) | contradiction | (simp only [sp_proof, c_1, c_2, c_3, c_4, if_true, if_false]; done)) (by first | (simp only [sp_proof, if_pos c_1, if_pos c_2, if_neg c_3, if_neg c_4]; done) | contradiction | (simp only [sp_proof, c_1, c_2, c_3, c_4, if_true, if_false]; done))
        · refine lv_aload_n (pc := 51) hx hb dX1_proof_51 rfl (lv_at hl 1 rfl) ?_
          refine lv_iload (pc := 52) hx hb dX1_proof_52 (lv_at hl 0 rfl) ?_
          refine m_cVi (pc := 54) (As := [.int (fof (mu st 0 0 0) k x i n)]) (rest := []) E hml hl.1 hw (mt_failedLong l G (mu st 0 0 0) (fof (mu st 0 0 0) k x i n)) q1288 q1290 qs26 q1291 hdX1_failedLong ⟨Nat.le_of_ble_eq_true rfl, Nat.le_of_ble_eq_true rfl⟩ rfl rfl rfl (Nat.le_of_ble_eq_true rfl) dX1_proof_54 (fun H locs hw => ?_)
          refine lv_goto (pc := 57) (tgt := 68) hx hb dX1_proof_57 (by decide) ?_
          exact m_lret E hr hlk hw dX1_proof_68 (by first | (simp only [sp_proof, if_pos c_1, if_pos c_2, if_neg c_3, if_pos c_4]; done) | contradiction | (simp only [sp_proof, c_1, c_2, c_3, c_4, if_true, if_false]; done)) (by first | (simp only [sp_proof, if_pos c_1, if_pos c_2, if_neg c_3, if_pos c_4]; done) | contradiction | (simp only [sp_proof, c_1, c_2, c_3, c_4, if_true, if_false]; done))
      · refine m_cS (pc := 31) (As := []) (rest := []) E hml hl.1 (mt_lost l) q1284 q1285 q1286 hdX1_lost ⟨Nat.le_of_ble_eq_true rfl, Nat.le_of_ble_eq_true rfl⟩ rfl rfl rfl (Nat.le_of_ble_eq_true rfl) dX1_proof_31 ?_
        exact m_lret E hr hlk hw dX1_proof_34 (by first | (simp only [sp_proof, if_pos c_1, if_pos c_2, if_pos c_3]; done) | contradiction | (simp only [sp_proof, c_1, c_2, c_3, if_true, if_false]; done)) (by first | (simp only [sp_proof, if_pos c_1, if_pos c_2, if_pos c_3]; done) | contradiction | (simp only [sp_proof, c_1, c_2, c_3, if_true, if_false]; done))
set_option maxHeartbeats 4000000 in
set_option maxRecDepth 100000 in
theorem mt_isIn (l : Launch) (G : mG) (st : mS) (r : Nat)  (dp : Nat) (hd : st 0 19 = nI dp) (hd10 : dp ≤ 10) : Met l yX1_isIn (ws_ yX1_isIn cX1_isIn 4 (some .boolean)) (mR 0) (mP G [.int (nI r)] st) (mQ G (some (.int (isx st r dp 0 0))) (st)) 0 0 (mA G) := by
  refine m_head (As := [.int (nI r)]) (bytes := cX1_isIn) (maxL := 4) (ret := (some .boolean)) (by decide) rfl (Nat.le_of_ble_eq_true rfl) ?_
  intro p e s m below meth c E hml hr hlk hw ls hl
  have hx := E.1
  have hb := E.2.1
  have hts := E.2.2.1
  have hown := E.2.2.2.1
  have hl : lv_has ls 4 [(0, .ref G.1), (1, .int (nI r))] := hl
  refine lv_iconst (pc := 0) (v := 0) hx hb dX1_isIn_0 (by decide) ?_
  refine lv_istore_n (pc := 1) (lv' := [(2, .int 0), (0, .ref G.1), (1, .int (nI r))]) hx hb dX1_isIn_1 rfl hl (by decide) rfl (fun ls hl => ?_)
  refine lv_iconst (pc := 2) (v := 0) hx hb dX1_isIn_2 (by decide) ?_
  refine lv_istore_n (pc := 3) (lv' := [(3, .int 0), (2, .int 0), (0, .ref G.1), (1, .int (nI r))]) hx hb dX1_isIn_3 rfl hl (by decide) rfl (fun ls hl => ?_)
  have loop : ∀ (n : Nat) (i : Nat) (y : Int32), i + n = dp → (y = 0 ∨ y = 1) → ∀ (H : Heap) (locs : List Loc), mWd G s.heap st H locs → ∀ ls : Array Slot, lv_has ls 4 [(0, .ref G.1), (1, .int (nI r)), (2, .int y), (3, .int (nI i))] → W p l e (mR 0) s m (Value.ref G.1 :: [.int (nI r)] : List Value).toArray below meth c H locs 0 0 (MQ below (mQ G (some (.int (isx st r n i y))) (st)) (Value.ref G.1 :: [.int (nI r)] : List Value).toArray s 0 0 (mA G)) (F0 m 4 ls []) := by
    intro n
    induction n with
    | zero =>
      intro i y hi hy H locs hw ls hl
      refine lv_iload_n (pc := 4) hx hb dX1_isIn_4 rfl (lv_at hl 3 rfl) ?_
      refine lv_aload_n (pc := 5) hx hb dX1_isIn_5 rfl (lv_at hl 0 rfl) ?_
      refine m_getv (pc := 6) (v := (nI dp)) E hw 19 (by decide) rfl hd q1111 dX1_isIn_6 ?_
      refine li_icmp_geN (pc := 9) (a := i) (b := dp) (tgt := 38) hx hb (by omega) (by omega) dX1_isIn_9 (by decide) (fun c_1 => ?_) (fun c_1 => absurd c_1 (by omega))
      refine lv_iload_n (pc := 38) hx hb dX1_isIn_38 rfl (lv_at hl 2 rfl) ?_
      exact m_zret E hr hlk hw dX1_isIn_39 (b01_nar hy) rfl rfl
    | succ n ih_loop =>
      intro i y hi hy H locs hw ls hl
      refine lv_iload_n (pc := 4) hx hb dX1_isIn_4 rfl (lv_at hl 3 rfl) ?_
      refine lv_aload_n (pc := 5) hx hb dX1_isIn_5 rfl (lv_at hl 0 rfl) ?_
      refine m_getv (pc := 6) (v := (nI dp)) E hw 19 (by decide) rfl hd q1111 dX1_isIn_6 ?_
      refine li_icmp_geN (pc := 9) (a := i) (b := dp) (tgt := 38) hx hb (by omega) (by omega) dX1_isIn_9 (by decide) (fun c_2 => absurd c_2 (by omega)) (fun c_2 => ?_)
      refine lv_iload_n (pc := 12) hx hb dX1_isIn_12 rfl (lv_at hl 2 rfl) ?_
      refine li_ne (pc := 13) (tgt := 26) hx hb dX1_isIn_13 (by decide) (fun c_3 => ?_) (fun c_3 => ?_)
      · refine lv_iconst (pc := 26) (v := 1) hx hb dX1_isIn_26 (by decide) ?_
        refine lv_goto (pc := 27) (tgt := 31) hx hb dX1_isIn_27 (by decide) ?_
        refine lv_istore_n (pc := 31) (lv' := [(2, .int 1), (0, .ref G.1), (1, .int (nI r)), (3, .int (nI i))]) hx hb dX1_isIn_31 rfl hl (by decide) rfl (fun ls hl => ?_)
        refine lv_iinc (pc := 32) (v := (nI (i + 1))) (lv' := [(3, .int (nI (i + 1))), (2, .int 1), (0, .ref G.1), (1, .int (nI r))]) hx hb dX1_isIn_32 hl (k := 3) rfl (nI_1 _) (by decide) rfl (fun ls hl => ?_)
        refine lv_goto (pc := 35) (tgt := 4) hx hb dX1_isIn_35 (by decide) ?_
        exact m_to (by simp only [isx, if_neg c_3]) rfl (ih_loop (i + 1) 1 (by omega) (Or.inr rfl) _ _ hw _ (lv_sub hl [2, 3, 1, 0] rfl))
      · refine lv_aload_n (pc := 16) hx hb dX1_isIn_16 rfl (lv_at hl 0 rfl) ?_
        refine m_geta (pc := 17) E hw 20 (by decide) (by decide) q1112 dX1_isIn_17 ?_
        refine lv_iload_n (pc := 20) hx hb dX1_isIn_20 rfl (lv_at hl 3 rfl) ?_
        refine m_aldN (pc := 21) (v := (st 20 i)) E hw 20 (i) (by decide) rfl (show i < 11 from (by omega)) (by decide) rfl dX1_isIn_21 ?_
        refine lv_iload_n (pc := 22) hx hb dX1_isIn_22 rfl (lv_at hl 1 rfl) ?_
        refine li_icne (pc := 23) (tgt := 30) hx hb dX1_isIn_23 (by decide) (fun c_4 => ?_) (fun c_4 => ?_)
        · refine lv_iconst (pc := 30) (v := 0) hx hb dX1_isIn_30 (by decide) ?_
          refine lv_istore_n (pc := 31) (lv' := [(2, .int 0), (0, .ref G.1), (1, .int (nI r)), (3, .int (nI i))]) hx hb dX1_isIn_31 rfl hl (by decide) rfl (fun ls hl => ?_)
          refine lv_iinc (pc := 32) (v := (nI (i + 1))) (lv' := [(3, .int (nI (i + 1))), (2, .int 0), (0, .ref G.1), (1, .int (nI r))]) hx hb dX1_isIn_32 hl (k := 3) rfl (nI_1 _) (by decide) rfl (fun ls hl => ?_)
          refine lv_goto (pc := 35) (tgt := 4) hx hb dX1_isIn_35 (by decide) ?_
          exact m_to (by simp only [isx, if_pos c_3, if_neg c_4]) rfl (ih_loop (i + 1) 0 (by omega) (Or.inl rfl) _ _ hw _ (lv_sub hl [2, 3, 1, 0] rfl))
        · refine lv_iconst (pc := 26) (v := 1) hx hb dX1_isIn_26 (by decide) ?_
          refine lv_goto (pc := 27) (tgt := 31) hx hb dX1_isIn_27 (by decide) ?_
          refine lv_istore_n (pc := 31) (lv' := [(2, .int 1), (0, .ref G.1), (1, .int (nI r)), (3, .int (nI i))]) hx hb dX1_isIn_31 rfl hl (by decide) rfl (fun ls hl => ?_)
          refine lv_iinc (pc := 32) (v := (nI (i + 1))) (lv' := [(3, .int (nI (i + 1))), (2, .int 1), (0, .ref G.1), (1, .int (nI r))]) hx hb dX1_isIn_32 hl (k := 3) rfl (nI_1 _) (by decide) rfl (fun ls hl => ?_)
          refine lv_goto (pc := 35) (tgt := 4) hx hb dX1_isIn_35 (by decide) ?_
          exact m_to (by simp only [isx, if_pos c_3, if_pos c_4]) rfl (ih_loop (i + 1) 1 (by omega) (Or.inr rfl) _ _ hw _ (lv_sub hl [2, 3, 1, 0] rfl))
  exact m_to rfl rfl (loop dp 0 0 (by omega) (Or.inl rfl) _ _ hw _ (lv_sub hl [2, 3, 1, 0] rfl))
set_option maxHeartbeats 4000000 in
set_option maxRecDepth 100000 in
theorem mt_judge (l : Launch) (G : mG) (st : mS)   (dp : Nat) (hd : st 0 19 = nI dp) (hd10 : dp ≤ 10) (hB1 : 1 ≤ cnt st 12) (hB : 0 ≤ (st 0 12).toInt ∧ (st 0 12).toInt ≤ 8) : Met l yX1_judge (ws_ yX1_judge cX1_judge 2 none) (mR 0) (mP G [] st) (mQ G (none) (jdg st dp)) 0 0 (mA G) := by
  refine m_head (As := []) (bytes := cX1_judge) (maxL := 2) (ret := none) (by decide) rfl (Nat.le_of_ble_eq_true rfl) ?_
  intro p e s m below meth c E hml hr hlk hw ls hl
  have hx := E.1
  have hb := E.2.1
  have hts := E.2.2.1
  have hown := E.2.2.2.1
  have hl : lv_has ls 2 [(0, .ref G.1)] := hl
  have hBn := cnt_n hB.1
  have hBi := cnt_i hB.1
  refine lv_aload_n (pc := 0) hx hb dX1_judge_0 rfl (lv_at hl 0 rfl) ?_
  refine m_geta (pc := 1) E hw 22 (by decide) (by decide) q1114 dX1_judge_1 ?_
  refine lv_aload_n (pc := 4) hx hb dX1_judge_4 rfl (lv_at hl 0 rfl) ?_
  refine m_getv (pc := 5) (v := (nI dp)) E hw 19 (by decide) rfl hd q1111 dX1_judge_5 ?_
  refine m_aldN (pc := 8) (v := (st 22 dp)) E hw 22 (dp) (by decide) rfl (show dp < 11 from (by omega)) (by decide) rfl dX1_judge_8 ?_
  refine lv_aload_n (pc := 9) hx hb dX1_judge_9 rfl (lv_at hl 0 rfl) ?_
  refine m_getv (pc := 10) (v := (st 0 12)) E hw 12 (by decide) rfl rfl q1104 dX1_judge_10 ?_
  refine li_icmp_lt (pc := 13) (tgt := 39) hx hb dX1_judge_13 (by decide) (fun c_1 => ?_) (fun c_1 => ?_)
  · exact m_vret E hr hlk hw dX1_judge_39 (by simp only [jdg, if_pos c_1])
  · refine lv_aload_n (pc := 16) hx hb dX1_judge_16 rfl (lv_at hl 0 rfl) ?_
    refine m_geta (pc := 17) E hw 21 (by decide) (by decide) q1113 dX1_judge_17 ?_
    refine lv_aload_n (pc := 20) hx hb dX1_judge_20 rfl (lv_at hl 0 rfl) ?_
    refine m_getv (pc := 21) (v := (nI dp)) E hw 19 (by decide) rfl hd q1111 dX1_judge_21 ?_
    refine m_aldN (pc := 24) (v := (st 21 dp)) E hw 21 (dp) (by decide) rfl (show dp < 11 from (by omega)) (by decide) rfl dX1_judge_24 ?_
    refine lv_aload_n (pc := 25) hx hb dX1_judge_25 rfl (lv_at hl 0 rfl) ?_
    refine m_geta (pc := 26) E hw 13 (by decide) (by decide) q1105 dX1_judge_26 ?_
    refine lv_aload_n (pc := 29) hx hb dX1_judge_29 rfl (lv_at hl 0 rfl) ?_
    refine m_getv (pc := 30) (v := (nI (cnt st 12))) E hw 12 (by decide) rfl hBn q1104 dX1_judge_30 ?_
    refine lv_iconst (pc := 33) (v := 1) hx hb dX1_judge_33 (by decide) ?_
    refine li_subN (pc := 34) (a := cnt st 12) (b := 1) hx hb (by omega) dX1_judge_34 ?_
    refine m_aldN (pc := 35) (v := (st 13 ((cnt st 12) - 1))) E hw 13 ((cnt st 12) - 1) (by decide) rfl (show (cnt st 12) - 1 < 8 from (by omega)) (by decide) rfl dX1_judge_35 ?_
    refine lv_icmp_eq (pc := 36) (tgt := 40) hx hb dX1_judge_36 (by decide) (fun c_2 => ?_) (fun c_2 => ?_)
    · refine lv_aload_n (pc := 40) hx hb dX1_judge_40 rfl (lv_at hl 0 rfl) ?_
      refine m_getv (pc := 41) (v := (st 0 15)) E hw 15 (by decide) rfl rfl q1107 dX1_judge_41 ?_
      refine li_if_lt (pc := 44) (tgt := 63) hx hb dX1_judge_44 (by decide) (fun c_3 => ?_) (fun c_3 => ?_)
      · refine lv_aload_n (pc := 63) hx hb dX1_judge_63 rfl (lv_at hl 0 rfl) ?_
        refine lv_aload_n (pc := 64) hx hb dX1_judge_64 rfl (lv_at hl 0 rfl) ?_
        refine m_geta (pc := 65) E hw 23 (by decide) (by decide) q1115 dX1_judge_65 ?_
        refine lv_aload_n (pc := 68) hx hb dX1_judge_68 rfl (lv_at hl 0 rfl) ?_
        refine m_getv (pc := 69) (v := (nI dp)) E hw 19 (by decide) rfl hd q1111 dX1_judge_69 ?_
        refine m_aldN (pc := 72) (v := (st 23 dp)) E hw 23 (dp) (by decide) rfl (show dp < 11 from (by omega)) (by decide) rfl dX1_judge_72 ?_
        refine m_put (pc := 73) (v := (st 23 dp)) E hw 15 (by decide) rfl rfl rfl q1107 dX1_judge_73 (fun H locs hw => ?_)
        refine lv_aload_n (pc := 76) hx hb dX1_judge_76 rfl (lv_at hl 0 rfl) ?_
        refine lv_aload_n (pc := 77) hx hb dX1_judge_77 rfl (lv_at hl 0 rfl) ?_
        refine m_getv (pc := 78) (v := (nI dp)) E hw 19 (by decide) rfl hd q1111 dX1_judge_78 ?_
        refine m_put (pc := 81) (v := (nI dp)) E hw 16 (by decide) rfl rfl rfl q1108 dX1_judge_81 (fun H locs hw => ?_)
        refine lv_aload_n (pc := 84) hx hb dX1_judge_84 rfl (lv_at hl 0 rfl) ?_
        refine lv_iconst (pc := 85) (v := 0) hx hb dX1_judge_85 (by decide) ?_
        refine m_put (pc := 86) (v := 0) E hw 18 (by decide) rfl rfl rfl q1110 dX1_judge_86 (fun H locs hw => ?_)
        refine lv_iconst (pc := 89) (v := 0) hx hb dX1_judge_89 (by decide) ?_
        refine lv_istore_n (pc := 90) (lv' := [(1, .int 0), (0, .ref G.1)]) hx hb dX1_judge_90 rfl hl (by decide) rfl (fun ls hl => ?_)
        have loop : ∀ (n : Nat) (i : Nat) (su : mS), i + n = dp → su 0 19 = nI dp → ∀ (H : Heap) (locs : List Loc), mWd G s.heap su H locs → ∀ ls : Array Slot, lv_has ls 2 [(0, .ref G.1), (1, .int (nI i))] → W p l e (mR 0) s m (Value.ref G.1 :: [] : List Value).toArray below meth c H locs 0 0 (MQ below (mQ G (none) (cpb n i su)) (Value.ref G.1 :: [] : List Value).toArray s 0 0 (mA G)) (F0 m 91 ls []) := by
          intro n
          induction n with
          | zero =>
            intro i su hi hsu H locs hw ls hl
            refine lv_iload_n (pc := 91) hx hb dX1_judge_91 rfl (lv_at hl 1 rfl) ?_
            refine lv_aload_n (pc := 92) hx hb dX1_judge_92 rfl (lv_at hl 0 rfl) ?_
            refine m_getv (pc := 93) (v := (nI dp)) E hw 19 (by decide) rfl hsu q1111 dX1_judge_93 ?_
            refine li_icmp_geN (pc := 96) (a := i) (b := dp) (tgt := 117) hx hb (by omega) (by omega) dX1_judge_96 (by decide) (fun c_4 => ?_) (fun c_4 => absurd c_4 (by omega))
            refine lv_goto (pc := 117) (tgt := 146) hx hb dX1_judge_117 (by decide) ?_
            exact m_vret E hr hlk hw dX1_judge_146 rfl
          | succ n ih_loop =>
            intro i su hi hsu H locs hw ls hl
            refine lv_iload_n (pc := 91) hx hb dX1_judge_91 rfl (lv_at hl 1 rfl) ?_
            refine lv_aload_n (pc := 92) hx hb dX1_judge_92 rfl (lv_at hl 0 rfl) ?_
            refine m_getv (pc := 93) (v := (nI dp)) E hw 19 (by decide) rfl hsu q1111 dX1_judge_93 ?_
            refine li_icmp_geN (pc := 96) (a := i) (b := dp) (tgt := 117) hx hb (by omega) (by omega) dX1_judge_96 (by decide) (fun c_5 => absurd c_5 (by omega)) (fun c_5 => ?_)
            refine lv_aload_n (pc := 99) hx hb dX1_judge_99 rfl (lv_at hl 0 rfl) ?_
            refine m_geta (pc := 100) E hw 17 (by decide) (by decide) q1109 dX1_judge_100 ?_
            refine lv_iload_n (pc := 103) hx hb dX1_judge_103 rfl (lv_at hl 1 rfl) ?_
            refine lv_aload_n (pc := 104) hx hb dX1_judge_104 rfl (lv_at hl 0 rfl) ?_
            refine m_geta (pc := 105) E hw 20 (by decide) (by decide) q1112 dX1_judge_105 ?_
            refine lv_iload_n (pc := 108) hx hb dX1_judge_108 rfl (lv_at hl 1 rfl) ?_
            refine m_aldN (pc := 109) (v := (su 20 i)) E hw 20 (i) (by decide) rfl (show i < 11 from (by omega)) (by decide) rfl dX1_judge_109 ?_
            refine m_astN (pc := 110) (v := (su 20 i)) E hw 17 (i) (by decide) rfl (show i < 10 from (by omega)) (by decide) dX1_judge_110 (fun H locs hw => ?_)
            refine lv_iinc (pc := 111) (v := (nI (i + 1))) (lv' := [(1, .int (nI (i + 1))), (0, .ref G.1)]) hx hb dX1_judge_111 hl (k := 1) rfl (nI_1 _) (by decide) rfl (fun ls hl => ?_)
            refine lv_goto (pc := 114) (tgt := 91) hx hb dX1_judge_114 (by decide) ?_
            exact m_to rfl rfl (ih_loop (i + 1) (mu su 17 i (su 20 i)) (by omega) hsu _ _ hw _ (lv_sub hl [1, 0] rfl))
        exact m_to rfl (by simp only [jdg, jnw, if_neg c_1, if_pos c_2, if_pos c_3]) (loop dp 0 (mu (mu (mu st 0 15 (st 23 dp)) 0 16 (nI dp)) 0 18 0) (by omega) hd _ _ hw _ (lv_sub hl [1, 0] rfl))
      · refine lv_aload_n (pc := 47) hx hb dX1_judge_47 rfl (lv_at hl 0 rfl) ?_
        refine m_geta (pc := 48) E hw 23 (by decide) (by decide) q1115 dX1_judge_48 ?_
        refine lv_aload_n (pc := 51) hx hb dX1_judge_51 rfl (lv_at hl 0 rfl) ?_
        refine m_getv (pc := 52) (v := (nI dp)) E hw 19 (by decide) rfl hd q1111 dX1_judge_52 ?_
        refine m_aldN (pc := 55) (v := (st 23 dp)) E hw 23 (dp) (by decide) rfl (show dp < 11 from (by omega)) (by decide) rfl dX1_judge_55 ?_
        refine lv_aload_n (pc := 56) hx hb dX1_judge_56 rfl (lv_at hl 0 rfl) ?_
        refine m_getv (pc := 57) (v := (st 0 15)) E hw 15 (by decide) rfl rfl q1107 dX1_judge_57 ?_
        refine li_icmp_ge (pc := 60) (tgt := 120) hx hb dX1_judge_60 (by decide) (fun c_6 => ?_) (fun c_6 => ?_)
        · refine lv_aload_n (pc := 120) hx hb dX1_judge_120 rfl (lv_at hl 0 rfl) ?_
          refine m_geta (pc := 121) E hw 23 (by decide) (by decide) q1115 dX1_judge_121 ?_
          refine lv_aload_n (pc := 124) hx hb dX1_judge_124 rfl (lv_at hl 0 rfl) ?_
          refine m_getv (pc := 125) (v := (nI dp)) E hw 19 (by decide) rfl hd q1111 dX1_judge_125 ?_
          refine m_aldN (pc := 128) (v := (st 23 dp)) E hw 23 (dp) (by decide) rfl (show dp < 11 from (by omega)) (by decide) rfl dX1_judge_128 ?_
          refine lv_aload_n (pc := 129) hx hb dX1_judge_129 rfl (lv_at hl 0 rfl) ?_
          refine m_getv (pc := 130) (v := (st 0 15)) E hw 15 (by decide) rfl rfl q1107 dX1_judge_130 ?_
          refine li_icne (pc := 133) (tgt := 146) hx hb dX1_judge_133 (by decide) (fun c_7 => ?_) (fun c_7 => ?_)
          · exact m_vret E hr hlk hw dX1_judge_146 (by simp only [jdg, if_neg c_1, if_pos c_2, if_neg c_3, if_neg c_6, if_neg c_7])
          · refine lv_aload_n (pc := 136) hx hb dX1_judge_136 rfl (lv_at hl 0 rfl) ?_
            refine lv_dup (pc := 137) hx hb dX1_judge_137 rfl ?_
            refine m_getv (pc := 138) (v := (st 0 18)) E hw 18 (by decide) rfl rfl q1110 dX1_judge_138 ?_
            refine lv_iconst (pc := 141) (v := 1) hx hb dX1_judge_141 (by decide) ?_
            refine lv_iadd (pc := 142) hx hb dX1_judge_142 ?_
            refine m_put (pc := 143) (v := ((st 0 18) + 1)) E hw 18 (by decide) rfl rfl rfl q1110 dX1_judge_143 (fun H locs hw => ?_)
            exact m_vret E hr hlk hw dX1_judge_146 (by simp only [jdg, if_neg c_1, if_pos c_2, if_neg c_3, if_neg c_6, if_pos c_7])
        · refine lv_aload_n (pc := 63) hx hb dX1_judge_63 rfl (lv_at hl 0 rfl) ?_
          refine lv_aload_n (pc := 64) hx hb dX1_judge_64 rfl (lv_at hl 0 rfl) ?_
          refine m_geta (pc := 65) E hw 23 (by decide) (by decide) q1115 dX1_judge_65 ?_
          refine lv_aload_n (pc := 68) hx hb dX1_judge_68 rfl (lv_at hl 0 rfl) ?_
          refine m_getv (pc := 69) (v := (nI dp)) E hw 19 (by decide) rfl hd q1111 dX1_judge_69 ?_
          refine m_aldN (pc := 72) (v := (st 23 dp)) E hw 23 (dp) (by decide) rfl (show dp < 11 from (by omega)) (by decide) rfl dX1_judge_72 ?_
          refine m_put (pc := 73) (v := (st 23 dp)) E hw 15 (by decide) rfl rfl rfl q1107 dX1_judge_73 (fun H locs hw => ?_)
          refine lv_aload_n (pc := 76) hx hb dX1_judge_76 rfl (lv_at hl 0 rfl) ?_
          refine lv_aload_n (pc := 77) hx hb dX1_judge_77 rfl (lv_at hl 0 rfl) ?_
          refine m_getv (pc := 78) (v := (nI dp)) E hw 19 (by decide) rfl hd q1111 dX1_judge_78 ?_
          refine m_put (pc := 81) (v := (nI dp)) E hw 16 (by decide) rfl rfl rfl q1108 dX1_judge_81 (fun H locs hw => ?_)
          refine lv_aload_n (pc := 84) hx hb dX1_judge_84 rfl (lv_at hl 0 rfl) ?_
          refine lv_iconst (pc := 85) (v := 0) hx hb dX1_judge_85 (by decide) ?_
          refine m_put (pc := 86) (v := 0) E hw 18 (by decide) rfl rfl rfl q1110 dX1_judge_86 (fun H locs hw => ?_)
          refine lv_iconst (pc := 89) (v := 0) hx hb dX1_judge_89 (by decide) ?_
          refine lv_istore_n (pc := 90) (lv' := [(1, .int 0), (0, .ref G.1)]) hx hb dX1_judge_90 rfl hl (by decide) rfl (fun ls hl => ?_)
          have loop : ∀ (n : Nat) (i : Nat) (su : mS), i + n = dp → su 0 19 = nI dp → ∀ (H : Heap) (locs : List Loc), mWd G s.heap su H locs → ∀ ls : Array Slot, lv_has ls 2 [(0, .ref G.1), (1, .int (nI i))] → W p l e (mR 0) s m (Value.ref G.1 :: [] : List Value).toArray below meth c H locs 0 0 (MQ below (mQ G (none) (cpb n i su)) (Value.ref G.1 :: [] : List Value).toArray s 0 0 (mA G)) (F0 m 91 ls []) := by
            intro n
            induction n with
            | zero =>
              intro i su hi hsu H locs hw ls hl
              refine lv_iload_n (pc := 91) hx hb dX1_judge_91 rfl (lv_at hl 1 rfl) ?_
              refine lv_aload_n (pc := 92) hx hb dX1_judge_92 rfl (lv_at hl 0 rfl) ?_
              refine m_getv (pc := 93) (v := (nI dp)) E hw 19 (by decide) rfl hsu q1111 dX1_judge_93 ?_
              refine li_icmp_geN (pc := 96) (a := i) (b := dp) (tgt := 117) hx hb (by omega) (by omega) dX1_judge_96 (by decide) (fun c_8 => ?_) (fun c_8 => absurd c_8 (by omega))
              refine lv_goto (pc := 117) (tgt := 146) hx hb dX1_judge_117 (by decide) ?_
              exact m_vret E hr hlk hw dX1_judge_146 rfl
            | succ n ih_loop =>
              intro i su hi hsu H locs hw ls hl
              refine lv_iload_n (pc := 91) hx hb dX1_judge_91 rfl (lv_at hl 1 rfl) ?_
              refine lv_aload_n (pc := 92) hx hb dX1_judge_92 rfl (lv_at hl 0 rfl) ?_
              refine m_getv (pc := 93) (v := (nI dp)) E hw 19 (by decide) rfl hsu q1111 dX1_judge_93 ?_
              refine li_icmp_geN (pc := 96) (a := i) (b := dp) (tgt := 117) hx hb (by omega) (by omega) dX1_judge_96 (by decide) (fun c_9 => absurd c_9 (by omega)) (fun c_9 => ?_)
              refine lv_aload_n (pc := 99) hx hb dX1_judge_99 rfl (lv_at hl 0 rfl) ?_
              refine m_geta (pc := 100) E hw 17 (by decide) (by decide) q1109 dX1_judge_100 ?_
              refine lv_iload_n (pc := 103) hx hb dX1_judge_103 rfl (lv_at hl 1 rfl) ?_
              refine lv_aload_n (pc := 104) hx hb dX1_judge_104 rfl (lv_at hl 0 rfl) ?_
              refine m_geta (pc := 105) E hw 20 (by decide) (by decide) q1112 dX1_judge_105 ?_
              refine lv_iload_n (pc := 108) hx hb dX1_judge_108 rfl (lv_at hl 1 rfl) ?_
              refine m_aldN (pc := 109) (v := (su 20 i)) E hw 20 (i) (by decide) rfl (show i < 11 from (by omega)) (by decide) rfl dX1_judge_109 ?_
              refine m_astN (pc := 110) (v := (su 20 i)) E hw 17 (i) (by decide) rfl (show i < 10 from (by omega)) (by decide) dX1_judge_110 (fun H locs hw => ?_)
              refine lv_iinc (pc := 111) (v := (nI (i + 1))) (lv' := [(1, .int (nI (i + 1))), (0, .ref G.1)]) hx hb dX1_judge_111 hl (k := 1) rfl (nI_1 _) (by decide) rfl (fun ls hl => ?_)
              refine lv_goto (pc := 114) (tgt := 91) hx hb dX1_judge_114 (by decide) ?_
              exact m_to rfl rfl (ih_loop (i + 1) (mu su 17 i (su 20 i)) (by omega) hsu _ _ hw _ (lv_sub hl [1, 0] rfl))
          exact m_to rfl (by simp only [jdg, jnw, if_neg c_1, if_pos c_2, if_neg c_3, if_pos c_6]) (loop dp 0 (mu (mu (mu st 0 15 (st 23 dp)) 0 16 (nI dp)) 0 18 0) (by omega) hd _ _ hw _ (lv_sub hl [1, 0] rfl))
    · exact m_vret E hr hlk hw dX1_judge_39 (by simp only [jdg, if_neg c_1, if_neg c_2])
