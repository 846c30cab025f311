/-! bits (the first rows: a starting text of the kit, BITS), rows that are worth something -/
def bt (x : Int32) (i : Nat) : Bool := x.toBitVec.getLsbD i
theorem b_or (x y : Int32) (i : Nat) : bt (x ||| y) i = (bt x i || bt y i) := by unfold bt; rw [Int32.toBitVec_or, BitVec.getLsbD_or]
theorem b_and (x y : Int32) (i : Nat) : bt (x &&& y) i = (bt x i && bt y i) := by unfold bt; rw [Int32.toBitVec_and, BitVec.getLsbD_and]
theorem b_big {x : Int32} {i : Nat} (h : 32 ≤ i) : bt x i = false := BitVec.getLsbD_of_ge _ _ h
theorem b_0 (i : Nat) : bt 0 i = false := BitVec.getLsbD_zero
theorem s_l : ∀ n, n < 32 → ((nI n &&& 31).toBitVec.smod 32).toNat = n := by decide +kernel
theorem b_shl (n : Nat) (hn : n < 32) (x : Int32) {i : Nat} (hi : i < 32) : bt (x <<< (nI n &&& 31)) i = (decide (n ≤ i) && bt x (i - n)) := by
  unfold bt
  rw [Int32.toBitVec_shiftLeft]
  show (x.toBitVec <<< ((nI n &&& 31).toBitVec.smod 32).toNat).getLsbD i = _
  rw [s_l n hn, BitVec.getLsbD_shiftLeft]
  rcases Nat.lt_or_ge i n with h | h
  · simp [h, Nat.not_le.mpr h]
  · simp [hi, h, Nat.not_lt.mpr h]
theorem b_sshr (n : Nat) (hn : n < 32) (x : Int32) {i : Nat} (hi : i < 32) : bt (x >>> (nI n &&& 31)) i = if n + i < 32 then bt x (n + i) else bt x 31 := by
  unfold bt
  rw [Int32.toBitVec_shiftRight]
  show (x.toBitVec.sshiftRight ((nI n &&& 31).toBitVec.smod 32).toNat).getLsbD i = _
  rw [s_l n hn, BitVec.getLsbD_sshiftRight, BitVec.msb_eq_getLsbD_last]
  simp [hi]

theorem b_1 (i : Nat) : bt 1 i = decide (i = 0) := by
  rcases Nat.lt_or_ge i 32 with h | h
  · exact (by decide +kernel : ∀ i, i < 32 → bt 1 i = decide (i = 0)) i h
  · rw [b_big h, decide_eq_false (by omega)]
theorem b_ext2 {x y : Int32} (h : ∀ i, i < 32 → bt x i = bt y i) : x = y := Int32.toBitVec_inj.mp (BitVec.eq_of_getLsbD_eq (fun i hi => h i hi))
/-- the bit r is set -/
theorem bit_t {u : Int32} {r : Nat} (hr : r < 31) : ((u >>> (nI r &&& 31)) &&& 1) = 1 ↔ bt u r = true := by
  have e : ∀ i, i < 32 → bt ((u >>> (nI r &&& 31)) &&& 1) i = (decide (i = 0) && bt u r) := fun i hi => by
    rw [b_and, b_1, b_sshr r (by omega) u hi]
    by_cases h0 : i = 0
    · subst h0; simp [show r < 32 by omega]
    · simp [h0]
  constructor
  · intro q
    have := e 0 (by decide)
    rw [q, b_1] at this
    simpa using this.symm
  · intro q
    refine b_ext2 fun i hi => ?_
    rw [e i hi, q, b_1]
    simp
theorem bit_s {u : Int32} {r i : Nat} (hr : r < 32) (hi : i < 32) : bt (u ||| ((1 : Int32) <<< (nI r &&& 31))) i = (bt u i || decide (i = r)) := by
  rw [b_or, b_shl r hr 1 hi, b_1]
  congr 1
  by_cases h : i = r
  · subst h; simp
  · by_cases h2 : r ≤ i
    · simp [h, h2]; omega
    · simp [h, h2]
/-- what a row of roads is worth, as the component goes through it: u, the bits of the roads gone by -/
def xwo (st : mS) (f : Nat → Int32) (N : Nat) : Nat → Nat → Int32 → Nat → Int32 → Int64 → Int64
  | 0, _, s, m, _, a => if m = cnt st 12 then if s = st 13 (cnt st 12 - 1) then if inB (nI N) 1 10 then a else -100 else -100 else -100
  | n + 1, x, s, m, u, a => if inN (f x) (st 0 1) then if ((u >>> (nI (f x).toNatClampNeg &&& 31)) &&& 1) = 1 then -1 - (nI x).toInt64 else if xfr (st 5 (f x).toNatClampNeg) (st 2 (f x).toNatClampNeg) (st 3 (f x).toNatClampNeg) (st 6 (f x).toNatClampNeg) (st 7 (f x).toNatClampNeg) s = -9 then -1 - (nI x).toInt64 else
      xwo st f N n (x + 1) (xfr (st 5 (f x).toNatClampNeg) (st 2 (f x).toNatClampNeg) (st 3 (f x).toNatClampNeg) (st 6 (f x).toNatClampNeg) (st 7 (f x).toNatClampNeg) s) (xma st (xfr (st 5 (f x).toNatClampNeg) (st 2 (f x).toNatClampNeg) (st 3 (f x).toNatClampNeg) (st 6 (f x).toNatClampNeg) (st 7 (f x).toNatClampNeg) s) m) (u ||| ((1 : Int32) <<< (nI (f x).toNatClampNeg &&& 31))) (a + (st 4 (f x).toNatClampNeg).toInt64) else -1 - (nI x).toInt64
theorem xma_le {st : mS} (hI : mI st) {x : Int32} {m : Nat} (h : m ≤ cnt st 12) : xma st x m ≤ cnt st 12 := by
  unfold xma
  split
  · split <;> omega
  · omega
set_option maxHeartbeats 4000000 in
set_option maxRecDepth 100000 in
theorem xtX0_worth (l : Launch) (D : xD) (A : Nat → Prop) (V : xV) (st : mS) (g : xG) (q N : Nat) (f : Nat → Int32)  (hI : mI st) (hR : xR D st g V) (hq : V q = some (.inl (D.2.1, N, .inl f))) (hN : N ≤ 33) (hB1 : 1 ≤ cnt st 12) : Met l yX0_worth (ws_ yX0_worth cX0_worth 8 (some .long)) (xRm 6 0 0) (xP D A V [.ref (g 0 0), .ref q]) (k2_QcV (.long (xwo st f N N 0 (st 13 0) 1 0 0))) 0 0 (fun _ => False) := by
  refine x_headR (own := RX0) (As := [.ref (g 0 0), .ref q]) (bytes := cX0_worth) (maxL := 8) (ret := (some .long)) (by decide) rfl (Nat.le_of_ble_eq_true rfl) ?_
  intro p e s m below meth c E hml hr hlk hw0 ls hl
  have hw : xWd D A s V s.heap [] := ⟨hw0, va_S.rf⟩
  have hx := E.1
  have hb := E.2.1
  have hts := E.2.2.1
  have hown := E.2.2.2.1
  have hl : lv_has ls 8 [(0, .ref (g 0 0)), (1, .ref q)] := hl
  have h16 := hI.r16
  have h10 := hI.l10
  have hv8 := hI.v8
  have hc8 := hI.c8
  have hk8 := hI.k8
  have hb8 := hI.b8
  refine lv_aload_n (pc := 0) hx hb dX0_worth_0 rfl (lv_at hl 0 rfl) ?_
  obtain ⟨b7, b8, b9, hpx⟩ := hR.px hI
  replace hpx : V (g 0 0) = some (.inr (0, [.int (st 0 0), .int (st 0 42), .ref (g 0 2), .ref (g 0 3), .int (nI (cnt st 12)), .ref (g 0 5), .ref (g 0 6), .int b7, .long b8, .int b9, .int (st 0 14), .ref (g 0 11), .int (nI (cnt st 24)), .int (st 0 25), .ref (g 0 14), .ref (g 0 15), .int (nI (cnt st 27)), .ref (g 0 17), .ref (g 0 18), .ref (g 0 19)])) := hpx
  refine x_rd (pc := 1) (v := .ref (g 0 3)) E hw.1 3 hpx (C := RX0) (T := TX0) (N := 20) rfl in_X0 (Nat.le_of_ble_eq_true rfl) q116 (fun _ h => h) rfl dX0_worth_1 ?_
  refine lv_iconst (pc := 4) (v := 0) hx hb dX0_worth_4 (by decide) ?_
  obtain ⟨f_13, hpa_13, hf_13⟩ := hR.p3
  refine x_ildN (pc := 5) (v := (st 13 0)) E hw.1 (0) hpa_13 (show 0 < 8 from (by omega)) (Nat.le_of_ble_eq_true rfl) (hf_13 _ (by omega)) dX0_worth_5 ?_
  refine lv_istore_n (pc := 6) (lv' := [(2, .int (st 13 0)), (0, .ref (g 0 0)), (1, .ref q)]) hx hb dX0_worth_6 rfl hl (by decide) rfl (fun ls hl => ?_)
  refine lv_iconst (pc := 7) (v := 1) hx hb dX0_worth_7 (by decide) ?_
  refine lv_istore_n (pc := 8) (lv' := [(3, .int 1), (2, .int (st 13 0)), (0, .ref (g 0 0)), (1, .ref q)]) hx hb dX0_worth_8 rfl hl (by decide) rfl (fun ls hl => ?_)
  refine lv_iconst (pc := 9) (v := 0) hx hb dX0_worth_9 (by decide) ?_
  refine lv_istore (pc := 10) (lv' := [(4, .int 0), (3, .int 1), (2, .int (st 13 0)), (0, .ref (g 0 0)), (1, .ref q)]) hx hb dX0_worth_10 hl (by decide) rfl (fun ls hl => ?_)
  refine lv_lconst (pc := 12) (v := 0) hx hb dX0_worth_12 (by decide) ?_
  refine lv_lstore (pc := 13) (lv' := [(5, .long 0), (4, .int 0), (3, .int 1), (2, .int (st 13 0)), (0, .ref (g 0 0)), (1, .ref q)]) hx hb dX0_worth_13 hl (by decide) rfl (fun ls hl => ?_)
  refine lv_iconst (pc := 15) (v := 0) hx hb dX0_worth_15 (by decide) ?_
  refine lv_istore (pc := 16) (lv' := [(7, .int 0), (5, .long 0), (4, .int 0), (3, .int 1), (2, .int (st 13 0)), (0, .ref (g 0 0)), (1, .ref q)]) hx hb dX0_worth_16 hl (by decide) rfl (fun ls hl => ?_)
  have loop : ∀ (k : Nat) (i : Nat) (s_ : Int32) (m_ : Nat) (u : Int32) (a : Int64), i + k = N → m_ ≤ cnt st 12 → ∀ ls : Array Slot, lv_has ls 8 [(0, .ref (g 0 0)), (1, .ref q), (2, .int s_), (3, .int (nI m_)), (4, .int u), (5, .long a), (7, .int (nI i))] → W p l e (xRm 6 0 0) s m ([.ref (g 0 0), .ref q] : List Value).toArray below meth c s.heap [] 0 0 (MQ below (k2_QcV (.long (xwo st f N k i s_ m_ u a))) ([.ref (g 0 0), .ref q] : List Value).toArray s 0 0 (fun _ => False)) (F0 m 18 ls []) := by
    intro k
    induction k with
    | zero =>
      intro i s_ m_ u a hi hm ls hl
      refine lv_iload (pc := 18) hx hb dX0_worth_18 (lv_at hl 6 rfl) ?_
      refine lv_aload_n (pc := 20) hx hb dX0_worth_20 rfl (lv_at hl 1 rfl) ?_
      refine x_len (pc := 21) (v := (nI N)) E hw.1 (cA := D.2.1) (t0 := 0) hq rfl rfl dX0_worth_21 ?_
      refine li_icmp_geN (pc := 22) (a := i) (b := N) (tgt := 152) hx hb (by omega) (by omega) dX0_worth_22 (by decide) (fun c_1 => ?_) (fun c_1 => absurd c_1 (by omega))
      refine lv_iload_n (pc := 152) hx hb dX0_worth_152 rfl (lv_at hl 3 rfl) ?_
      refine lv_aload_n (pc := 153) hx hb dX0_worth_153 rfl (lv_at hl 0 rfl) ?_
      refine x_rd (pc := 154) (v := .int (nI (cnt st 12))) E hw.1 4 hpx (C := RX0) (T := TX0) (N := 20) rfl in_X0 (Nat.le_of_ble_eq_true rfl) q117 (fun _ h => h) rfl dX0_worth_154 ?_
      refine li_icmp_neN (pc := 157) (a := m_) (b := cnt st 12) (tgt := 193) hx hb (by omega) (by omega) dX0_worth_157 (by decide) (fun c_2 => ?_) (fun c_2 => ?_)
      · refine lv_ldc2 (pc := 193) hx hb hown (hts _ q975) dX0_worth_193 ?_
        exact m_lretS hx hb hr hlk dX0_worth_196 (by simp only [xwo, if_neg c_2])
      · refine lv_iload_n (pc := 160) hx hb dX0_worth_160 rfl (lv_at hl 2 rfl) ?_
        refine lv_aload_n (pc := 161) hx hb dX0_worth_161 rfl (lv_at hl 0 rfl) ?_
        refine x_rd (pc := 162) (v := .ref (g 0 3)) E hw.1 3 hpx (C := RX0) (T := TX0) (N := 20) rfl in_X0 (Nat.le_of_ble_eq_true rfl) q116 (fun _ h => h) rfl dX0_worth_162 ?_
        refine lv_aload_n (pc := 165) hx hb dX0_worth_165 rfl (lv_at hl 0 rfl) ?_
        refine x_rd (pc := 166) (v := .int (nI (cnt st 12))) E hw.1 4 hpx (C := RX0) (T := TX0) (N := 20) rfl in_X0 (Nat.le_of_ble_eq_true rfl) q117 (fun _ h => h) rfl dX0_worth_166 ?_
        refine lv_iconst (pc := 169) (v := 1) hx hb dX0_worth_169 (by decide) ?_
        refine li_subN (pc := 170) (a := cnt st 12) (b := 1) hx hb (by omega) dX0_worth_170 ?_
        refine x_ildN (pc := 171) (v := (st 13 ((cnt st 12) - 1))) E hw.1 ((cnt st 12) - 1) hpa_13 (show (cnt st 12) - 1 < 8 from (by omega)) (Nat.le_of_ble_eq_true rfl) (hf_13 _ (by omega)) dX0_worth_171 ?_
        refine li_icne (pc := 172) (tgt := 193) hx hb dX0_worth_172 (by decide) (fun c_3 => ?_) (fun c_3 => ?_)
        · refine lv_ldc2 (pc := 193) hx hb hown (hts _ q975) dX0_worth_193 ?_
          exact m_lretS hx hb hr hlk dX0_worth_196 (by simp only [xwo, if_pos c_2, if_neg c_3])
        · refine lv_aload_n (pc := 175) hx hb dX0_worth_175 rfl (lv_at hl 1 rfl) ?_
          refine x_len (pc := 176) (v := (nI N)) E hw.1 (cA := D.2.1) (t0 := 0) hq rfl rfl dX0_worth_176 ?_
          refine lv_i2l (pc := 177) (v := (nI N).toInt64) hx hb dX0_worth_177 rfl ?_
          refine lv_lconst (pc := 178) (v := 1) hx hb dX0_worth_178 (by decide) ?_
          refine lv_ldc2 (pc := 179) hx hb hown (hts _ q974) dX0_worth_179 ?_
          refine x_goR (x_runS (pc := 182) (As := [.long (nI N).toInt64, .long 1, .long 10]) (rest := []) E hml hl.1 (x_preE) (xtX0_isInB l (nI N) 1 10 1 10 rfl rfl) q184 q185 q48 q186 hdX0_isIn.2 ⟨Nat.le_of_ble_eq_true rfl, Nat.le_of_ble_eq_true rfl⟩ rfl rfl rfl (Nat.le_of_ble_eq_true rfl) dX0_worth_182 ⟨Nat.le_of_ble_eq_true rfl, Nat.le_of_ble_eq_true rfl⟩) ?_
          refine lb_eq (pc := 185) (tgt := 193) hx hb dX0_worth_185 (by decide) (fun c_4 => ?_) (fun c_4 => ?_)
          · refine lv_ldc2 (pc := 193) hx hb hown (hts _ q975) dX0_worth_193 ?_
            exact m_lretS hx hb hr hlk dX0_worth_196 (by simp only [xwo, if_pos c_2, if_pos c_3, if_neg c_4])
          · refine lv_lload (pc := 188) hx hb dX0_worth_188 (lv_at hl 5 rfl) ?_
            refine lv_goto (pc := 190) (tgt := 196) hx hb dX0_worth_190 (by decide) ?_
            exact m_lretS hx hb hr hlk dX0_worth_196 (by simp only [xwo, if_pos c_2, if_pos c_3, if_pos c_4])
    | succ k ih_loop =>
      intro i s_ m_ u a hi hm ls hl
      refine lv_iload (pc := 18) hx hb dX0_worth_18 (lv_at hl 6 rfl) ?_
      refine lv_aload_n (pc := 20) hx hb dX0_worth_20 rfl (lv_at hl 1 rfl) ?_
      refine x_len (pc := 21) (v := (nI N)) E hw.1 (cA := D.2.1) (t0 := 0) hq rfl rfl dX0_worth_21 ?_
      refine li_icmp_geN (pc := 22) (a := i) (b := N) (tgt := 152) hx hb (by omega) (by omega) dX0_worth_22 (by decide) (fun c_5 => absurd c_5 (by omega)) (fun c_5 => ?_)
      refine lv_aload_n (pc := 25) hx hb dX0_worth_25 rfl (lv_at hl 0 rfl) ?_
      refine lv_aload_n (pc := 26) hx hb dX0_worth_26 rfl (lv_at hl 1 rfl) ?_
      refine lv_iload (pc := 27) hx hb dX0_worth_27 (lv_at hl 6 rfl) ?_
      refine x_ildN (pc := 29) (v := (f i)) E hw.1 (i) hq (show i < N from (by omega)) ((by omega)) rfl dX0_worth_29 ?_
      refine x_goR (x_runV (pc := 30) (As := [.int (f i)]) (rest := []) E hml hl.1 hw.2 hw.1 hpx (C := RX0) (T := TX0) (N := 20) rfl (xtX0_isRoad l D A V st g (f i) hI hR) q332 q334 qs3 q48 q335 hdX0_isRoad ⟨Nat.le_of_ble_eq_true rfl, Nat.le_of_ble_eq_true rfl⟩ rfl rfl rfl (Nat.le_of_ble_eq_true rfl) dX0_worth_30 ⟨Nat.le_of_ble_eq_true rfl, Nat.le_of_ble_eq_true rfl⟩) ?_
      refine lb_eq (pc := 33) (tgt := 74) hx hb dX0_worth_33 (by decide) (fun c_6 => ?_) (fun c_6 => ?_)
      · refine lv_ldc2 (pc := 74) hx hb hown (hts _ q973) dX0_worth_74 ?_
        refine lv_iload (pc := 77) hx hb dX0_worth_77 (lv_at hl 6 rfl) ?_
        refine lv_i2l (pc := 79) (v := (nI i).toInt64) hx hb dX0_worth_79 rfl ?_
        refine lv_lsub (pc := 80) hx hb dX0_worth_80 ?_
        exact m_lretS hx hb hr hlk dX0_worth_81 (by simp only [xwo, if_neg c_6])
      · have hfn := clamp_n (x := f i) c_6.1
        have hfi := clamp_i (x := f i) c_6.1
        have hfl : (f i).toNatClampNeg < cnt st 1 := by have := cnt_i hI.R.1; omega
        refine lv_iload (pc := 36) hx hb dX0_worth_36 (lv_at hl 4 rfl) ?_
        refine lv_aload_n (pc := 38) hx hb dX0_worth_38 rfl (lv_at hl 1 rfl) ?_
        refine lv_iload (pc := 39) hx hb dX0_worth_39 (lv_at hl 6 rfl) ?_
        refine x_ildN (pc := 41) (v := (f i)) E hw.1 (i) hq (show i < N from (by omega)) ((by omega)) rfl dX0_worth_41 ?_
        refine li_top (v' := .int (nI (f i).toNatClampNeg)) (congrArg Value.int hfn) ?_
        refine lv_ishr (pc := 42) hx hb dX0_worth_42 ?_
        refine lv_iconst (pc := 43) (v := 1) hx hb dX0_worth_43 (by decide) ?_
        refine lv_iand (pc := 44) hx hb dX0_worth_44 ?_
        refine lv_iconst (pc := 45) (v := 1) hx hb dX0_worth_45 (by decide) ?_
        refine lv_icmp_eq (pc := 46) (tgt := 74) hx hb dX0_worth_46 (by decide) (fun c_7 => ?_) (fun c_7 => ?_)
        · refine lv_ldc2 (pc := 74) hx hb hown (hts _ q973) dX0_worth_74 ?_
          refine lv_iload (pc := 77) hx hb dX0_worth_77 (lv_at hl 6 rfl) ?_
          refine lv_i2l (pc := 79) (v := (nI i).toInt64) hx hb dX0_worth_79 rfl ?_
          refine lv_lsub (pc := 80) hx hb dX0_worth_80 ?_
          exact m_lretS hx hb hr hlk dX0_worth_81 (by simp only [xwo, if_pos c_6, if_pos c_7])
        · refine lv_aload_n (pc := 49) hx hb dX0_worth_49 rfl (lv_at hl 0 rfl) ?_
          refine x_rd (pc := 50) (v := .ref (g 0 2)) E hw.1 2 hpx (C := RX0) (T := TX0) (N := 20) rfl in_X0 (Nat.le_of_ble_eq_true rfl) q115 (fun _ h => h) rfl dX0_worth_50 ?_
          refine lv_aload_n (pc := 53) hx hb dX0_worth_53 rfl (lv_at hl 1 rfl) ?_
          refine lv_iload (pc := 54) hx hb dX0_worth_54 (lv_at hl 6 rfl) ?_
          refine x_ildN (pc := 56) (v := (f i)) E hw.1 (i) hq (show i < N from (by omega)) ((by omega)) rfl dX0_worth_56 ?_
          refine li_top (v' := .int (nI (f i).toNatClampNeg)) (congrArg Value.int hfn) ?_
          obtain ⟨mc_2, hpl_2⟩ := hR.p2
          obtain ⟨cap_0, f1_0, hpe_0, hcap_0, hle_0, hel_0⟩ := hR.pe (j := 0) (by decide)
          replace hle_0 : cnt st 1 ≤ cap_0 := hle_0
          replace hel_0 : ∀ q, q < cnt st 1 → f1_0 q = some (g 2 q) := hel_0
          refine x_goR5 (x_runF (pc := 57) (As := [.int (nI (f i).toNatClampNeg)]) (rest := []) E hml hl.1 hw.2 hw.1 hpl_2 (C := RJ2) (T := TJ2) (N := 3) rfl (xtJ2_get l D A V (g 0 2) (g 1 0) (cnt st 1) cap_0 (g 2 (f i).toNatClampNeg) (f i).toNatClampNeg mc_2 f1_0 hpl_2 hpe_0 (show (f i).toNatClampNeg < cnt st 1 from (by omega)) hle_0 (by have := hcap_0; omega) (hel_0 _ (by omega))) E.2.2.2.2.1.2.1.2.2.2.2.2.2.1 q337 q340 q342 q51 q344 hdF_get ⟨Nat.le_of_ble_eq_true rfl, Nat.le_of_ble_eq_true rfl⟩ rfl rfl rfl (Nat.le_of_ble_eq_true rfl) dX0_worth_57 ⟨Nat.le_of_ble_eq_true rfl, Nat.le_of_ble_eq_true rfl⟩) ?_
          have hpr_8 := hR.road (j := (f i).toNatClampNeg) (by omega)
          refine x_castRo (pc := 62) E hw.1 hpr_8 q199 dX0_worth_62 ?_
          refine lv_iload_n (pc := 65) hx hb dX0_worth_65 rfl (lv_at hl 2 rfl) ?_
          refine x_cRo_from (pc := 66) (rest := []) g E hw hpr_8 dX0_worth_66 ⟨Nat.le_of_ble_eq_true rfl, Nat.le_of_ble_eq_true rfl⟩ ⟨Nat.le_of_ble_eq_true rfl, Nat.le_of_ble_eq_true rfl⟩ (Nat.le_of_ble_eq_true rfl) hml hl ?_
          refine lv_bipush (pc := 69) (v := (-9)) hx hb dX0_worth_69 (by decide) ?_
          refine li_icne (pc := 71) (tgt := 82) hx hb dX0_worth_71 (by decide) (fun c_9 => ?_) (fun c_9 => ?_)
          · refine lv_iload (pc := 82) hx hb dX0_worth_82 (lv_at hl 4 rfl) ?_
            refine lv_iconst (pc := 84) (v := 1) hx hb dX0_worth_84 (by decide) ?_
            refine lv_aload_n (pc := 85) hx hb dX0_worth_85 rfl (lv_at hl 1 rfl) ?_
            refine lv_iload (pc := 86) hx hb dX0_worth_86 (lv_at hl 6 rfl) ?_
            refine x_ildN (pc := 88) (v := (f i)) E hw.1 (i) hq (show i < N from (by omega)) ((by omega)) rfl dX0_worth_88 ?_
            refine li_top (v' := .int (nI (f i).toNatClampNeg)) (congrArg Value.int hfn) ?_
            refine lv_ishl (pc := 89) hx hb dX0_worth_89 ?_
            refine lv_ior (pc := 90) hx hb dX0_worth_90 ?_
            refine lv_istore (pc := 91) (lv' := [(4, .int (u ||| (1 <<< ((nI (f i).toNatClampNeg) &&& 31)))), (0, .ref (g 0 0)), (1, .ref q), (2, .int s_), (3, .int (nI m_)), (5, .long a), (7, .int (nI i))]) hx hb dX0_worth_91 hl (by decide) rfl (fun ls hl => ?_)
            refine lv_aload_n (pc := 93) hx hb dX0_worth_93 rfl (lv_at hl 1 rfl) ?_
            refine x_rd (pc := 94) (v := .ref (g 0 2)) E hw.1 2 hpx (C := RX0) (T := TX0) (N := 20) rfl in_X0 (Nat.le_of_ble_eq_true rfl) q115 (fun _ h => h) rfl dX0_worth_94 ?_
            refine lv_aload_n (pc := 97) hx hb dX0_worth_97 rfl (lv_at hl 2 rfl) ?_
            refine lv_iload (pc := 98) hx hb dX0_worth_98 (lv_at hl 6 rfl) ?_
            refine x_ildN (pc := 100) (v := (f i)) E hw.1 (i) hq (show i < N from (by omega)) ((by omega)) rfl dX0_worth_100 ?_
            refine li_top (v' := .int (nI (f i).toNatClampNeg)) (congrArg Value.int hfn) ?_
            refine x_goR5 (x_runF (pc := 101) (As := [.int (nI (f i).toNatClampNeg)]) (rest := []) E hml hl.1 hw.2 hw.1 hpl_2 (C := RJ2) (T := TJ2) (N := 3) rfl (xtJ2_get l D A V (g 0 2) (g 1 0) (cnt st 1) cap_0 (g 2 (f i).toNatClampNeg) (f i).toNatClampNeg mc_2 f1_0 hpl_2 hpe_0 (show (f i).toNatClampNeg < cnt st 1 from (by omega)) hle_0 (by have := hcap_0; omega) (hel_0 _ (by omega))) E.2.2.2.2.1.2.1.2.2.2.2.2.2.1 q337 q340 q342 q51 q344 hdF_get ⟨Nat.le_of_ble_eq_true rfl, Nat.le_of_ble_eq_true rfl⟩ rfl rfl rfl (Nat.le_of_ble_eq_true rfl) dX0_worth_101 ⟨Nat.le_of_ble_eq_true rfl, Nat.le_of_ble_eq_true rfl⟩) ?_
            refine x_castRo (pc := 106) E hw.1 hpr_8 q199 dX0_worth_106 ?_
            refine lv_iload_n (pc := 109) hx hb dX0_worth_109 rfl (lv_at hl 3 rfl) ?_
            refine x_cRo_from (pc := 110) (rest := []) g E hw hpr_8 dX0_worth_110 ⟨Nat.le_of_ble_eq_true rfl, Nat.le_of_ble_eq_true rfl⟩ ⟨Nat.le_of_ble_eq_true rfl, Nat.le_of_ble_eq_true rfl⟩ (Nat.le_of_ble_eq_true rfl) hml hl ?_
            refine lv_istore_n (pc := 113) (lv' := [(2, .int (xfr (st 5 (f i).toNatClampNeg) (st 2 (f i).toNatClampNeg) (st 3 (f i).toNatClampNeg) (st 6 (f i).toNatClampNeg) (st 7 (f i).toNatClampNeg) s_)), (4, .int (u ||| (1 <<< ((nI (f i).toNatClampNeg) &&& 31)))), (0, .ref (g 0 0)), (1, .ref q), (3, .int (nI m_)), (5, .long a), (7, .int (nI i))]) hx hb dX0_worth_113 rfl hl (by decide) rfl (fun ls hl => ?_)
            refine lv_aload_n (pc := 114) hx hb dX0_worth_114 rfl (lv_at hl 2 rfl) ?_
            refine lv_iload_n (pc := 115) hx hb dX0_worth_115 rfl (lv_at hl 0 rfl) ?_
            refine lv_iload_n (pc := 116) hx hb dX0_worth_116 rfl (lv_at hl 4 rfl) ?_
            refine x_goR (x_runV (pc := 117) (As := [.int (xfr (st 5 (f i).toNatClampNeg) (st 2 (f i).toNatClampNeg) (st 3 (f i).toNatClampNeg) (st 6 (f i).toNatClampNeg) (st 7 (f i).toNatClampNeg) s_), .int (nI m_)]) (rest := []) E hml hl.1 hw.2 hw.1 hpx (C := RX0) (T := TX0) (N := 20) rfl (xtX0_metAt l D A V st g (xfr (st 5 (f i).toNatClampNeg) (st 2 (f i).toNatClampNeg) (st 3 (f i).toNatClampNeg) (st 6 (f i).toNatClampNeg) (st 7 (f i).toNatClampNeg) s_) m_ hI hR (by omega)) q521 q523 qs9 q48 q524 hdX0_metAt ⟨Nat.le_of_ble_eq_true rfl, Nat.le_of_ble_eq_true rfl⟩ rfl rfl rfl (Nat.le_of_ble_eq_true rfl) dX0_worth_117 ⟨Nat.le_of_ble_eq_true rfl, Nat.le_of_ble_eq_true rfl⟩) ?_
            refine lv_istore_n (pc := 120) (lv' := [(3, .int (nI (xma st (xfr (st 5 (f i).toNatClampNeg) (st 2 (f i).toNatClampNeg) (st 3 (f i).toNatClampNeg) (st 6 (f i).toNatClampNeg) (st 7 (f i).toNatClampNeg) s_) m_))), (2, .int (xfr (st 5 (f i).toNatClampNeg) (st 2 (f i).toNatClampNeg) (st 3 (f i).toNatClampNeg) (st 6 (f i).toNatClampNeg) (st 7 (f i).toNatClampNeg) s_)), (4, .int (u ||| (1 <<< ((nI (f i).toNatClampNeg) &&& 31)))), (0, .ref (g 0 0)), (1, .ref q), (5, .long a), (7, .int (nI i))]) hx hb dX0_worth_120 rfl hl (by decide) rfl (fun ls hl => ?_)
            refine lv_lload (pc := 121) hx hb dX0_worth_121 (lv_at hl 5 rfl) ?_
            refine lv_aload_n (pc := 123) hx hb dX0_worth_123 rfl (lv_at hl 3 rfl) ?_
            refine x_rd (pc := 124) (v := .ref (g 0 2)) E hw.1 2 hpx (C := RX0) (T := TX0) (N := 20) rfl in_X0 (Nat.le_of_ble_eq_true rfl) q115 (fun _ h => h) rfl dX0_worth_124 ?_
            refine lv_aload_n (pc := 127) hx hb dX0_worth_127 rfl (lv_at hl 4 rfl) ?_
            refine lv_iload (pc := 128) hx hb dX0_worth_128 (lv_at hl 6 rfl) ?_
            refine x_ildN (pc := 130) (v := (f i)) E hw.1 (i) hq (show i < N from (by omega)) ((by omega)) rfl dX0_worth_130 ?_
            refine li_top (v' := .int (nI (f i).toNatClampNeg)) (congrArg Value.int hfn) ?_
            refine x_goR5 (x_runF (pc := 131) (As := [.int (nI (f i).toNatClampNeg)]) (rest := [.long a]) E hml hl.1 hw.2 hw.1 hpl_2 (C := RJ2) (T := TJ2) (N := 3) rfl (xtJ2_get l D A V (g 0 2) (g 1 0) (cnt st 1) cap_0 (g 2 (f i).toNatClampNeg) (f i).toNatClampNeg mc_2 f1_0 hpl_2 hpe_0 (show (f i).toNatClampNeg < cnt st 1 from (by omega)) hle_0 (by have := hcap_0; omega) (hel_0 _ (by omega))) E.2.2.2.2.1.2.1.2.2.2.2.2.2.1 q337 q340 q342 q51 q344 hdF_get ⟨Nat.le_of_ble_eq_true rfl, Nat.le_of_ble_eq_true rfl⟩ rfl rfl rfl (Nat.le_of_ble_eq_true rfl) dX0_worth_131 ⟨Nat.le_of_ble_eq_true rfl, Nat.le_of_ble_eq_true rfl⟩) ?_
            refine x_castRo (pc := 136) E hw.1 hpr_8 q199 dX0_worth_136 ?_
            refine x_rdRo (pc := 139) (v := (st 4 (f i).toNatClampNeg)) E hw.1 hpr_8 2 (Nat.le_of_ble_eq_true rfl) q212 rfl dX0_worth_139 ?_
            refine lv_i2l (pc := 142) (v := (st 4 (f i).toNatClampNeg).toInt64) hx hb dX0_worth_142 rfl ?_
            refine lv_ladd (pc := 143) hx hb dX0_worth_143 ?_
            refine lv_lstore (pc := 144) (lv' := [(5, .long (a + (st 4 (f i).toNatClampNeg).toInt64)), (3, .int (nI (xma st (xfr (st 5 (f i).toNatClampNeg) (st 2 (f i).toNatClampNeg) (st 3 (f i).toNatClampNeg) (st 6 (f i).toNatClampNeg) (st 7 (f i).toNatClampNeg) s_) m_))), (2, .int (xfr (st 5 (f i).toNatClampNeg) (st 2 (f i).toNatClampNeg) (st 3 (f i).toNatClampNeg) (st 6 (f i).toNatClampNeg) (st 7 (f i).toNatClampNeg) s_)), (4, .int (u ||| (1 <<< ((nI (f i).toNatClampNeg) &&& 31)))), (0, .ref (g 0 0)), (1, .ref q), (7, .int (nI i))]) hx hb dX0_worth_144 hl (by decide) rfl (fun ls hl => ?_)
            refine lv_iinc (pc := 146) (v := (nI (i + 1))) (lv' := [(7, .int (nI (i + 1))), (5, .long (a + (st 4 (f i).toNatClampNeg).toInt64)), (3, .int (nI (xma st (xfr (st 5 (f i).toNatClampNeg) (st 2 (f i).toNatClampNeg) (st 3 (f i).toNatClampNeg) (st 6 (f i).toNatClampNeg) (st 7 (f i).toNatClampNeg) s_) m_))), (2, .int (xfr (st 5 (f i).toNatClampNeg) (st 2 (f i).toNatClampNeg) (st 3 (f i).toNatClampNeg) (st 6 (f i).toNatClampNeg) (st 7 (f i).toNatClampNeg) s_)), (4, .int (u ||| (1 <<< ((nI (f i).toNatClampNeg) &&& 31)))), (0, .ref (g 0 0)), (1, .ref q)]) hx hb dX0_worth_146 hl (k := 6) rfl (nI_1 _) (by decide) rfl (fun ls hl => ?_)
            refine lv_goto (pc := 149) (tgt := 18) hx hb dX0_worth_149 (by decide) ?_
            exact x_toR (by simp only [xwo, if_pos c_6, if_neg c_7, if_neg c_9]) (ih_loop (i + 1) (xfr (st 5 (f i).toNatClampNeg) (st 2 (f i).toNatClampNeg) (st 3 (f i).toNatClampNeg) (st 6 (f i).toNatClampNeg) (st 7 (f i).toNatClampNeg) s_) (xma st (xfr (st 5 (f i).toNatClampNeg) (st 2 (f i).toNatClampNeg) (st 3 (f i).toNatClampNeg) (st 6 (f i).toNatClampNeg) (st 7 (f i).toNatClampNeg) s_) m_) (u ||| (1 <<< ((nI (f i).toNatClampNeg) &&& 31))) (a + (st 4 (f i).toNatClampNeg).toInt64) (by omega) (xma_le hI hm) _ (lv_sub hl [5, 6, 3, 2, 4, 1, 0] rfl))
          · refine lv_ldc2 (pc := 74) hx hb hown (hts _ q973) dX0_worth_74 ?_
            refine lv_iload (pc := 77) hx hb dX0_worth_77 (lv_at hl 6 rfl) ?_
            refine lv_i2l (pc := 79) (v := (nI i).toInt64) hx hb dX0_worth_79 rfl ?_
            refine lv_lsub (pc := 80) hx hb dX0_worth_80 ?_
            exact m_lretS hx hb hr hlk dX0_worth_81 (by simp only [xwo, if_pos c_6, if_neg c_7, if_pos c_9])
  exact x_toR rfl (loop N 0 (st 13 0) 1 0 0 (by omega) (by omega) _ (lv_sub hl [5, 6, 4, 3, 2, 1, 0] rfl))
