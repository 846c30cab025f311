/-! the reference's methods, seventh part: the search -/
theorem mt_leadsN (l : Launch) (G : mG) (st : mS) (r : Nat) (x : Int32) (h : r < 16) : Met l yX1_leads (ws_ yX1_leads cX1_leads 3 (some .int)) (mR 0) (mP G [.int (nI r), .int x] st) (mQ G (some (.int (ldr st r x))) st) 0 0 (mA G) := by
  have h1 := mt_leads l G st (nI r) x ⟨by rw [nI_toInt (by omega)]; omega, by rw [nI_toInt (by omega)]; omega⟩
  rw [nI_clamp (by omega)] at h1
  exact h1
/-- the road r can be gone on by, 'many' roads being in the row -/
def cnd (st : mS) (many r : Nat) : Bool :=
  if isx st r many 0 0 = 0 then if (ldr st r (st 21 many)).toInt < 0 then false else if (st 0 15).toInt < 0 then true else if (st 0 15).toInt < (st 23 many + st 4 r).toInt then false else true else false
def fnx (st : mS) (many r : Nat) : Int32 := if (st 22 many).toInt < (st 0 12).toInt then if st 13 (st 22 many).toNatClampNeg = ldr st r (st 21 many) then st 22 many + 1 else st 22 many + 0 else st 22 many + 0
def ch0 (st : mS) (many r : Nat) : mS := mu (mu (mu (mu (mu (mu (mu st 0 14 (st 0 14 + 1)) 20 many (nI r)) 0 19 (nI (many + 1))) 21 (many + 1) (ldr st r (st 21 many))) 23 (many + 1) (st 23 many + st 4 r)) 22 (many + 1) (fnx st many r)) 20 (many + 1) (-1)
def chd (st : mS) (many r : Nat) : mS := jdg (ch0 st many r) (many + 1)
def lpm (f : mS → mS × Bool) (many : Nat) : Nat → Nat → mS → mS × Bool
  | 0, _, st => (mu st 0 19 (nI many - 1), true)
  | n + 1, r, st => if cnd st many r = true then if st 0 14 = 60000 then (st, false) else if (f (chd st many r)).2 = true then lpm f many n (r + 1) (f (chd st many r)).1 else f (chd st many r) else lpm f many n (r + 1) st
def dfm (nR : Nat) : Nat → Nat → mS → mS × Bool
  | 0, many, st => (mu st 0 19 (nI many - 1), true)
  | d + 1, many, st => lpm (dfm nR d (many + 1)) many nR 0 st
/-- what a search from the place 'many' on may change -/
def tch (many k j : Nat) : Prop := (k = 0 ∧ (j = 14 ∨ j = 15 ∨ j = 16 ∨ j = 18 ∨ j = 19)) ∨ k = 17 ∨ (k = 20 ∧ many ≤ j) ∨ ((k = 21 ∨ k = 22 ∨ k = 23) ∧ many < j)
def kep (many : Nat) (st st' : mS) : Prop := ∀ k j, ¬ tch many k j → st' k j = st k j
theorem kep.rf {many : Nat} {st : mS} : kep many st st := fun _ _ _ => rfl
theorem kep.tr {many : Nat} {a b c : mS} (h1 : kep many a b) (h2 : kep many b c) : kep many a c := fun k j h => (h2 k j h).trans (h1 k j h)
theorem kep.up {many : Nat} {a b : mS} (h : kep (many + 1) a b) : kep many a b := fun k j q => h k j (fun z => q (by unfold tch at *; omega))
theorem kep.mu {many : Nat} {a b : mS} {k0 j0 : Nat} {v : Int32} (h : kep many a b) (ht : tch many k0 j0) : kep many a (mu b k0 j0 v) := fun k j q => by
  rw [mu_n (fun z => q (by rw [z.1, z.2]; exact ht))]
  exact h k j q
theorem cpb_k {many : Nat} : ∀ (n i : Nat) (st : mS), kep many st (cpb n i st) := by
  intro n
  induction n with
  | zero => intro i st; exact kep.rf
  | succ n ih => intro i st; exact ((kep.rf).mu (Or.inr (Or.inl rfl))).tr (ih (i + 1) _)
theorem jnw_k {many : Nat} (st : mS) (d : Nat) : kep many st (jnw st d) := by
  unfold jnw
  exact (((kep.rf.mu (by unfold tch; omega)).mu (by unfold tch; omega)).mu (by unfold tch; omega)).tr (cpb_k _ _ _)
theorem jdg_k {many : Nat} (st : mS) (d : Nat) : kep many st (jdg st d) := by
  unfold jdg
  split
  · exact kep.rf
  · split
    · split
      · exact jnw_k st d
      · split
        · exact jnw_k st d
        · split
          · exact kep.rf.mu (by unfold tch; omega)
          · exact kep.rf
    · exact kep.rf
theorem ch0_k (st : mS) (many r : Nat) : kep many st (ch0 st many r) := by
  unfold ch0
  exact (((((((kep.rf.mu (by unfold tch; omega)).mu (by unfold tch; omega)).mu (by unfold tch; omega)).mu (by unfold tch; omega)).mu (by unfold tch; omega)).mu (by unfold tch; omega)).mu (by unfold tch; omega))
theorem chd_k (st : mS) (many r : Nat) : kep many st (chd st many r) := (ch0_k st many r).tr (jdg_k _ _)
/-- the judge leaves the row's own places alone -/
theorem jdg_o (st : mS) (d k j : Nat) (h : k ≠ 17) (h2 : k ≠ 0 ∨ (j ≠ 15 ∧ j ≠ 16 ∧ j ≠ 18)) : jdg st d k j = st k j := by
  have key : ∀ (n i : Nat) (su : mS), cpb n i su k j = su k j := by
    intro n
    induction n with
    | zero => intro i su; rfl
    | succ n ih => intro i su; exact (ih (i + 1) _).trans (mu_r h j)
  have e : jnw st d k j = st k j := by
    unfold jnw
    rw [key, mu_n (by omega), mu_n (by omega), mu_n (by omega)]
  unfold jdg
  split
  · rfl
  · split
    · split
      · exact e
      · split
        · exact e
        · split
          · exact mu_n (by omega)
          · rfl
    · rfl
theorem lpm_k {f : mS → mS × Bool} {many : Nat} (hf : ∀ st, kep (many + 1) st (f st).1) : ∀ (n r : Nat) (st : mS), kep many st (lpm f many n r st).1 := by
  intro n
  induction n with
  | zero => intro r st; exact kep.rf.mu (by unfold tch; omega)
  | succ n ih =>
    intro r st
    unfold lpm
    split
    · split
      · exact kep.rf
      · split
        · exact ((chd_k st many r).tr (hf _).up).tr (ih (r + 1) _)
        · exact (chd_k st many r).tr (hf _).up
    · exact ih (r + 1) st
theorem dfm_k {nR : Nat} : ∀ (d many : Nat) (st : mS), kep many st (dfm nR d many st).1 := by
  intro d
  induction d with
  | zero => intro many st; exact kep.rf.mu (by unfold tch; omega)
  | succ d ih => intro many st; exact lpm_k (fun su => ih (many + 1) su) nR 0 st
theorem lpm_d {f : mS → mS × Bool} {many : Nat} : ∀ (n r : Nat) (st : mS), (lpm f many n r st).2 = true → (lpm f many n r st).1 0 19 = nI many - 1 := by
  intro n
  induction n with
  | zero => intro r st _; show mu st 0 19 (nI many - 1) 0 19 = _; exact mu_s _ _ _ _
  | succ n ih =>
    intro r st h
    unfold lpm at h ⊢
    split
    · rename_i h1
      rw [if_pos h1] at h
      split
      · rename_i h2; rw [if_pos h2] at h; cases h
      · rename_i h2
        rw [if_neg h2] at h
        split
        · rename_i h3; rw [if_pos h3] at h; exact ih _ _ h
        · rename_i h3; rw [if_neg h3] at h; exact absurd h h3
    · rename_i h1
      rw [if_neg h1] at h
      exact ih _ _ h
theorem dfm_d {nR : Nat} : ∀ (d many : Nat) (st : mS), (dfm nR d many st).2 = true → (dfm nR d many st).1 0 19 = nI many - 1 := by
  intro d
  cases d with
  | zero => intro many st _; show mu st 0 19 (nI many - 1) 0 19 = _; exact mu_s _ _ _ _
  | succ d => intro many st h; exact lpm_d _ _ _ h
def sV (nR B : Nat) (st : mS) (many : Nat) : Prop := st 0 19 = nI many ∧ st 0 1 = nI nR ∧ st 0 12 = nI B ∧ 0 ≤ (st 22 many).toInt
theorem chd_o (st : mS) (many r k j : Nat) (h : k ≠ 17) (h2 : k ≠ 0 ∨ (j ≠ 15 ∧ j ≠ 16 ∧ j ≠ 18)) : chd st many r k j = ch0 st many r k j := jdg_o _ _ _ _ h h2
theorem chd_V {nR B : Nat} {st : mS} {many : Nat} (r : Nat) (hB8 : B ≤ 8) (h : sV nR B st many) : sV nR B (chd st many r) (many + 1) ∧ chd st many r 20 (many + 1) = -1 ∧ chd st many r 20 many = nI r := by
  obtain ⟨h1, h2, h3, h4⟩ := h
  refine ⟨⟨?_, ?_, ?_, ?_⟩, ?_, ?_⟩
  · rw [chd_o _ _ _ _ _ (by decide) (by omega)]
    unfold ch0
    rw [mu_n (by omega), mu_n (by omega), mu_n (by omega), mu_n (by omega), mu_s]
  · rw [(chd_k st many r) 0 1 (by unfold tch; omega)]; exact h2
  · rw [(chd_k st many r) 0 12 (by unfold tch; omega)]; exact h3
  · rw [chd_o _ _ _ _ _ (by decide) (by omega)]
    unfold ch0
    rw [mu_n (by omega), mu_s]
    have h0 : 0 ≤ (st 22 many + 0).toInt := by rw [i32_add (by show _ ≤ _ + 0; omega) (by have := i32_hi (st 22 many); show _ + 0 < _; omega)]; show 0 ≤ _ + 0; omega
    unfold fnx
    split
    · rename_i h5
      rw [h3, nI_toInt (by omega)] at h5
      split
      · rw [i32_add (by show _ ≤ _ + 1; omega) (by show _ + 1 < _; omega)]; show 0 ≤ _ + 1; omega
      · exact h0
    · exact h0
  · rw [chd_o _ _ _ _ _ (by decide) (by omega)]
    unfold ch0
    exact mu_s _ _ _ _
  · rw [chd_o _ _ _ _ _ (by decide) (by omega)]
    unfold ch0
    rw [mu_n (by omega), mu_n (by omega), mu_n (by omega), mu_n (by omega), mu_n (by omega), mu_s]
def Qs (G : mG) (below : List Frame) (s : State) (R : mS × Bool) : State → Prop := MQ below (mQ G (some (.int (bI (R.2 = true)))) R.1) ([Value.ref G.1] : List Value).toArray s 0 0 (mA G)
def s53 (p : Program) (l : Launch) (e : Env) (s : State) (m : MethodId) (below : List Frame) (meth : Method) (c : Code) (G : mG) (R : mS × Bool) (st : mS) : Prop :=
  ∀ (H : Heap) (locs : List Loc), mWd G s.heap st H locs → ∀ ls : Array Slot, lv_has ls 3 [(0, .ref G.1)] → W p l e (mR 2) s m ([Value.ref G.1] : List Value).toArray below meth c H locs 0 0 (Qs G below s R) (F0 m 53 ls [])
set_option maxHeartbeats 8000000 in
set_option maxRecDepth 100000 in
theorem sr_all {p : Program} (l : Launch) {e : Env} {s : State} {m : MethodId} {below : List Frame} {meth : Method} {c : Code} (G : mG) (E : mE p c cX1_search s m ([Value.ref G.1] : List Value).toArray G) (hml : c.maxLocals = 3) (hr : meth.sig.returnType = some .boolean) (hlk : meth.locks = false) (nR B : Nat) (hR : nR ≤ 16) (hB : 1 ≤ B) (hB8 : B ≤ 8) :
    ∀ (d many : Nat) (K : mS × Bool → mS × Bool) (st : mS), d + many = 10 → sV nR B st many → st 20 many = -1 → (∀ u, K (u, false) = (u, false)) → (∀ u, dfm nR d many st = (u, true) → s53 p l e s m below meth c G (K (u, true)) u) → s53 p l e s m below meth c G (K (dfm nR d many st)) st := by
  have hx := E.1
  have hb := E.2.1
  have hts := E.2.2.1
  have hown := E.2.2.2.1
  intro d
  induction d with
  | zero =>
    intro many K st hdm hv hrow hKf hKt H locs hw ls hl
    refine lv_aload_n (pc := 53) hx hb dX1_search_53 rfl (lv_at hl 0 rfl) ?_
    refine m_getv (pc := 54) (v := (nI many)) E hw 19 (by decide) rfl hv.1 q1111 dX1_search_54 ?_
    refine li_if_lt (pc := 57) (tgt := 360) hx hb dX1_search_57 (by decide) (fun c_1 => absurd c_1 (by rw [nI_toInt (by omega)]; omega)) (fun c_1 => ?_)
    refine lv_aload_n (pc := 60) hx hb dX1_search_60 rfl (lv_at hl 0 rfl) ?_
    refine m_getv (pc := 61) (v := (nI many)) E hw 19 (by decide) rfl hv.1 q1111 dX1_search_61 ?_
    refine lv_bipush (pc := 64) (v := 10) hx hb dX1_search_64 (by decide) ?_
    refine li_icmp_neN (pc := 66) (a := many) (b := 10) (tgt := 76) hx hb (by omega) (by omega) dX1_search_66 (by decide) (fun c_2 => absurd (by omega) c_2) (fun c_2 => ?_)
    refine lv_aload_n (pc := 69) hx hb dX1_search_69 rfl (lv_at hl 0 rfl) ?_
    refine m_getv (pc := 70) (v := (nI nR)) E hw 1 (by decide) rfl hv.2.1 q1093 dX1_search_70 ?_
    refine lv_goto (pc := 73) (tgt := 87) hx hb dX1_search_73 (by decide) ?_
    refine lv_istore_n (pc := 87) (lv' := [(1, .int (nI nR)), (0, .ref G.1)]) hx hb dX1_search_87 rfl hl (by decide) rfl (fun ls hl => ?_)
    refine lv_iconst (pc := 88) (v := (-1)) hx hb dX1_search_88 (by decide) ?_
    refine lv_istore_n (pc := 89) (lv' := [(2, .int (-1)), (1, .int (nI nR)), (0, .ref G.1)]) hx hb dX1_search_89 rfl hl (by decide) rfl (fun ls hl => ?_)
    refine lv_iload_n (pc := 90) hx hb dX1_search_90 rfl (lv_at hl 1 rfl) ?_
    refine lv_aload_n (pc := 91) hx hb dX1_search_91 rfl (lv_at hl 2 rfl) ?_
    refine m_getv (pc := 92) (v := (nI nR)) E hw 1 (by decide) rfl hv.2.1 q1093 dX1_search_92 ?_
    refine li_icmp_geN (pc := 95) (a := nR) (b := nR) (tgt := 184) hx hb (by omega) (by omega) dX1_search_95 (by decide) (fun c_3 => ?_) (fun c_3 => absurd c_3 (by omega))
    refine lv_iload_n (pc := 184) hx hb dX1_search_184 rfl (lv_at hl 0 rfl) ?_
    refine li_if_ge (pc := 185) (tgt := 201) hx hb dX1_search_185 (by decide) (fun h_ => absurd h_ (by decide)) (fun _ => ?_)
    refine lv_aload_n (pc := 188) hx hb dX1_search_188 rfl (lv_at hl 2 rfl) ?_
    refine lv_dup (pc := 189) hx hb dX1_search_189 rfl ?_
    refine m_getv (pc := 190) (v := (nI many)) E hw 19 (by decide) rfl hv.1 q1111 dX1_search_190 ?_
    refine lv_iconst (pc := 193) (v := 1) hx hb dX1_search_193 (by decide) ?_
    refine lv_isub (pc := 194) hx hb dX1_search_194 ?_
    refine m_put (pc := 195) (v := ((nI many) - 1)) E hw 19 (by decide) rfl rfl rfl q1111 dX1_search_195 (fun H locs hw => ?_)
    refine lv_goto (pc := 198) (tgt := 357) hx hb dX1_search_198 (by decide) ?_
    refine lv_goto (pc := 357) (tgt := 53) hx hb dX1_search_357 (by decide) ?_
    exact hKt _ rfl _ _ hw _ (lv_sub hl [2] rfl)
  | succ d ih =>
    intro many K st hdm hv hrow hKf hKt
    have key : ∀ (n r : Nat) (z : Int32) (su : mS), r + n = nR → sV nR B su many → z.toInt < 0 → (∀ u, lpm (dfm nR d (many + 1)) many n r su = (u, true) → s53 p l e s m below meth c G (K (u, true)) u) → ∀ (H : Heap) (locs : List Loc), mWd G s.heap su H locs → ∀ ls : Array Slot, lv_has ls 3 [(0, .ref G.1), (1, .int (nI r)), (2, .int z)] → W p l e (mR 2) s m ([Value.ref G.1] : List Value).toArray below meth c H locs 0 0 (Qs G below s (K (lpm (dfm nR d (many + 1)) many n r su))) (F0 m 90 ls []) := by
      intro n
      induction n with
      | zero =>
        intro r z su hn hv hz hKt H locs hw ls hl
        refine lv_iload_n (pc := 90) hx hb dX1_search_90 rfl (lv_at hl 1 rfl) ?_
        refine lv_aload_n (pc := 91) hx hb dX1_search_91 rfl (lv_at hl 0 rfl) ?_
        refine m_getv (pc := 92) (v := (nI nR)) E hw 1 (by decide) rfl hv.2.1 q1093 dX1_search_92 ?_
        refine li_icmp_geN (pc := 95) (a := r) (b := nR) (tgt := 184) hx hb (by omega) (by omega) dX1_search_95 (by decide) (fun c_1 => ?_) (fun c_1 => absurd c_1 (by omega))
        refine lv_iload_n (pc := 184) hx hb dX1_search_184 rfl (lv_at hl 2 rfl) ?_
        refine li_if_ge (pc := 185) (tgt := 201) hx hb dX1_search_185 (by decide) (fun c_2 => absurd hz c_2) (fun c_2 => ?_)
        refine lv_aload_n (pc := 188) hx hb dX1_search_188 rfl (lv_at hl 0 rfl) ?_
        refine lv_dup (pc := 189) hx hb dX1_search_189 rfl ?_
        refine m_getv (pc := 190) (v := (nI many)) E hw 19 (by decide) rfl hv.1 q1111 dX1_search_190 ?_
        refine lv_iconst (pc := 193) (v := 1) hx hb dX1_search_193 (by decide) ?_
        refine lv_isub (pc := 194) hx hb dX1_search_194 ?_
        refine m_put (pc := 195) (v := ((nI many) - 1)) E hw 19 (by decide) rfl rfl rfl q1111 dX1_search_195 (fun H locs hw => ?_)
        refine lv_goto (pc := 198) (tgt := 357) hx hb dX1_search_198 (by decide) ?_
        refine lv_goto (pc := 357) (tgt := 53) hx hb dX1_search_357 (by decide) ?_
        exact hKt _ rfl _ _ hw _ (lv_sub hl [0] rfl)
      | succ n ihn =>
        intro r z su hn hv hz hKt H locs hw ls hl
        have hv4 := hv.2.2.2
        have hv12 : (su 0 12).toInt = B := by rw [hv.2.2.1, nI_toInt (by omega)]
        have child : ¬ su 0 14 = 60000 → cnd su many r = true → ∀ (H : Heap) (locs : List Loc), mWd G s.heap (chd su many r) H locs → ∀ ls : Array Slot, lv_has ls 3 [(0, .ref G.1)] → W p l e (mR 2) s m ([Value.ref G.1] : List Value).toArray below meth c H locs 0 0 (Qs G below s (K (lpm (dfm nR d (many + 1)) many (n + 1) r su))) (F0 m 53 ls []) := by
          intro h14 e1
          have e_ : lpm (dfm nR d (many + 1)) many (n + 1) r su = if (dfm nR d (many + 1) (chd su many r)).2 = true then lpm (dfm nR d (many + 1)) many n (r + 1) (dfm nR d (many + 1) (chd su many r)).1 else dfm nR d (many + 1) (chd su many r) := by
            simp only [lpm, if_pos e1, if_neg h14]
          have eK : K (lpm (dfm nR d (many + 1)) many (n + 1) r su) = (fun R : mS × Bool => if R.2 = true then K (lpm (dfm nR d (many + 1)) many n (r + 1) R.1) else R) (dfm nR d (many + 1) (chd su many r)) := by
            rw [e_]
            generalize dfm nR d (many + 1) (chd su many r) = R
            obtain ⟨u, b⟩ := R
            cases b with
            | true => rfl
            | false => exact hKf u
          rw [eK]
          obtain ⟨hv2, hr2, hr3⟩ := chd_V r hB8 hv
          refine ih (many + 1) (fun R : mS × Bool => if R.2 = true then K (lpm (dfm nR d (many + 1)) many n (r + 1) R.1) else R) (chd su many r) (by omega) hv2 hr2 (fun u => rfl) (fun u hu => ?_)
          show s53 p l e s m below meth c G (K (lpm (dfm nR d (many + 1)) many n (r + 1) u)) u
          have hk1 : kep (many + 1) (chd su many r) u := by have q := dfm_k (nR := nR) d (many + 1) (chd su many r); rw [hu] at q; exact q
          have hk0 : kep many su u := (chd_k su many r).tr hk1.up
          have hd9 : u 0 19 = nI (many + 1) - 1 := by have q := dfm_d (nR := nR) d (many + 1) (chd su many r); rw [hu] at q; exact q rfl
          have hv3 : sV nR B u many := ⟨by rw [hd9]; exact nI_pred many, by rw [hk0 0 1 (by unfold tch; omega)]; exact hv.2.1, by rw [hk0 0 12 (by unfold tch; omega)]; exact hv.2.2.1, by rw [hk0 22 many (by unfold tch; omega)]; exact hv.2.2.2⟩
          have hrow : u 20 many = nI r := by rw [hk1 20 many (by unfold tch; omega)]; exact hr3
          have hv := hv3
          intro H locs hw ls hl
          refine lv_aload_n (pc := 53) hx hb dX1_search_53 rfl (lv_at hl 0 rfl) ?_
          refine m_getv (pc := 54) (v := (nI many)) E hw 19 (by decide) rfl hv.1 q1111 dX1_search_54 ?_
          refine li_if_lt (pc := 57) (tgt := 360) hx hb dX1_search_57 (by decide) (fun c_1 => absurd c_1 (by rw [nI_toInt (by omega)]; omega)) (fun c_1 => ?_)
          refine lv_aload_n (pc := 60) hx hb dX1_search_60 rfl (lv_at hl 0 rfl) ?_
          refine m_getv (pc := 61) (v := (nI many)) E hw 19 (by decide) rfl hv.1 q1111 dX1_search_61 ?_
          refine lv_bipush (pc := 64) (v := 10) hx hb dX1_search_64 (by decide) ?_
          refine li_icmp_neN (pc := 66) (a := many) (b := 10) (tgt := 76) hx hb (by omega) (by omega) dX1_search_66 (by decide) (fun c_2 => ?_) (fun c_2 => absurd (show many = 10 from c_2) (by omega))
          refine lv_aload_n (pc := 76) hx hb dX1_search_76 rfl (lv_at hl 0 rfl) ?_
          refine m_geta (pc := 77) E hw 20 (by decide) (by decide) q1112 dX1_search_77 ?_
          refine lv_aload_n (pc := 80) hx hb dX1_search_80 rfl (lv_at hl 0 rfl) ?_
          refine m_getv (pc := 81) (v := (nI many)) E hw 19 (by decide) rfl hv.1 q1111 dX1_search_81 ?_
          refine m_aldN (pc := 84) (v := (nI r)) E hw 20 (many) (by decide) rfl (show many < 11 from (by omega)) (by decide) hrow dX1_search_84 ?_
          refine lv_iconst (pc := 85) (v := 1) hx hb dX1_search_85 (by decide) ?_
          refine li_addN (pc := 86) (a := r) (b := 1) hx hb dX1_search_86 ?_
          refine lv_istore_n (pc := 87) (lv' := [(1, .int (nI (r + 1))), (0, .ref G.1)]) hx hb dX1_search_87 rfl hl (by decide) rfl (fun ls hl => ?_)
          refine lv_iconst (pc := 88) (v := (-1)) hx hb dX1_search_88 (by decide) ?_
          refine lv_istore_n (pc := 89) (lv' := [(2, .int (-1)), (1, .int (nI (r + 1))), (0, .ref G.1)]) hx hb dX1_search_89 rfl hl (by decide) rfl (fun ls hl => ?_)
          exact ihn (r + 1) (-1) u (by omega) hv (by decide) (fun v hv9 => hKt v (by rw [e_, hu]; exact hv9)) _ _ hw _ (lv_sub hl [2, 1, 0] rfl)
        refine lv_iload_n (pc := 90) hx hb dX1_search_90 rfl (lv_at hl 1 rfl) ?_
        refine lv_aload_n (pc := 91) hx hb dX1_search_91 rfl (lv_at hl 0 rfl) ?_
        refine m_getv (pc := 92) (v := (nI nR)) E hw 1 (by decide) rfl hv.2.1 q1093 dX1_search_92 ?_
        refine li_icmp_geN (pc := 95) (a := r) (b := nR) (tgt := 184) hx hb (by omega) (by omega) dX1_search_95 (by decide) (fun c_1 => absurd (by omega) c_1) (fun c_1 => ?_)
        refine lv_iload_n (pc := 98) hx hb dX1_search_98 rfl (lv_at hl 2 rfl) ?_
        refine li_if_ge (pc := 99) (tgt := 184) hx hb dX1_search_99 (by decide) (fun c_2 => absurd hz c_2) (fun c_2 => ?_)
        refine lv_aload_n (pc := 102) hx hb dX1_search_102 rfl (lv_at hl 0 rfl) ?_
        refine lv_iload_n (pc := 103) hx hb dX1_search_103 rfl (lv_at hl 1 rfl) ?_
        refine m_cVi (pc := 104) (As := [.int (nI r)]) (rest := []) E hml hl.1 hw (mt_isIn l G (su) r many hv.1 (by omega)) q1320 q1322 qs30 q1323 hdX1_isIn ⟨Nat.le_of_ble_eq_true rfl, Nat.le_of_ble_eq_true rfl⟩ rfl rfl rfl (Nat.le_of_ble_eq_true rfl) dX1_search_104 (fun H locs hw => ?_)
        refine lv_if_eq (pc := 107) (tgt := 114) hx hb dX1_search_107 (by decide) (fun c_3 => ?_) (fun c_3 => ?_)
        · refine lv_aload_n (pc := 114) hx hb dX1_search_114 rfl (lv_at hl 0 rfl) ?_
          refine lv_iload_n (pc := 115) hx hb dX1_search_115 rfl (lv_at hl 1 rfl) ?_
          refine lv_aload_n (pc := 116) hx hb dX1_search_116 rfl (lv_at hl 0 rfl) ?_
          refine m_geta (pc := 117) E hw 21 (by decide) (by decide) q1113 dX1_search_117 ?_
          refine lv_aload_n (pc := 120) hx hb dX1_search_120 rfl (lv_at hl 0 rfl) ?_
          refine m_getv (pc := 121) (v := (nI many)) E hw 19 (by decide) rfl hv.1 q1111 dX1_search_121 ?_
          refine m_aldN (pc := 124) (v := (su 21 many)) E hw 21 (many) (by decide) rfl (show many < 11 from (by omega)) (by decide) rfl dX1_search_124 ?_
          refine m_cVi (pc := 125) (As := [.int (nI r), .int (su 21 many)]) (rest := []) E hml hl.1 hw (mt_leadsN l G (su) r (su 21 many) (by omega)) q1324 q1326 qs31 q1327 hdX1_leads ⟨Nat.le_of_ble_eq_true rfl, Nat.le_of_ble_eq_true rfl⟩ rfl rfl rfl (Nat.le_of_ble_eq_true rfl) dX1_search_125 (fun H locs hw => ?_)
          refine lv_istore_n (pc := 128) (lv' := [(2, .int (ldr su r (su 21 many))), (0, .ref G.1), (1, .int (nI r))]) hx hb dX1_search_128 rfl hl (by decide) rfl (fun ls hl => ?_)
          refine lv_iload_n (pc := 129) hx hb dX1_search_129 rfl (lv_at hl 0 rfl) ?_
          refine li_if_lt (pc := 130) (tgt := 167) hx hb dX1_search_130 (by decide) (fun c_4 => ?_) (fun c_4 => ?_)
          · refine lv_iload_n (pc := 167) hx hb dX1_search_167 rfl (lv_at hl 0 rfl) ?_
            refine lv_istore_n (pc := 168) (lv' := [(2, .int (ldr su r (su 21 many))), (0, .ref G.1), (1, .int (nI r))]) hx hb dX1_search_168 rfl hl (by decide) rfl (fun ls hl => ?_)
            refine lv_iload_n (pc := 169) hx hb dX1_search_169 rfl (lv_at hl 2 rfl) ?_
            refine lv_iload_n (pc := 170) hx hb dX1_search_170 rfl (lv_at hl 0 rfl) ?_
            refine li_if_ge (pc := 171) (tgt := 178) hx hb dX1_search_171 (by decide) (fun c_5 => absurd c_4 c_5) (fun c_5 => ?_)
            refine lv_iconst (pc := 174) (v := 1) hx hb dX1_search_174 (by decide) ?_
            refine lv_goto (pc := 175) (tgt := 179) hx hb dX1_search_175 (by decide) ?_
            refine li_addN (pc := 179) (a := r) (b := 1) hx hb dX1_search_179 ?_
            refine lv_istore_n (pc := 180) (lv' := [(1, .int (nI (r + 1))), (2, .int (ldr su r (su 21 many))), (0, .ref G.1)]) hx hb dX1_search_180 rfl hl (by decide) rfl (fun ls hl => ?_)
            refine lv_goto (pc := 181) (tgt := 90) hx hb dX1_search_181 (by decide) ?_
            have e_ : lpm (dfm nR d (many + 1)) many (n + 1) r su = lpm (dfm nR d (many + 1)) many n (r + 1) su := by
              have e1 : cnd su many r = false := by simp only [cnd, if_pos c_3, if_pos c_4]
              simp only [lpm, e1, if_false, Bool.false_eq_true]
            rw [e_]
            exact ihn (r + 1) (ldr su r (su 21 many)) su (by omega) hv (by assumption) (fun u hu => hKt u (e_.trans hu)) _ _ hw _ (lv_sub hl [2, 0, 1] rfl)
          · refine lv_aload_n (pc := 133) hx hb dX1_search_133 rfl (lv_at hl 1 rfl) ?_
            refine m_getv (pc := 134) (v := (su 0 15)) E hw 15 (by decide) rfl rfl q1107 dX1_search_134 ?_
            refine li_if_lt (pc := 137) (tgt := 167) hx hb dX1_search_137 (by decide) (fun c_6 => ?_) (fun c_6 => ?_)
            · refine lv_iload_n (pc := 167) hx hb dX1_search_167 rfl (lv_at hl 0 rfl) ?_
              refine lv_istore_n (pc := 168) (lv' := [(2, .int (ldr su r (su 21 many))), (0, .ref G.1), (1, .int (nI r))]) hx hb dX1_search_168 rfl hl (by decide) rfl (fun ls hl => ?_)
              refine lv_iload_n (pc := 169) hx hb dX1_search_169 rfl (lv_at hl 2 rfl) ?_
              refine lv_iload_n (pc := 170) hx hb dX1_search_170 rfl (lv_at hl 0 rfl) ?_
              refine li_if_ge (pc := 171) (tgt := 178) hx hb dX1_search_171 (by decide) (fun c_7 => ?_) (fun c_7 => absurd c_7 c_4)
              refine lv_iconst (pc := 178) (v := 0) hx hb dX1_search_178 (by decide) ?_
              refine li_addN (pc := 179) (a := r) (b := 0) hx hb dX1_search_179 ?_
              refine li_top (v' := .int (nI r)) rfl ?_
              refine lv_istore_n (pc := 180) (lv' := [(1, .int (nI r)), (2, .int (ldr su r (su 21 many))), (0, .ref G.1)]) hx hb dX1_search_180 rfl hl (by decide) rfl (fun ls hl => ?_)
              refine lv_goto (pc := 181) (tgt := 90) hx hb dX1_search_181 (by decide) ?_
              refine lv_iload_n (pc := 90) hx hb dX1_search_90 rfl (lv_at hl 0 rfl) ?_
              refine lv_aload_n (pc := 91) hx hb dX1_search_91 rfl (lv_at hl 2 rfl) ?_
              refine m_getv (pc := 92) (v := (nI nR)) E hw 1 (by decide) rfl hv.2.1 q1093 dX1_search_92 ?_
              refine li_icmp_geN (pc := 95) (a := r) (b := nR) (tgt := 184) hx hb (by omega) (by omega) dX1_search_95 (by decide) (fun c_8 => absurd (by omega) c_8) (fun c_8 => ?_)
              refine lv_iload_n (pc := 98) hx hb dX1_search_98 rfl (lv_at hl 1 rfl) ?_
              refine li_if_ge (pc := 99) (tgt := 184) hx hb dX1_search_99 (by decide) (fun c_9 => ?_) (fun c_9 => absurd c_9 (by assumption))
              refine lv_iload_n (pc := 184) hx hb dX1_search_184 rfl (lv_at hl 1 rfl) ?_
              refine li_if_ge (pc := 185) (tgt := 201) hx hb dX1_search_185 (by decide) (fun c_10 => ?_) (fun c_10 => absurd c_10 (by assumption))
              refine lv_aload_n (pc := 201) hx hb dX1_search_201 rfl (lv_at hl 2 rfl) ?_
              refine m_getv (pc := 202) (v := (su 0 14)) E hw 14 (by decide) rfl rfl q1106 dX1_search_202 ?_
              refine lv_ldc (pc := 205) hx hb hown (hts _ q1328) dX1_search_205 ?_
              refine li_icne (pc := 207) (tgt := 212) hx hb dX1_search_207 (by decide) (fun c_11 => ?_) (fun c_11 => ?_)
              · refine lv_aload_n (pc := 212) hx hb dX1_search_212 rfl (lv_at hl 2 rfl) ?_
                refine lv_dup (pc := 213) hx hb dX1_search_213 rfl ?_
                refine m_getv (pc := 214) (v := (su 0 14)) E hw 14 (by decide) rfl rfl q1106 dX1_search_214 ?_
                refine lv_iconst (pc := 217) (v := 1) hx hb dX1_search_217 (by decide) ?_
                refine lv_iadd (pc := 218) hx hb dX1_search_218 ?_
                refine m_put (pc := 219) (v := ((su 0 14) + 1)) E hw 14 (by decide) rfl rfl rfl q1106 dX1_search_219 (fun H locs hw => ?_)
                refine lv_aload_n (pc := 222) hx hb dX1_search_222 rfl (lv_at hl 2 rfl) ?_
                refine m_geta (pc := 223) E hw 20 (by decide) (by decide) q1112 dX1_search_223 ?_
                refine lv_aload_n (pc := 226) hx hb dX1_search_226 rfl (lv_at hl 2 rfl) ?_
                refine m_getv (pc := 227) (v := (nI many)) E hw 19 (by decide) rfl hv.1 q1111 dX1_search_227 ?_
                refine lv_iload_n (pc := 230) hx hb dX1_search_230 rfl (lv_at hl 0 rfl) ?_
                refine m_astN (pc := 231) (v := (nI r)) E hw 20 (many) (by decide) rfl (show many < 11 from (by omega)) (by decide) dX1_search_231 (fun H locs hw => ?_)
                refine lv_aload_n (pc := 232) hx hb dX1_search_232 rfl (lv_at hl 2 rfl) ?_
                refine lv_dup (pc := 233) hx hb dX1_search_233 rfl ?_
                refine m_getv (pc := 234) (v := (nI many)) E hw 19 (by decide) rfl hv.1 q1111 dX1_search_234 ?_
                refine lv_iconst (pc := 237) (v := 1) hx hb dX1_search_237 (by decide) ?_
                refine li_addN (pc := 238) (a := many) (b := 1) hx hb dX1_search_238 ?_
                refine m_put (pc := 239) (v := (nI (many + 1))) E hw 19 (by decide) rfl rfl rfl q1111 dX1_search_239 (fun H locs hw => ?_)
                refine lv_aload_n (pc := 242) hx hb dX1_search_242 rfl (lv_at hl 2 rfl) ?_
                refine m_geta (pc := 243) E hw 21 (by decide) (by decide) q1113 dX1_search_243 ?_
                refine lv_aload_n (pc := 246) hx hb dX1_search_246 rfl (lv_at hl 2 rfl) ?_
                refine m_getv (pc := 247) (v := (nI (many + 1))) E hw 19 (by decide) rfl rfl q1111 dX1_search_247 ?_
                refine lv_iload_n (pc := 250) hx hb dX1_search_250 rfl (lv_at hl 1 rfl) ?_
                refine m_astN (pc := 251) (v := (ldr su r (su 21 many))) E hw 21 (many + 1) (by decide) rfl (show many + 1 < 11 from (by omega)) (by decide) dX1_search_251 (fun H locs hw => ?_)
                refine lv_aload_n (pc := 252) hx hb dX1_search_252 rfl (lv_at hl 2 rfl) ?_
                refine m_geta (pc := 253) E hw 23 (by decide) (by decide) q1115 dX1_search_253 ?_
                refine lv_aload_n (pc := 256) hx hb dX1_search_256 rfl (lv_at hl 2 rfl) ?_
                refine m_getv (pc := 257) (v := (nI (many + 1))) E hw 19 (by decide) rfl rfl q1111 dX1_search_257 ?_
                refine lv_aload_n (pc := 260) hx hb dX1_search_260 rfl (lv_at hl 2 rfl) ?_
                refine m_geta (pc := 261) E hw 23 (by decide) (by decide) q1115 dX1_search_261 ?_
                refine lv_aload_n (pc := 264) hx hb dX1_search_264 rfl (lv_at hl 2 rfl) ?_
                refine m_getv (pc := 265) (v := (nI (many + 1))) E hw 19 (by decide) rfl rfl q1111 dX1_search_265 ?_
                refine lv_iconst (pc := 268) (v := 1) hx hb dX1_search_268 (by decide) ?_
                refine lv_isub (pc := 269) hx hb dX1_search_269 ?_
                refine li_top (v' := .int (nI many)) (congrArg Value.int (nI_pred _)) ?_
                refine m_aldN (pc := 270) (v := (su 23 many)) E hw 23 (many) (by decide) rfl (show many < 11 from (by omega)) (by decide) rfl dX1_search_270 ?_
                refine lv_aload_n (pc := 271) hx hb dX1_search_271 rfl (lv_at hl 2 rfl) ?_
                refine m_geta (pc := 272) E hw 4 (by decide) (by decide) q1096 dX1_search_272 ?_
                refine lv_iload_n (pc := 275) hx hb dX1_search_275 rfl (lv_at hl 0 rfl) ?_
                refine m_aldN (pc := 276) (v := (su 4 r)) E hw 4 (r) (by decide) rfl (show r < 16 from (by omega)) (by decide) rfl dX1_search_276 ?_
                refine lv_iadd (pc := 277) hx hb dX1_search_277 ?_
                refine m_astN (pc := 278) (v := ((su 23 many) + (su 4 r))) E hw 23 (many + 1) (by decide) rfl (show many + 1 < 11 from (by omega)) (by decide) dX1_search_278 (fun H locs hw => ?_)
                refine lv_aload_n (pc := 279) hx hb dX1_search_279 rfl (lv_at hl 2 rfl) ?_
                refine m_geta (pc := 280) E hw 22 (by decide) (by decide) q1114 dX1_search_280 ?_
                refine lv_aload_n (pc := 283) hx hb dX1_search_283 rfl (lv_at hl 2 rfl) ?_
                refine m_getv (pc := 284) (v := (nI (many + 1))) E hw 19 (by decide) rfl rfl q1111 dX1_search_284 ?_
                refine lv_aload_n (pc := 287) hx hb dX1_search_287 rfl (lv_at hl 2 rfl) ?_
                refine m_geta (pc := 288) E hw 22 (by decide) (by decide) q1114 dX1_search_288 ?_
                refine lv_aload_n (pc := 291) hx hb dX1_search_291 rfl (lv_at hl 2 rfl) ?_
                refine m_getv (pc := 292) (v := (nI (many + 1))) E hw 19 (by decide) rfl rfl q1111 dX1_search_292 ?_
                refine lv_iconst (pc := 295) (v := 1) hx hb dX1_search_295 (by decide) ?_
                refine lv_isub (pc := 296) hx hb dX1_search_296 ?_
                refine li_top (v' := .int (nI many)) (congrArg Value.int (nI_pred _)) ?_
                refine m_aldN (pc := 297) (v := (su 22 many)) E hw 22 (many) (by decide) rfl (show many < 11 from (by omega)) (by decide) rfl dX1_search_297 ?_
                refine lv_aload_n (pc := 298) hx hb dX1_search_298 rfl (lv_at hl 2 rfl) ?_
                refine m_geta (pc := 299) E hw 22 (by decide) (by decide) q1114 dX1_search_299 ?_
                refine lv_aload_n (pc := 302) hx hb dX1_search_302 rfl (lv_at hl 2 rfl) ?_
                refine m_getv (pc := 303) (v := (nI (many + 1))) E hw 19 (by decide) rfl rfl q1111 dX1_search_303 ?_
                refine lv_iconst (pc := 306) (v := 1) hx hb dX1_search_306 (by decide) ?_
                refine lv_isub (pc := 307) hx hb dX1_search_307 ?_
                refine li_top (v' := .int (nI many)) (congrArg Value.int (nI_pred _)) ?_
                refine m_aldN (pc := 308) (v := (su 22 many)) E hw 22 (many) (by decide) rfl (show many < 11 from (by omega)) (by decide) rfl dX1_search_308 ?_
                refine lv_aload_n (pc := 309) hx hb dX1_search_309 rfl (lv_at hl 2 rfl) ?_
                refine m_getv (pc := 310) (v := (su 0 12)) E hw 12 (by decide) rfl rfl q1104 dX1_search_310 ?_
                refine li_icmp_ge (pc := 313) (tgt := 340) hx hb dX1_search_313 (by decide) (fun c_12 => ?_) (fun c_12 => ?_)
                · refine lv_iconst (pc := 340) (v := 0) hx hb dX1_search_340 (by decide) ?_
                  refine lv_iadd (pc := 341) hx hb dX1_search_341 ?_
                  refine m_astN (pc := 342) (v := ((su 22 many) + 0)) E hw 22 (many + 1) (by decide) rfl (show many + 1 < 11 from (by omega)) (by decide) dX1_search_342 (fun H locs hw => ?_)
                  refine lv_aload_n (pc := 343) hx hb dX1_search_343 rfl (lv_at hl 2 rfl) ?_
                  refine m_geta (pc := 344) E hw 20 (by decide) (by decide) q1112 dX1_search_344 ?_
                  refine lv_aload_n (pc := 347) hx hb dX1_search_347 rfl (lv_at hl 2 rfl) ?_
                  refine m_getv (pc := 348) (v := (nI (many + 1))) E hw 19 (by decide) rfl rfl q1111 dX1_search_348 ?_
                  refine lv_iconst (pc := 351) (v := (-1)) hx hb dX1_search_351 (by decide) ?_
                  refine m_astN (pc := 352) (v := (-1)) E hw 20 (many + 1) (by decide) rfl (show many + 1 < 11 from (by omega)) (by decide) dX1_search_352 (fun H locs hw => ?_)
                  refine lv_aload_n (pc := 353) hx hb dX1_search_353 rfl (lv_at hl 2 rfl) ?_
                  refine m_cVv (pc := 354) (As := []) (rest := []) E hml hl.1 hw (mt_judge l G (mu (mu (mu (mu (mu (mu (mu su 0 14 ((su 0 14) + 1)) 20 many (nI r)) 0 19 (nI (many + 1))) 21 (many + 1) (ldr su r (su 21 many))) 23 (many + 1) ((su 23 many) + (su 4 r))) 22 (many + 1) ((su 22 many) + 0)) 20 (many + 1) (-1)) (many + 1) rfl (by omega) (by show 1 ≤ (su 0 12).toNatClampNeg; rw [hv.2.2.1, nI_clamp (by omega)]; omega) (by show 0 ≤ (su 0 12).toInt ∧ (su 0 12).toInt ≤ 8; rw [hv.2.2.1, nI_toInt (by omega)]; omega)) q1329 q1331 qs32 q1332 hdX1_judge ⟨Nat.le_of_ble_eq_true rfl, Nat.le_of_ble_eq_true rfl⟩ rfl rfl rfl (Nat.le_of_ble_eq_true rfl) dX1_search_354 (fun H locs hw => ?_)
                  refine lv_goto (pc := 357) (tgt := 53) hx hb dX1_search_357 (by decide) ?_
                  have e0 : jdg (mu (mu (mu (mu (mu (mu (mu su 0 14 ((su 0 14) + 1)) 20 many (nI r)) 0 19 (nI (many + 1))) 21 (many + 1) (ldr su r (su 21 many))) 23 (many + 1) ((su 23 many) + (su 4 r))) 22 (many + 1) ((su 22 many) + 0)) 20 (many + 1) (-1)) (many + 1) = chd su many r := by
                    unfold chd ch0 fnx
                    simp only [if_neg c_12]
                  rw [e0] at hw
                  have e1 : cnd su many r = true := by simp only [cnd, if_pos c_3, if_neg c_4, if_pos c_6]
                  exact child c_11 e1 _ _ hw _ (lv_sub hl [2] rfl)
                · refine lv_aload_n (pc := 316) hx hb dX1_search_316 rfl (lv_at hl 2 rfl) ?_
                  refine m_geta (pc := 317) E hw 13 (by decide) (by decide) q1105 dX1_search_317 ?_
                  refine lv_aload_n (pc := 320) hx hb dX1_search_320 rfl (lv_at hl 2 rfl) ?_
                  refine m_geta (pc := 321) E hw 22 (by decide) (by decide) q1114 dX1_search_321 ?_
                  refine lv_aload_n (pc := 324) hx hb dX1_search_324 rfl (lv_at hl 2 rfl) ?_
                  refine m_getv (pc := 325) (v := (nI (many + 1))) E hw 19 (by decide) rfl rfl q1111 dX1_search_325 ?_
                  refine lv_iconst (pc := 328) (v := 1) hx hb dX1_search_328 (by decide) ?_
                  refine lv_isub (pc := 329) hx hb dX1_search_329 ?_
                  refine li_top (v' := .int (nI many)) (congrArg Value.int (nI_pred _)) ?_
                  refine m_aldN (pc := 330) (v := (su 22 many)) E hw 22 (many) (by decide) rfl (show many < 11 from (by omega)) (by decide) rfl dX1_search_330 ?_
                  refine m_ald (pc := 331) E hw 13 (by decide) rfl (show vp_in (su 22 many) 8 from vp_in_iff.mpr ⟨by omega, by omega⟩) dX1_search_331 ?_
                  refine li_top (v' := .int (su 13 (su 22 many).toNatClampNeg)) (by first | rfl | (rw [rfl]; rfl) | simp [mu]) ?_
                  refine lv_iload_n (pc := 332) hx hb dX1_search_332 rfl (lv_at hl 1 rfl) ?_
                  refine li_icne (pc := 333) (tgt := 340) hx hb dX1_search_333 (by decide) (fun c_13 => ?_) (fun c_13 => ?_)
                  · refine lv_iconst (pc := 340) (v := 0) hx hb dX1_search_340 (by decide) ?_
                    refine lv_iadd (pc := 341) hx hb dX1_search_341 ?_
                    refine m_astN (pc := 342) (v := ((su 22 many) + 0)) E hw 22 (many + 1) (by decide) rfl (show many + 1 < 11 from (by omega)) (by decide) dX1_search_342 (fun H locs hw => ?_)
                    refine lv_aload_n (pc := 343) hx hb dX1_search_343 rfl (lv_at hl 2 rfl) ?_
                    refine m_geta (pc := 344) E hw 20 (by decide) (by decide) q1112 dX1_search_344 ?_
                    refine lv_aload_n (pc := 347) hx hb dX1_search_347 rfl (lv_at hl 2 rfl) ?_
                    refine m_getv (pc := 348) (v := (nI (many + 1))) E hw 19 (by decide) rfl rfl q1111 dX1_search_348 ?_
                    refine lv_iconst (pc := 351) (v := (-1)) hx hb dX1_search_351 (by decide) ?_
                    refine m_astN (pc := 352) (v := (-1)) E hw 20 (many + 1) (by decide) rfl (show many + 1 < 11 from (by omega)) (by decide) dX1_search_352 (fun H locs hw => ?_)
                    refine lv_aload_n (pc := 353) hx hb dX1_search_353 rfl (lv_at hl 2 rfl) ?_
                    refine m_cVv (pc := 354) (As := []) (rest := []) E hml hl.1 hw (mt_judge l G (mu (mu (mu (mu (mu (mu (mu su 0 14 ((su 0 14) + 1)) 20 many (nI r)) 0 19 (nI (many + 1))) 21 (many + 1) (ldr su r (su 21 many))) 23 (many + 1) ((su 23 many) + (su 4 r))) 22 (many + 1) ((su 22 many) + 0)) 20 (many + 1) (-1)) (many + 1) rfl (by omega) (by show 1 ≤ (su 0 12).toNatClampNeg; rw [hv.2.2.1, nI_clamp (by omega)]; omega) (by show 0 ≤ (su 0 12).toInt ∧ (su 0 12).toInt ≤ 8; rw [hv.2.2.1, nI_toInt (by omega)]; omega)) q1329 q1331 qs32 q1332 hdX1_judge ⟨Nat.le_of_ble_eq_true rfl, Nat.le_of_ble_eq_true rfl⟩ rfl rfl rfl (Nat.le_of_ble_eq_true rfl) dX1_search_354 (fun H locs hw => ?_)
                    refine lv_goto (pc := 357) (tgt := 53) hx hb dX1_search_357 (by decide) ?_
                    have e0 : jdg (mu (mu (mu (mu (mu (mu (mu su 0 14 ((su 0 14) + 1)) 20 many (nI r)) 0 19 (nI (many + 1))) 21 (many + 1) (ldr su r (su 21 many))) 23 (many + 1) ((su 23 many) + (su 4 r))) 22 (many + 1) ((su 22 many) + 0)) 20 (many + 1) (-1)) (many + 1) = chd su many r := by
                      unfold chd ch0 fnx
                      simp only [if_pos c_12, if_neg c_13]
                    rw [e0] at hw
                    have e1 : cnd su many r = true := by simp only [cnd, if_pos c_3, if_neg c_4, if_pos c_6]
                    exact child c_11 e1 _ _ hw _ (lv_sub hl [2] rfl)
                  · refine lv_iconst (pc := 336) (v := 1) hx hb dX1_search_336 (by decide) ?_
                    refine lv_goto (pc := 337) (tgt := 341) hx hb dX1_search_337 (by decide) ?_
                    refine lv_iadd (pc := 341) hx hb dX1_search_341 ?_
                    refine m_astN (pc := 342) (v := ((su 22 many) + 1)) E hw 22 (many + 1) (by decide) rfl (show many + 1 < 11 from (by omega)) (by decide) dX1_search_342 (fun H locs hw => ?_)
                    refine lv_aload_n (pc := 343) hx hb dX1_search_343 rfl (lv_at hl 2 rfl) ?_
                    refine m_geta (pc := 344) E hw 20 (by decide) (by decide) q1112 dX1_search_344 ?_
                    refine lv_aload_n (pc := 347) hx hb dX1_search_347 rfl (lv_at hl 2 rfl) ?_
                    refine m_getv (pc := 348) (v := (nI (many + 1))) E hw 19 (by decide) rfl rfl q1111 dX1_search_348 ?_
                    refine lv_iconst (pc := 351) (v := (-1)) hx hb dX1_search_351 (by decide) ?_
                    refine m_astN (pc := 352) (v := (-1)) E hw 20 (many + 1) (by decide) rfl (show many + 1 < 11 from (by omega)) (by decide) dX1_search_352 (fun H locs hw => ?_)
                    refine lv_aload_n (pc := 353) hx hb dX1_search_353 rfl (lv_at hl 2 rfl) ?_
                    refine m_cVv (pc := 354) (As := []) (rest := []) E hml hl.1 hw (mt_judge l G (mu (mu (mu (mu (mu (mu (mu su 0 14 ((su 0 14) + 1)) 20 many (nI r)) 0 19 (nI (many + 1))) 21 (many + 1) (ldr su r (su 21 many))) 23 (many + 1) ((su 23 many) + (su 4 r))) 22 (many + 1) ((su 22 many) + 1)) 20 (many + 1) (-1)) (many + 1) rfl (by omega) (by show 1 ≤ (su 0 12).toNatClampNeg; rw [hv.2.2.1, nI_clamp (by omega)]; omega) (by show 0 ≤ (su 0 12).toInt ∧ (su 0 12).toInt ≤ 8; rw [hv.2.2.1, nI_toInt (by omega)]; omega)) q1329 q1331 qs32 q1332 hdX1_judge ⟨Nat.le_of_ble_eq_true rfl, Nat.le_of_ble_eq_true rfl⟩ rfl rfl rfl (Nat.le_of_ble_eq_true rfl) dX1_search_354 (fun H locs hw => ?_)
                    refine lv_goto (pc := 357) (tgt := 53) hx hb dX1_search_357 (by decide) ?_
                    have e0 : jdg (mu (mu (mu (mu (mu (mu (mu su 0 14 ((su 0 14) + 1)) 20 many (nI r)) 0 19 (nI (many + 1))) 21 (many + 1) (ldr su r (su 21 many))) 23 (many + 1) ((su 23 many) + (su 4 r))) 22 (many + 1) ((su 22 many) + 1)) 20 (many + 1) (-1)) (many + 1) = chd su many r := by
                      unfold chd ch0 fnx
                      simp only [if_pos c_12, if_pos c_13]
                    rw [e0] at hw
                    have e1 : cnd su many r = true := by simp only [cnd, if_pos c_3, if_neg c_4, if_pos c_6]
                    exact child c_11 e1 _ _ hw _ (lv_sub hl [2] rfl)
              · refine lv_iconst (pc := 210) (v := 0) hx hb dX1_search_210 (by decide) ?_
                have e1 : cnd su many r = true := by simp only [cnd, if_pos c_3, if_neg c_4, if_pos c_6]
                have e_ : lpm (dfm nR d (many + 1)) many (n + 1) r su = (su, false) := by simp only [lpm, if_pos e1, if_pos c_11]
                rw [e_, hKf]
                exact m_zret E hr hlk hw dX1_search_211 rfl (bI_f (by exact Bool.false_ne_true)).symm rfl
            · refine lv_aload_n (pc := 140) hx hb dX1_search_140 rfl (lv_at hl 1 rfl) ?_
              refine m_geta (pc := 141) E hw 23 (by decide) (by decide) q1115 dX1_search_141 ?_
              refine lv_aload_n (pc := 144) hx hb dX1_search_144 rfl (lv_at hl 1 rfl) ?_
              refine m_getv (pc := 145) (v := (nI many)) E hw 19 (by decide) rfl hv.1 q1111 dX1_search_145 ?_
              refine m_aldN (pc := 148) (v := (su 23 many)) E hw 23 (many) (by decide) rfl (show many < 11 from (by omega)) (by decide) rfl dX1_search_148 ?_
              refine lv_aload_n (pc := 149) hx hb dX1_search_149 rfl (lv_at hl 1 rfl) ?_
              refine m_geta (pc := 150) E hw 4 (by decide) (by decide) q1096 dX1_search_150 ?_
              refine lv_iload_n (pc := 153) hx hb dX1_search_153 rfl (lv_at hl 2 rfl) ?_
              refine m_aldN (pc := 154) (v := (su 4 r)) E hw 4 (r) (by decide) rfl (show r < 16 from (by omega)) (by decide) rfl dX1_search_154 ?_
              refine lv_iadd (pc := 155) hx hb dX1_search_155 ?_
              refine lv_aload_n (pc := 156) hx hb dX1_search_156 rfl (lv_at hl 1 rfl) ?_
              refine m_getv (pc := 157) (v := (su 0 15)) E hw 15 (by decide) rfl rfl q1107 dX1_search_157 ?_
              refine li_icmp_le (pc := 160) (tgt := 167) hx hb dX1_search_160 (by decide) (fun c_14 => ?_) (fun c_14 => ?_)
              · refine lv_iload_n (pc := 167) hx hb dX1_search_167 rfl (lv_at hl 0 rfl) ?_
                refine lv_istore_n (pc := 168) (lv' := [(2, .int (ldr su r (su 21 many))), (0, .ref G.1), (1, .int (nI r))]) hx hb dX1_search_168 rfl hl (by decide) rfl (fun ls hl => ?_)
                refine lv_iload_n (pc := 169) hx hb dX1_search_169 rfl (lv_at hl 2 rfl) ?_
                refine lv_iload_n (pc := 170) hx hb dX1_search_170 rfl (lv_at hl 0 rfl) ?_
                refine li_if_ge (pc := 171) (tgt := 178) hx hb dX1_search_171 (by decide) (fun c_15 => ?_) (fun c_15 => absurd c_15 c_4)
                refine lv_iconst (pc := 178) (v := 0) hx hb dX1_search_178 (by decide) ?_
                refine li_addN (pc := 179) (a := r) (b := 0) hx hb dX1_search_179 ?_
                refine li_top (v' := .int (nI r)) rfl ?_
                refine lv_istore_n (pc := 180) (lv' := [(1, .int (nI r)), (2, .int (ldr su r (su 21 many))), (0, .ref G.1)]) hx hb dX1_search_180 rfl hl (by decide) rfl (fun ls hl => ?_)
                refine lv_goto (pc := 181) (tgt := 90) hx hb dX1_search_181 (by decide) ?_
                refine lv_iload_n (pc := 90) hx hb dX1_search_90 rfl (lv_at hl 0 rfl) ?_
                refine lv_aload_n (pc := 91) hx hb dX1_search_91 rfl (lv_at hl 2 rfl) ?_
                refine m_getv (pc := 92) (v := (nI nR)) E hw 1 (by decide) rfl hv.2.1 q1093 dX1_search_92 ?_
                refine li_icmp_geN (pc := 95) (a := r) (b := nR) (tgt := 184) hx hb (by omega) (by omega) dX1_search_95 (by decide) (fun c_16 => absurd (by omega) c_16) (fun c_16 => ?_)
                refine lv_iload_n (pc := 98) hx hb dX1_search_98 rfl (lv_at hl 1 rfl) ?_
                refine li_if_ge (pc := 99) (tgt := 184) hx hb dX1_search_99 (by decide) (fun c_17 => ?_) (fun c_17 => absurd c_17 (by assumption))
                refine lv_iload_n (pc := 184) hx hb dX1_search_184 rfl (lv_at hl 1 rfl) ?_
                refine li_if_ge (pc := 185) (tgt := 201) hx hb dX1_search_185 (by decide) (fun c_18 => ?_) (fun c_18 => absurd c_18 (by assumption))
                refine lv_aload_n (pc := 201) hx hb dX1_search_201 rfl (lv_at hl 2 rfl) ?_
                refine m_getv (pc := 202) (v := (su 0 14)) E hw 14 (by decide) rfl rfl q1106 dX1_search_202 ?_
                refine lv_ldc (pc := 205) hx hb hown (hts _ q1328) dX1_search_205 ?_
                refine li_icne (pc := 207) (tgt := 212) hx hb dX1_search_207 (by decide) (fun c_19 => ?_) (fun c_19 => ?_)
                · refine lv_aload_n (pc := 212) hx hb dX1_search_212 rfl (lv_at hl 2 rfl) ?_
                  refine lv_dup (pc := 213) hx hb dX1_search_213 rfl ?_
                  refine m_getv (pc := 214) (v := (su 0 14)) E hw 14 (by decide) rfl rfl q1106 dX1_search_214 ?_
                  refine lv_iconst (pc := 217) (v := 1) hx hb dX1_search_217 (by decide) ?_
                  refine lv_iadd (pc := 218) hx hb dX1_search_218 ?_
                  refine m_put (pc := 219) (v := ((su 0 14) + 1)) E hw 14 (by decide) rfl rfl rfl q1106 dX1_search_219 (fun H locs hw => ?_)
                  refine lv_aload_n (pc := 222) hx hb dX1_search_222 rfl (lv_at hl 2 rfl) ?_
                  refine m_geta (pc := 223) E hw 20 (by decide) (by decide) q1112 dX1_search_223 ?_
                  refine lv_aload_n (pc := 226) hx hb dX1_search_226 rfl (lv_at hl 2 rfl) ?_
                  refine m_getv (pc := 227) (v := (nI many)) E hw 19 (by decide) rfl hv.1 q1111 dX1_search_227 ?_
                  refine lv_iload_n (pc := 230) hx hb dX1_search_230 rfl (lv_at hl 0 rfl) ?_
                  refine m_astN (pc := 231) (v := (nI r)) E hw 20 (many) (by decide) rfl (show many < 11 from (by omega)) (by decide) dX1_search_231 (fun H locs hw => ?_)
                  refine lv_aload_n (pc := 232) hx hb dX1_search_232 rfl (lv_at hl 2 rfl) ?_
                  refine lv_dup (pc := 233) hx hb dX1_search_233 rfl ?_
                  refine m_getv (pc := 234) (v := (nI many)) E hw 19 (by decide) rfl hv.1 q1111 dX1_search_234 ?_
                  refine lv_iconst (pc := 237) (v := 1) hx hb dX1_search_237 (by decide) ?_
                  refine li_addN (pc := 238) (a := many) (b := 1) hx hb dX1_search_238 ?_
                  refine m_put (pc := 239) (v := (nI (many + 1))) E hw 19 (by decide) rfl rfl rfl q1111 dX1_search_239 (fun H locs hw => ?_)
                  refine lv_aload_n (pc := 242) hx hb dX1_search_242 rfl (lv_at hl 2 rfl) ?_
                  refine m_geta (pc := 243) E hw 21 (by decide) (by decide) q1113 dX1_search_243 ?_
                  refine lv_aload_n (pc := 246) hx hb dX1_search_246 rfl (lv_at hl 2 rfl) ?_
                  refine m_getv (pc := 247) (v := (nI (many + 1))) E hw 19 (by decide) rfl rfl q1111 dX1_search_247 ?_
                  refine lv_iload_n (pc := 250) hx hb dX1_search_250 rfl (lv_at hl 1 rfl) ?_
                  refine m_astN (pc := 251) (v := (ldr su r (su 21 many))) E hw 21 (many + 1) (by decide) rfl (show many + 1 < 11 from (by omega)) (by decide) dX1_search_251 (fun H locs hw => ?_)
                  refine lv_aload_n (pc := 252) hx hb dX1_search_252 rfl (lv_at hl 2 rfl) ?_
                  refine m_geta (pc := 253) E hw 23 (by decide) (by decide) q1115 dX1_search_253 ?_
                  refine lv_aload_n (pc := 256) hx hb dX1_search_256 rfl (lv_at hl 2 rfl) ?_
                  refine m_getv (pc := 257) (v := (nI (many + 1))) E hw 19 (by decide) rfl rfl q1111 dX1_search_257 ?_
                  refine lv_aload_n (pc := 260) hx hb dX1_search_260 rfl (lv_at hl 2 rfl) ?_
                  refine m_geta (pc := 261) E hw 23 (by decide) (by decide) q1115 dX1_search_261 ?_
                  refine lv_aload_n (pc := 264) hx hb dX1_search_264 rfl (lv_at hl 2 rfl) ?_
                  refine m_getv (pc := 265) (v := (nI (many + 1))) E hw 19 (by decide) rfl rfl q1111 dX1_search_265 ?_
                  refine lv_iconst (pc := 268) (v := 1) hx hb dX1_search_268 (by decide) ?_
                  refine lv_isub (pc := 269) hx hb dX1_search_269 ?_
                  refine li_top (v' := .int (nI many)) (congrArg Value.int (nI_pred _)) ?_
                  refine m_aldN (pc := 270) (v := (su 23 many)) E hw 23 (many) (by decide) rfl (show many < 11 from (by omega)) (by decide) rfl dX1_search_270 ?_
                  refine lv_aload_n (pc := 271) hx hb dX1_search_271 rfl (lv_at hl 2 rfl) ?_
                  refine m_geta (pc := 272) E hw 4 (by decide) (by decide) q1096 dX1_search_272 ?_
                  refine lv_iload_n (pc := 275) hx hb dX1_search_275 rfl (lv_at hl 0 rfl) ?_
                  refine m_aldN (pc := 276) (v := (su 4 r)) E hw 4 (r) (by decide) rfl (show r < 16 from (by omega)) (by decide) rfl dX1_search_276 ?_
                  refine lv_iadd (pc := 277) hx hb dX1_search_277 ?_
                  refine m_astN (pc := 278) (v := ((su 23 many) + (su 4 r))) E hw 23 (many + 1) (by decide) rfl (show many + 1 < 11 from (by omega)) (by decide) dX1_search_278 (fun H locs hw => ?_)
                  refine lv_aload_n (pc := 279) hx hb dX1_search_279 rfl (lv_at hl 2 rfl) ?_
                  refine m_geta (pc := 280) E hw 22 (by decide) (by decide) q1114 dX1_search_280 ?_
                  refine lv_aload_n (pc := 283) hx hb dX1_search_283 rfl (lv_at hl 2 rfl) ?_
                  refine m_getv (pc := 284) (v := (nI (many + 1))) E hw 19 (by decide) rfl rfl q1111 dX1_search_284 ?_
                  refine lv_aload_n (pc := 287) hx hb dX1_search_287 rfl (lv_at hl 2 rfl) ?_
                  refine m_geta (pc := 288) E hw 22 (by decide) (by decide) q1114 dX1_search_288 ?_
                  refine lv_aload_n (pc := 291) hx hb dX1_search_291 rfl (lv_at hl 2 rfl) ?_
                  refine m_getv (pc := 292) (v := (nI (many + 1))) E hw 19 (by decide) rfl rfl q1111 dX1_search_292 ?_
                  refine lv_iconst (pc := 295) (v := 1) hx hb dX1_search_295 (by decide) ?_
                  refine lv_isub (pc := 296) hx hb dX1_search_296 ?_
                  refine li_top (v' := .int (nI many)) (congrArg Value.int (nI_pred _)) ?_
                  refine m_aldN (pc := 297) (v := (su 22 many)) E hw 22 (many) (by decide) rfl (show many < 11 from (by omega)) (by decide) rfl dX1_search_297 ?_
                  refine lv_aload_n (pc := 298) hx hb dX1_search_298 rfl (lv_at hl 2 rfl) ?_
                  refine m_geta (pc := 299) E hw 22 (by decide) (by decide) q1114 dX1_search_299 ?_
                  refine lv_aload_n (pc := 302) hx hb dX1_search_302 rfl (lv_at hl 2 rfl) ?_
                  refine m_getv (pc := 303) (v := (nI (many + 1))) E hw 19 (by decide) rfl rfl q1111 dX1_search_303 ?_
                  refine lv_iconst (pc := 306) (v := 1) hx hb dX1_search_306 (by decide) ?_
                  refine lv_isub (pc := 307) hx hb dX1_search_307 ?_
                  refine li_top (v' := .int (nI many)) (congrArg Value.int (nI_pred _)) ?_
                  refine m_aldN (pc := 308) (v := (su 22 many)) E hw 22 (many) (by decide) rfl (show many < 11 from (by omega)) (by decide) rfl dX1_search_308 ?_
                  refine lv_aload_n (pc := 309) hx hb dX1_search_309 rfl (lv_at hl 2 rfl) ?_
                  refine m_getv (pc := 310) (v := (su 0 12)) E hw 12 (by decide) rfl rfl q1104 dX1_search_310 ?_
                  refine li_icmp_ge (pc := 313) (tgt := 340) hx hb dX1_search_313 (by decide) (fun c_20 => ?_) (fun c_20 => ?_)
                  · refine lv_iconst (pc := 340) (v := 0) hx hb dX1_search_340 (by decide) ?_
                    refine lv_iadd (pc := 341) hx hb dX1_search_341 ?_
                    refine m_astN (pc := 342) (v := ((su 22 many) + 0)) E hw 22 (many + 1) (by decide) rfl (show many + 1 < 11 from (by omega)) (by decide) dX1_search_342 (fun H locs hw => ?_)
                    refine lv_aload_n (pc := 343) hx hb dX1_search_343 rfl (lv_at hl 2 rfl) ?_
                    refine m_geta (pc := 344) E hw 20 (by decide) (by decide) q1112 dX1_search_344 ?_
                    refine lv_aload_n (pc := 347) hx hb dX1_search_347 rfl (lv_at hl 2 rfl) ?_
                    refine m_getv (pc := 348) (v := (nI (many + 1))) E hw 19 (by decide) rfl rfl q1111 dX1_search_348 ?_
                    refine lv_iconst (pc := 351) (v := (-1)) hx hb dX1_search_351 (by decide) ?_
                    refine m_astN (pc := 352) (v := (-1)) E hw 20 (many + 1) (by decide) rfl (show many + 1 < 11 from (by omega)) (by decide) dX1_search_352 (fun H locs hw => ?_)
                    refine lv_aload_n (pc := 353) hx hb dX1_search_353 rfl (lv_at hl 2 rfl) ?_
                    refine m_cVv (pc := 354) (As := []) (rest := []) E hml hl.1 hw (mt_judge l G (mu (mu (mu (mu (mu (mu (mu su 0 14 ((su 0 14) + 1)) 20 many (nI r)) 0 19 (nI (many + 1))) 21 (many + 1) (ldr su r (su 21 many))) 23 (many + 1) ((su 23 many) + (su 4 r))) 22 (many + 1) ((su 22 many) + 0)) 20 (many + 1) (-1)) (many + 1) rfl (by omega) (by show 1 ≤ (su 0 12).toNatClampNeg; rw [hv.2.2.1, nI_clamp (by omega)]; omega) (by show 0 ≤ (su 0 12).toInt ∧ (su 0 12).toInt ≤ 8; rw [hv.2.2.1, nI_toInt (by omega)]; omega)) q1329 q1331 qs32 q1332 hdX1_judge ⟨Nat.le_of_ble_eq_true rfl, Nat.le_of_ble_eq_true rfl⟩ rfl rfl rfl (Nat.le_of_ble_eq_true rfl) dX1_search_354 (fun H locs hw => ?_)
                    refine lv_goto (pc := 357) (tgt := 53) hx hb dX1_search_357 (by decide) ?_
                    have e0 : jdg (mu (mu (mu (mu (mu (mu (mu su 0 14 ((su 0 14) + 1)) 20 many (nI r)) 0 19 (nI (many + 1))) 21 (many + 1) (ldr su r (su 21 many))) 23 (many + 1) ((su 23 many) + (su 4 r))) 22 (many + 1) ((su 22 many) + 0)) 20 (many + 1) (-1)) (many + 1) = chd su many r := by
                      unfold chd ch0 fnx
                      simp only [if_neg c_20]
                    rw [e0] at hw
                    have e1 : cnd su many r = true := by simp only [cnd, if_pos c_3, if_neg c_4, if_neg c_6, if_neg c_14]
                    exact child c_19 e1 _ _ hw _ (lv_sub hl [2] rfl)
                  · refine lv_aload_n (pc := 316) hx hb dX1_search_316 rfl (lv_at hl 2 rfl) ?_
                    refine m_geta (pc := 317) E hw 13 (by decide) (by decide) q1105 dX1_search_317 ?_
                    refine lv_aload_n (pc := 320) hx hb dX1_search_320 rfl (lv_at hl 2 rfl) ?_
                    refine m_geta (pc := 321) E hw 22 (by decide) (by decide) q1114 dX1_search_321 ?_
                    refine lv_aload_n (pc := 324) hx hb dX1_search_324 rfl (lv_at hl 2 rfl) ?_
                    refine m_getv (pc := 325) (v := (nI (many + 1))) E hw 19 (by decide) rfl rfl q1111 dX1_search_325 ?_
                    refine lv_iconst (pc := 328) (v := 1) hx hb dX1_search_328 (by decide) ?_
                    refine lv_isub (pc := 329) hx hb dX1_search_329 ?_
                    refine li_top (v' := .int (nI many)) (congrArg Value.int (nI_pred _)) ?_
                    refine m_aldN (pc := 330) (v := (su 22 many)) E hw 22 (many) (by decide) rfl (show many < 11 from (by omega)) (by decide) rfl dX1_search_330 ?_
                    refine m_ald (pc := 331) E hw 13 (by decide) rfl (show vp_in (su 22 many) 8 from vp_in_iff.mpr ⟨by omega, by omega⟩) dX1_search_331 ?_
                    refine li_top (v' := .int (su 13 (su 22 many).toNatClampNeg)) (by first | rfl | (rw [rfl]; rfl) | simp [mu]) ?_
                    refine lv_iload_n (pc := 332) hx hb dX1_search_332 rfl (lv_at hl 1 rfl) ?_
                    refine li_icne (pc := 333) (tgt := 340) hx hb dX1_search_333 (by decide) (fun c_21 => ?_) (fun c_21 => ?_)
                    · refine lv_iconst (pc := 340) (v := 0) hx hb dX1_search_340 (by decide) ?_
                      refine lv_iadd (pc := 341) hx hb dX1_search_341 ?_
                      refine m_astN (pc := 342) (v := ((su 22 many) + 0)) E hw 22 (many + 1) (by decide) rfl (show many + 1 < 11 from (by omega)) (by decide) dX1_search_342 (fun H locs hw => ?_)
                      refine lv_aload_n (pc := 343) hx hb dX1_search_343 rfl (lv_at hl 2 rfl) ?_
                      refine m_geta (pc := 344) E hw 20 (by decide) (by decide) q1112 dX1_search_344 ?_
                      refine lv_aload_n (pc := 347) hx hb dX1_search_347 rfl (lv_at hl 2 rfl) ?_
                      refine m_getv (pc := 348) (v := (nI (many + 1))) E hw 19 (by decide) rfl rfl q1111 dX1_search_348 ?_
                      refine lv_iconst (pc := 351) (v := (-1)) hx hb dX1_search_351 (by decide) ?_
                      refine m_astN (pc := 352) (v := (-1)) E hw 20 (many + 1) (by decide) rfl (show many + 1 < 11 from (by omega)) (by decide) dX1_search_352 (fun H locs hw => ?_)
                      refine lv_aload_n (pc := 353) hx hb dX1_search_353 rfl (lv_at hl 2 rfl) ?_
                      refine m_cVv (pc := 354) (As := []) (rest := []) E hml hl.1 hw (mt_judge l G (mu (mu (mu (mu (mu (mu (mu su 0 14 ((su 0 14) + 1)) 20 many (nI r)) 0 19 (nI (many + 1))) 21 (many + 1) (ldr su r (su 21 many))) 23 (many + 1) ((su 23 many) + (su 4 r))) 22 (many + 1) ((su 22 many) + 0)) 20 (many + 1) (-1)) (many + 1) rfl (by omega) (by show 1 ≤ (su 0 12).toNatClampNeg; rw [hv.2.2.1, nI_clamp (by omega)]; omega) (by show 0 ≤ (su 0 12).toInt ∧ (su 0 12).toInt ≤ 8; rw [hv.2.2.1, nI_toInt (by omega)]; omega)) q1329 q1331 qs32 q1332 hdX1_judge ⟨Nat.le_of_ble_eq_true rfl, Nat.le_of_ble_eq_true rfl⟩ rfl rfl rfl (Nat.le_of_ble_eq_true rfl) dX1_search_354 (fun H locs hw => ?_)
                      refine lv_goto (pc := 357) (tgt := 53) hx hb dX1_search_357 (by decide) ?_
                      have e0 : jdg (mu (mu (mu (mu (mu (mu (mu su 0 14 ((su 0 14) + 1)) 20 many (nI r)) 0 19 (nI (many + 1))) 21 (many + 1) (ldr su r (su 21 many))) 23 (many + 1) ((su 23 many) + (su 4 r))) 22 (many + 1) ((su 22 many) + 0)) 20 (many + 1) (-1)) (many + 1) = chd su many r := by
                        unfold chd ch0 fnx
                        simp only [if_pos c_20, if_neg c_21]
                      rw [e0] at hw
                      have e1 : cnd su many r = true := by simp only [cnd, if_pos c_3, if_neg c_4, if_neg c_6, if_neg c_14]
                      exact child c_19 e1 _ _ hw _ (lv_sub hl [2] rfl)
                    · refine lv_iconst (pc := 336) (v := 1) hx hb dX1_search_336 (by decide) ?_
                      refine lv_goto (pc := 337) (tgt := 341) hx hb dX1_search_337 (by decide) ?_
                      refine lv_iadd (pc := 341) hx hb dX1_search_341 ?_
                      refine m_astN (pc := 342) (v := ((su 22 many) + 1)) E hw 22 (many + 1) (by decide) rfl (show many + 1 < 11 from (by omega)) (by decide) dX1_search_342 (fun H locs hw => ?_)
                      refine lv_aload_n (pc := 343) hx hb dX1_search_343 rfl (lv_at hl 2 rfl) ?_
                      refine m_geta (pc := 344) E hw 20 (by decide) (by decide) q1112 dX1_search_344 ?_
                      refine lv_aload_n (pc := 347) hx hb dX1_search_347 rfl (lv_at hl 2 rfl) ?_
                      refine m_getv (pc := 348) (v := (nI (many + 1))) E hw 19 (by decide) rfl rfl q1111 dX1_search_348 ?_
                      refine lv_iconst (pc := 351) (v := (-1)) hx hb dX1_search_351 (by decide) ?_
                      refine m_astN (pc := 352) (v := (-1)) E hw 20 (many + 1) (by decide) rfl (show many + 1 < 11 from (by omega)) (by decide) dX1_search_352 (fun H locs hw => ?_)
                      refine lv_aload_n (pc := 353) hx hb dX1_search_353 rfl (lv_at hl 2 rfl) ?_
                      refine m_cVv (pc := 354) (As := []) (rest := []) E hml hl.1 hw (mt_judge l G (mu (mu (mu (mu (mu (mu (mu su 0 14 ((su 0 14) + 1)) 20 many (nI r)) 0 19 (nI (many + 1))) 21 (many + 1) (ldr su r (su 21 many))) 23 (many + 1) ((su 23 many) + (su 4 r))) 22 (many + 1) ((su 22 many) + 1)) 20 (many + 1) (-1)) (many + 1) rfl (by omega) (by show 1 ≤ (su 0 12).toNatClampNeg; rw [hv.2.2.1, nI_clamp (by omega)]; omega) (by show 0 ≤ (su 0 12).toInt ∧ (su 0 12).toInt ≤ 8; rw [hv.2.2.1, nI_toInt (by omega)]; omega)) q1329 q1331 qs32 q1332 hdX1_judge ⟨Nat.le_of_ble_eq_true rfl, Nat.le_of_ble_eq_true rfl⟩ rfl rfl rfl (Nat.le_of_ble_eq_true rfl) dX1_search_354 (fun H locs hw => ?_)
                      refine lv_goto (pc := 357) (tgt := 53) hx hb dX1_search_357 (by decide) ?_
                      have e0 : jdg (mu (mu (mu (mu (mu (mu (mu su 0 14 ((su 0 14) + 1)) 20 many (nI r)) 0 19 (nI (many + 1))) 21 (many + 1) (ldr su r (su 21 many))) 23 (many + 1) ((su 23 many) + (su 4 r))) 22 (many + 1) ((su 22 many) + 1)) 20 (many + 1) (-1)) (many + 1) = chd su many r := by
                        unfold chd ch0 fnx
                        simp only [if_pos c_20, if_pos c_21]
                      rw [e0] at hw
                      have e1 : cnd su many r = true := by simp only [cnd, if_pos c_3, if_neg c_4, if_neg c_6, if_neg c_14]
                      exact child c_19 e1 _ _ hw _ (lv_sub hl [2] rfl)
                · refine lv_iconst (pc := 210) (v := 0) hx hb dX1_search_210 (by decide) ?_
                  have e1 : cnd su many r = true := by simp only [cnd, if_pos c_3, if_neg c_4, if_neg c_6, if_neg c_14]
                  have e_ : lpm (dfm nR d (many + 1)) many (n + 1) r su = (su, false) := by simp only [lpm, if_pos e1, if_pos c_19]
                  rw [e_, hKf]
                  exact m_zret E hr hlk hw dX1_search_211 rfl (bI_f (by exact Bool.false_ne_true)).symm rfl
              · refine lv_iconst (pc := 163) (v := (-1)) hx hb dX1_search_163 (by decide) ?_
                refine lv_goto (pc := 164) (tgt := 168) hx hb dX1_search_164 (by decide) ?_
                refine lv_istore_n (pc := 168) (lv' := [(2, .int (-1)), (0, .ref G.1), (1, .int (nI r))]) hx hb dX1_search_168 rfl hl (by decide) rfl (fun ls hl => ?_)
                refine lv_iload_n (pc := 169) hx hb dX1_search_169 rfl (lv_at hl 2 rfl) ?_
                refine lv_iload_n (pc := 170) hx hb dX1_search_170 rfl (lv_at hl 0 rfl) ?_
                refine li_if_ge (pc := 171) (tgt := 178) hx hb dX1_search_171 (by decide) (fun h_ => absurd h_ (by decide)) (fun _ => ?_)
                refine lv_iconst (pc := 174) (v := 1) hx hb dX1_search_174 (by decide) ?_
                refine lv_goto (pc := 175) (tgt := 179) hx hb dX1_search_175 (by decide) ?_
                refine li_addN (pc := 179) (a := r) (b := 1) hx hb dX1_search_179 ?_
                refine lv_istore_n (pc := 180) (lv' := [(1, .int (nI (r + 1))), (2, .int (-1)), (0, .ref G.1)]) hx hb dX1_search_180 rfl hl (by decide) rfl (fun ls hl => ?_)
                refine lv_goto (pc := 181) (tgt := 90) hx hb dX1_search_181 (by decide) ?_
                have e_ : lpm (dfm nR d (many + 1)) many (n + 1) r su = lpm (dfm nR d (many + 1)) many n (r + 1) su := by
                  have e1 : cnd su many r = false := by simp only [cnd, if_pos c_3, if_neg c_4, if_neg c_6, if_pos c_14]
                  simp only [lpm, e1, if_false, Bool.false_eq_true]
                rw [e_]
                exact ihn (r + 1) (-1) su (by omega) hv (by decide) (fun u hu => hKt u (e_.trans hu)) _ _ hw _ (lv_sub hl [2, 0, 1] rfl)
        · refine lv_iconst (pc := 110) (v := (-1)) hx hb dX1_search_110 (by decide) ?_
          refine lv_goto (pc := 111) (tgt := 128) hx hb dX1_search_111 (by decide) ?_
          refine lv_istore_n (pc := 128) (lv' := [(2, .int (-1)), (0, .ref G.1), (1, .int (nI r))]) hx hb dX1_search_128 rfl hl (by decide) rfl (fun ls hl => ?_)
          refine lv_iload_n (pc := 129) hx hb dX1_search_129 rfl (lv_at hl 0 rfl) ?_
          refine li_if_lt (pc := 130) (tgt := 167) hx hb dX1_search_130 (by decide) (fun _ => ?_) (fun h_ => absurd h_ (by decide))
          refine lv_iload_n (pc := 167) hx hb dX1_search_167 rfl (lv_at hl 0 rfl) ?_
          refine lv_istore_n (pc := 168) (lv' := [(2, .int (-1)), (0, .ref G.1), (1, .int (nI r))]) hx hb dX1_search_168 rfl hl (by decide) rfl (fun ls hl => ?_)
          refine lv_iload_n (pc := 169) hx hb dX1_search_169 rfl (lv_at hl 2 rfl) ?_
          refine lv_iload_n (pc := 170) hx hb dX1_search_170 rfl (lv_at hl 0 rfl) ?_
          refine li_if_ge (pc := 171) (tgt := 178) hx hb dX1_search_171 (by decide) (fun h_ => absurd h_ (by decide)) (fun _ => ?_)
          refine lv_iconst (pc := 174) (v := 1) hx hb dX1_search_174 (by decide) ?_
          refine lv_goto (pc := 175) (tgt := 179) hx hb dX1_search_175 (by decide) ?_
          refine li_addN (pc := 179) (a := r) (b := 1) hx hb dX1_search_179 ?_
          refine lv_istore_n (pc := 180) (lv' := [(1, .int (nI (r + 1))), (2, .int (-1)), (0, .ref G.1)]) hx hb dX1_search_180 rfl hl (by decide) rfl (fun ls hl => ?_)
          refine lv_goto (pc := 181) (tgt := 90) hx hb dX1_search_181 (by decide) ?_
          have e_ : lpm (dfm nR d (many + 1)) many (n + 1) r su = lpm (dfm nR d (many + 1)) many n (r + 1) su := by
            have e1 : cnd su many r = false := by simp only [cnd, if_neg c_3]
            simp only [lpm, e1, if_false, Bool.false_eq_true]
          rw [e_]
          exact ihn (r + 1) (-1) su (by omega) hv (by decide) (fun u hu => hKt u (e_.trans hu)) _ _ hw _ (lv_sub hl [2, 0, 1] rfl)
    intro H locs hw ls hl
    refine lv_aload_n (pc := 53) hx hb dX1_search_53 rfl (lv_at hl 0 rfl) ?_
    refine m_getv (pc := 54) (v := (nI many)) E hw 19 (by decide) rfl hv.1 q1111 dX1_search_54 ?_
    refine li_if_lt (pc := 57) (tgt := 360) hx hb dX1_search_57 (by decide) (fun c_1 => absurd c_1 (by rw [nI_toInt (by omega)]; omega)) (fun c_1 => ?_)
    refine lv_aload_n (pc := 60) hx hb dX1_search_60 rfl (lv_at hl 0 rfl) ?_
    refine m_getv (pc := 61) (v := (nI many)) E hw 19 (by decide) rfl hv.1 q1111 dX1_search_61 ?_
    refine lv_bipush (pc := 64) (v := 10) hx hb dX1_search_64 (by decide) ?_
    refine li_icmp_neN (pc := 66) (a := many) (b := 10) (tgt := 76) hx hb (by omega) (by omega) dX1_search_66 (by decide) (fun c_2 => ?_) (fun c_2 => absurd (show many = 10 from c_2) (by omega))
    refine lv_aload_n (pc := 76) hx hb dX1_search_76 rfl (lv_at hl 0 rfl) ?_
    refine m_geta (pc := 77) E hw 20 (by decide) (by decide) q1112 dX1_search_77 ?_
    refine lv_aload_n (pc := 80) hx hb dX1_search_80 rfl (lv_at hl 0 rfl) ?_
    refine m_getv (pc := 81) (v := (nI many)) E hw 19 (by decide) rfl hv.1 q1111 dX1_search_81 ?_
    refine m_aldN (pc := 84) (v := (-1)) E hw 20 (many) (by decide) rfl (show many < 11 from (by omega)) (by decide) hrow dX1_search_84 ?_
    refine lv_iconst (pc := 85) (v := 1) hx hb dX1_search_85 (by decide) ?_
    refine lv_iadd (pc := 86) hx hb dX1_search_86 ?_
    refine li_top (v' := .int 0) (by decide) ?_
    refine lv_istore_n (pc := 87) (lv' := [(1, .int 0), (0, .ref G.1)]) hx hb dX1_search_87 rfl hl (by decide) rfl (fun ls hl => ?_)
    refine lv_iconst (pc := 88) (v := (-1)) hx hb dX1_search_88 (by decide) ?_
    refine lv_istore_n (pc := 89) (lv' := [(2, .int (-1)), (1, .int 0), (0, .ref G.1)]) hx hb dX1_search_89 rfl hl (by decide) rfl (fun ls hl => ?_)
    exact key nR 0 (-1) st (by omega) hv (by decide) hKt _ _ hw _ (lv_sub hl [2, 1, 0] rfl)
