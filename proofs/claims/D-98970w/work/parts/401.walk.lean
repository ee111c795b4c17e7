set_option maxRecDepth 100000
abbrev rm_X0_puts : Room := { frames := 0, cells := 0, slots := 0, locals := 0 }
def fx_X0_puts_L3 (v1 : Int32) : Nat → Int32 → gw_S → Option (gw_S)
  | 0, _, _ => none
  | n + 1, c2, σ => (if c2 < 0 then some σ else gw_ck (σ.1 0 2) 900 (gw_let (gw_u σ 2 (Int32.toNatClampNeg (σ.1 0 2)) (vp_nar .byte ((Int32.toInt8 (v1 >>> (c2 &&& 31))).toInt32))) (fun σ1 => fx_X0_puts_L3 v1 n (c2 + (-8)) (gw_u σ1 0 2 ((σ1.1 0 2) + (1 : Int32))))))
def fx_X0_puts (σ : gw_S) (x1 : Int32) : Option (gw_S) := fx_X0_puts_L3 x1 1000 (24 : Int32) σ
set_option maxHeartbeats 4000000 in
theorem wk_X0_puts_L3 {E : gw_E} {l : Launch} {D : gw_D} {a : Nat → Nat} {Wr : va_W → Prop} {res : gw_S} (X : gw_X E cX0_puts 3 RX0 none l D rm_X0_puts (some (gw_pV (gw_st (wX D a res) Wr)))) {v1 : Int32} : ∀ {n : Nat} {c2 : Int32} {σ : gw_S}, fx_X0_puts_L3 v1 n c2 σ = some res → gw_W E 3 [(0, .ref (a 0)), (1, .int v1), (2, .int c2)] [] (gw_st (wX D a σ) Wr) 0 0 := by
  intro n
  induction n with
  | zero =>
    intro c2 σ hp
    cases (show none = some res from hp)
  | succ n ih =>
    intro c2 σ hp
    rw [fx_X0_puts_L3] at hp
    refine gw_iload_n X 4 2 dX0_puts_3 rfl rfl rfl ?_
    refine gw_if_lt X 36 7 dX0_puts_4 rfl rfl (fun z => ?_) (fun z => ?_)
    · replace hp := gw_t z hp
      cases hp
      exact gw_vret X dX0_puts_36 (fun _ h => ⟨rfl, h⟩) (Nat.le_of_ble_eq_true rfl) (Nat.le_of_ble_eq_true rfl)
    · replace hp := gw_f z hp
      refine gw_aload_n X 8 0 dX0_puts_7 rfl rfl rfl ?_
      refine gX_g0_1 X 11 q282 dX0_puts_8 rfl ?_
      refine gw_aload_n X 12 0 dX0_puts_11 rfl rfl rfl ?_
      refine gX_g0_2 X 15 q284 dX0_puts_12 rfl ?_
      refine gw_iload_n X 16 1 dX0_puts_15 rfl rfl rfl ?_
      refine gw_iload_n X 17 2 dX0_puts_16 rfl rfl rfl ?_
      refine gw_ishr X 18 dX0_puts_17 rfl ?_
      refine gw_i2b X 19 dX0_puts_18 rfl ?_
      obtain ⟨hc, hp⟩ := gw_ck_some hp
      refine gX_s2 X 20 (Int32.toNatClampNeg (σ.1 0 2)) hc rfl dX0_puts_19 rfl ?_
      refine gw_aload_n X 21 0 dX0_puts_20 rfl rfl rfl ?_
      refine gw_dup X 22 dX0_puts_21 rfl rfl ?_
      obtain ⟨σ1, h2, hp⟩ := gw_let_some hp
      rw [← h2]
      clear h2
      refine gX_g0_2 X 25 q284 dX0_puts_22 rfl ?_
      refine gw_iconst X 26 dX0_puts_25 rfl gw_ci_1 ?_
      refine gw_iadd X 27 dX0_puts_26 rfl ?_
      refine gX_p0_2 X 30 q284 dX0_puts_27 rfl ?_
      refine gw_iinc X 33 2 [(2, .int (c2 + (-8))), (0, .ref (a 0)), (1, .int v1)] dX0_puts_30 rfl rfl gw_ci_m8 (by decide) rfl ?_
      refine gw_goto X 3 dX0_puts_33 rfl ?_
      refine gw_lv [1, 2, 0] rfl ?_
      exact ih hp
set_option maxHeartbeats 4000000 in
theorem mt_X0_puts {l : Launch} {D : gw_D} {a : Nat → Nat} {Wr : va_W → Prop} {σ : gw_S} {x1 : Int32} {res : gw_S} (hp : fx_X0_puts σ x1 = some res) : gw_Ct D l yX0_puts cX0_puts 3 none rm_X0_puts [.ref (a 0), .int x1] (gw_st (wX D a σ) Wr) (gw_pV (gw_st (wX D a res) Wr)) := by
  refine gw_ct (own := RX0) [(0, .ref (a 0)), (1, .int x1)] (by decide) rfl (Nat.le_of_ble_eq_true rfl) rfl ?_
  intro E X
  unfold fx_X0_puts at hp
  refine gw_bipush X 2 dX0_puts_0 rfl gw_cb_24 ?_
  refine gw_istore_n X 3 [(2, .int 24), (0, .ref (a 0)), (1, .int x1)] dX0_puts_2 rfl rfl (by decide) rfl ?_
  refine gw_lv [1, 2, 0] rfl ?_
  exact wk_X0_puts_L3 X hp
abbrev rm_X0_feed : Room := { frames := 1, cells := 0, slots := 0, locals := 22 }
def fx_X0_feed (σ : gw_S) (x1 : Int32) (x2 : Int32) (x3 : Int32) (x4 : Int32) (x5 : Int32) : Option (Int32 × gw_S) := (if ((σ.1 0 2) + (20 : Int32)) ≤ (900 : Int32) then gw_b1 (fx_X0_puts σ x1) (fun σ1 => gw_b1 (fx_X0_puts σ1 x2) (fun σ3 => gw_b1 (fx_X0_puts σ3 x3) (fun σ5 => gw_b1 (fx_X0_puts σ5 x4) (fun σ7 => gw_b1 (fx_X0_puts σ7 x5) (fun σ9 => some (σ9.1 0 2, σ9)))))) else some ((-1), σ))
set_option maxHeartbeats 4000000 in
theorem mt_X0_feed {l : Launch} {D : gw_D} {a : Nat → Nat} {Wr : va_W → Prop} {σ : gw_S} {x1 : Int32} {x2 : Int32} {x3 : Int32} {x4 : Int32} {x5 : Int32} {res : Int32 × gw_S} (hp : fx_X0_feed σ x1 x2 x3 x4 x5 = some res) : gw_Ct D l yX0_feed cX0_feed 6 (some .int) rm_X0_feed [.ref (a 0), .int x1, .int x2, .int x3, .int x4, .int x5] (gw_st (wX D a σ) Wr) (gw_pI res.1 (gw_st (wX D a res.2) Wr)) := by
  refine gw_ct (own := RX0) [(0, .ref (a 0)), (1, .int x1), (2, .int x2), (3, .int x3), (4, .int x4), (5, .int x5)] (by decide) rfl (Nat.le_of_ble_eq_true rfl) rfl ?_
  intro E X
  unfold fx_X0_feed at hp
  refine gw_aload_n X 1 0 dX0_feed_0 rfl rfl rfl ?_
  refine gX_g0_2 X 4 q284 dX0_feed_1 rfl ?_
  refine gw_bipush X 6 dX0_feed_4 rfl gw_cb_20 ?_
  refine gw_iadd X 7 dX0_feed_6 rfl ?_
  refine gw_sipush X 10 dX0_feed_7 rfl gw_cs_900 ?_
  refine gw_icmp_le X 15 13 dX0_feed_10 rfl rfl (fun z => ?_) (fun z => ?_)
  · replace hp := gw_t z hp
    refine gw_aload_n X 16 0 dX0_feed_15 rfl rfl rfl ?_
    refine gw_iload_n X 17 1 dX0_feed_16 rfl rfl rfl ?_
    obtain ⟨σ1, h2, hp⟩ := gw_b1_some hp
    refine gw_callVv X 20 [.int x1] (mt_X0_puts h2) lk_X0_63 ydv_X0_puts gX_cl0 gX_at0 rfl rfl rfl dX0_feed_17 rfl rfl rfl ?_
    refine gw_aload_n X 21 0 dX0_feed_20 rfl rfl rfl ?_
    refine gw_iload_n X 22 2 dX0_feed_21 rfl rfl rfl ?_
    obtain ⟨σ3, h4, hp⟩ := gw_b1_some hp
    refine gw_callVv X 25 [.int x2] (mt_X0_puts h4) lk_X0_63 ydv_X0_puts gX_cl0 gX_at0 rfl rfl rfl dX0_feed_22 rfl rfl rfl ?_
    refine gw_aload_n X 26 0 dX0_feed_25 rfl rfl rfl ?_
    refine gw_iload_n X 27 3 dX0_feed_26 rfl rfl rfl ?_
    obtain ⟨σ5, h6, hp⟩ := gw_b1_some hp
    refine gw_callVv X 30 [.int x3] (mt_X0_puts h6) lk_X0_63 ydv_X0_puts gX_cl0 gX_at0 rfl rfl rfl dX0_feed_27 rfl rfl rfl ?_
    refine gw_aload_n X 31 0 dX0_feed_30 rfl rfl rfl ?_
    refine gw_iload X 33 4 dX0_feed_31 rfl rfl ?_
    obtain ⟨σ7, h8, hp⟩ := gw_b1_some hp
    refine gw_callVv X 36 [.int x4] (mt_X0_puts h8) lk_X0_63 ydv_X0_puts gX_cl0 gX_at0 rfl rfl rfl dX0_feed_33 rfl rfl rfl ?_
    refine gw_aload_n X 37 0 dX0_feed_36 rfl rfl rfl ?_
    refine gw_iload X 39 5 dX0_feed_37 rfl rfl ?_
    obtain ⟨σ9, h10, hp⟩ := gw_b1_some hp
    refine gw_callVv X 42 [.int x5] (mt_X0_puts h10) lk_X0_63 ydv_X0_puts gX_cl0 gX_at0 rfl rfl rfl dX0_feed_39 rfl rfl rfl ?_
    refine gw_aload_n X 43 0 dX0_feed_42 rfl rfl rfl ?_
    refine gX_g0_2 X 46 q284 dX0_feed_43 rfl ?_
    cases hp
    exact gw_iret X dX0_feed_46 (fun _ h => ⟨rfl, h⟩) (Nat.le_of_ble_eq_true rfl) (Nat.le_of_ble_eq_true rfl)
  · replace hp := gw_f z hp
    refine gw_iconst X 14 dX0_feed_13 rfl gw_ci_m1 ?_
    cases hp
    exact gw_iret X dX0_feed_14 (fun _ h => ⟨rfl, h⟩) (Nat.le_of_ble_eq_true rfl) (Nat.le_of_ble_eq_true rfl)
abbrev rm_X0_isIn : Room := { frames := 0, cells := 0, slots := 0, locals := 0 }
def fx_X0_isIn (x0 : Int64) (x2 : Int64) (x4 : Int64) : Bool := (if (lg_cmp x0 x2) < 0 then false else (if 0 < (lg_cmp x0 x4) then false else true))
set_option maxHeartbeats 4000000 in
theorem mt_X0_isIn {l : Launch} {D : gw_D} {Ws : va_W → Prop} {x0 : Int64} {x2 : Int64} {x4 : Int64} {res : Bool} (hp : fx_X0_isIn x0 x2 x4 = res) : gw_Ct D l yX0_isIn cX0_isIn 6 (some .boolean) rm_X0_isIn [.long x0, .long x2, .long x4] Ws (gw_pI (gw_b res) Ws) := by
  refine gw_ct (own := RX0) [(0, .long x0), (2, .long x2), (4, .long x4)] (by decide) rfl (Nat.le_of_ble_eq_true rfl) rfl ?_
  intro E X
  unfold fx_X0_isIn at hp
  refine gw_lload_n X 1 0 dX0_isIn_0 rfl rfl rfl ?_
  refine gw_lload_n X 2 1 dX0_isIn_1 rfl rfl rfl ?_
  refine gw_lcmp X 3 dX0_isIn_2 rfl ?_
  refine gw_if_lt X 17 6 dX0_isIn_3 rfl rfl (fun z => ?_) (fun z => ?_)
  · replace hp := gw_t z hp
    refine gw_iconst X 18 dX0_isIn_17 rfl gw_ci_0 ?_
    cases hp
    exact gw_zret0 X dX0_isIn_18 (fun _ h => ⟨rfl, h⟩) (Nat.le_of_ble_eq_true rfl) (Nat.le_of_ble_eq_true rfl)
  · replace hp := gw_f z hp
    refine gw_lload_n X 7 0 dX0_isIn_6 rfl rfl rfl ?_
    refine gw_lload X 9 2 dX0_isIn_7 rfl rfl ?_
    refine gw_lcmp X 10 dX0_isIn_9 rfl ?_
    refine gw_if_gt X 17 13 dX0_isIn_10 rfl rfl (fun z => ?_) (fun z => ?_)
    · replace hp := gw_t z hp
      refine gw_iconst X 18 dX0_isIn_17 rfl gw_ci_0 ?_
      cases hp
      exact gw_zret0 X dX0_isIn_18 (fun _ h => ⟨rfl, h⟩) (Nat.le_of_ble_eq_true rfl) (Nat.le_of_ble_eq_true rfl)
    · replace hp := gw_f z hp
      refine gw_iconst X 14 dX0_isIn_13 rfl gw_ci_1 ?_
      refine gw_goto X 18 dX0_isIn_14 rfl ?_
      cases hp
      exact gw_zret1 X dX0_isIn_18 (fun _ h => ⟨rfl, h⟩) (Nat.le_of_ble_eq_true rfl) (Nat.le_of_ble_eq_true rfl)
abbrev rm_X0_end : Room := { frames := 1, cells := 0, slots := 0, locals := 25 }
def fx_X0_end (σ : gw_S) (x1 : Int32) : Int32 × gw_S := (if fx_X0_isIn (Int32.toInt64 x1) (0 : Int64) (Int32.toInt64 (σ.1 0 2)) = true then (x1, gw_u σ 0 2 x1) else ((-1), σ))
set_option maxHeartbeats 4000000 in
theorem mt_X0_end {l : Launch} {D : gw_D} {a : Nat → Nat} {Wr : va_W → Prop} {σ : gw_S} {x1 : Int32} {res : Int32 × gw_S} (hp : fx_X0_end σ x1 = res) : gw_Ct D l yX0_end cX0_end 2 (some .int) rm_X0_end [.ref (a 0), .int x1] (gw_st (wX D a σ) Wr) (gw_pI res.1 (gw_st (wX D a res.2) Wr)) := by
  refine gw_ct (own := RX0) [(0, .ref (a 0)), (1, .int x1)] (by decide) rfl (Nat.le_of_ble_eq_true rfl) rfl ?_
  intro E X
  unfold fx_X0_end at hp
  refine gw_iload_n X 1 1 dX0_end_0 rfl rfl rfl ?_
  refine gw_i2l X 2 dX0_end_1 rfl ?_
  refine gw_lconst X 3 dX0_end_2 rfl gw_cl_0 ?_
  refine gw_aload_n X 4 0 dX0_end_3 rfl rfl rfl ?_
  refine gX_g0_2 X 7 q284 dX0_end_4 rfl ?_
  refine gw_i2l X 8 dX0_end_7 rfl ?_
  refine gw_callSi X 11 [.long (Int32.toInt64 x1), .long 0, .long (Int32.toInt64 (σ.1 0 2))] (mt_X0_isIn rfl) lk_X0_67 yd_X0_isIn rfl rfl rfl dX0_end_8 rfl rfl rfl ?_
  refine gw_if_neB X 16 14 dX0_end_11 rfl rfl (fun z => ?_) (fun z => ?_)
  · replace hp := gw_t z hp
    refine gw_aload_n X 17 0 dX0_end_16 rfl rfl rfl ?_
    refine gw_iload_n X 18 1 dX0_end_17 rfl rfl rfl ?_
    refine gX_p0_2 X 21 q284 dX0_end_18 rfl ?_
    refine gw_iload_n X 22 1 dX0_end_21 rfl rfl rfl ?_
    cases hp
    exact gw_iret X dX0_end_22 (fun _ h => ⟨rfl, h⟩) (Nat.le_of_ble_eq_true rfl) (Nat.le_of_ble_eq_true rfl)
  · replace hp := gw_f z hp
    refine gw_iconst X 15 dX0_end_14 rfl gw_ci_m1 ?_
    cases hp
    exact gw_iret X dX0_end_15 (fun _ h => ⟨rfl, h⟩) (Nat.le_of_ble_eq_true rfl) (Nat.le_of_ble_eq_true rfl)
abbrev rm_X0_isOf : Room := { frames := 0, cells := 0, slots := 0, locals := 0 }
def fx_X0_isOf (x0 : Int32) (x1 : Int32) : Bool := (if ((x0 >>> (x1 &&& 31)) &&& (1 : Int32)) = (1 : Int32) then true else false)
set_option maxHeartbeats 4000000 in
theorem mt_X0_isOf {l : Launch} {D : gw_D} {Ws : va_W → Prop} {x0 : Int32} {x1 : Int32} {res : Bool} (hp : fx_X0_isOf x0 x1 = res) : gw_Ct D l yX0_isOf cX0_isOf 2 (some .boolean) rm_X0_isOf [.int x0, .int x1] Ws (gw_pI (gw_b res) Ws) := by
  refine gw_ct (own := RX0) [(0, .int x0), (1, .int x1)] (by decide) rfl (Nat.le_of_ble_eq_true rfl) rfl ?_
  intro E X
  unfold fx_X0_isOf at hp
  refine gw_iload_n X 1 0 dX0_isOf_0 rfl rfl rfl ?_
  refine gw_iload_n X 2 1 dX0_isOf_1 rfl rfl rfl ?_
  refine gw_ishr X 3 dX0_isOf_2 rfl ?_
  refine gw_iconst X 4 dX0_isOf_3 rfl gw_ci_1 ?_
  refine gw_iand X 5 dX0_isOf_4 rfl ?_
  refine gw_iconst X 6 dX0_isOf_5 rfl gw_ci_1 ?_
  refine gw_icmp_ne X 13 9 dX0_isOf_6 rfl rfl (fun z => ?_) (fun z => ?_)
  · replace hp := gw_f z hp
    refine gw_iconst X 14 dX0_isOf_13 rfl gw_ci_0 ?_
    cases hp
    exact gw_zret0 X dX0_isOf_14 (fun _ h => ⟨rfl, h⟩) (Nat.le_of_ble_eq_true rfl) (Nat.le_of_ble_eq_true rfl)
  · replace hp := gw_t z hp
    refine gw_iconst X 10 dX0_isOf_9 rfl gw_ci_1 ?_
    refine gw_goto X 14 dX0_isOf_10 rfl ?_
    cases hp
    exact gw_zret1 X dX0_isOf_14 (fun _ h => ⟨rfl, h⟩) (Nat.le_of_ble_eq_true rfl) (Nat.le_of_ble_eq_true rfl)
abbrev rm_X0_fault : Room := { frames := 0, cells := 0, slots := 0, locals := 0 }
def fx_X0_fault (σ : gw_S) (x1 : Int32) : Int32 := (if x1 = 0 then σ.1 0 3 else (if x1 = (1 : Int32) then σ.1 0 4 else (-1)))
set_option maxHeartbeats 4000000 in
theorem mt_X0_fault {l : Launch} {D : gw_D} {a : Nat → Nat} {Wr : va_W → Prop} {σ : gw_S} {x1 : Int32} {res : Int32} (hp : fx_X0_fault σ x1 = res) : gw_Ct D l yX0_fault cX0_fault 2 (some .int) rm_X0_fault [.ref (a 0), .int x1] (gw_st (wX D a σ) Wr) (gw_pI res (gw_st (wX D a σ) Wr)) := by
  refine gw_ct (own := RX0) [(0, .ref (a 0)), (1, .int x1)] (by decide) rfl (Nat.le_of_ble_eq_true rfl) rfl ?_
  intro E X
  unfold fx_X0_fault at hp
  refine gw_iload_n X 1 1 dX0_fault_0 rfl rfl rfl ?_
  refine gw_if_ne X 11 4 dX0_fault_1 rfl rfl (fun z => ?_) (fun z => ?_)
  · replace hp := gw_f z hp
    refine gw_iload_n X 12 1 dX0_fault_11 rfl rfl rfl ?_
    refine gw_iconst X 13 dX0_fault_12 rfl gw_ci_1 ?_
    refine gw_icmp_ne X 23 16 dX0_fault_13 rfl rfl (fun z => ?_) (fun z => ?_)
    · replace hp := gw_f z hp
      refine gw_iconst X 24 dX0_fault_23 rfl gw_ci_m1 ?_
      cases hp
      exact gw_iret X dX0_fault_24 (fun _ h => ⟨rfl, h⟩) (Nat.le_of_ble_eq_true rfl) (Nat.le_of_ble_eq_true rfl)
    · replace hp := gw_t z hp
      refine gw_aload_n X 17 0 dX0_fault_16 rfl rfl rfl ?_
      refine gX_g0_4 X 20 q286 dX0_fault_17 rfl ?_
      refine gw_goto X 24 dX0_fault_20 rfl ?_
      cases hp
      exact gw_iret X dX0_fault_24 (fun _ h => ⟨rfl, h⟩) (Nat.le_of_ble_eq_true rfl) (Nat.le_of_ble_eq_true rfl)
  · replace hp := gw_t z hp
    refine gw_aload_n X 5 0 dX0_fault_4 rfl rfl rfl ?_
    refine gX_g0_3 X 8 q285 dX0_fault_5 rfl ?_
    refine gw_goto X 24 dX0_fault_8 rfl ?_
    cases hp
    exact gw_iret X dX0_fault_24 (fun _ h => ⟨rfl, h⟩) (Nat.le_of_ble_eq_true rfl) (Nat.le_of_ble_eq_true rfl)
abbrev rm_X0_isPerson : Room := { frames := 1, cells := 0, slots := 0, locals := 25 }
def fx_X0_isPerson (σ : gw_S) (x1 : Int64) : Bool := fx_X0_isIn x1 (0 : Int64) (Int32.toInt64 ((σ.1 1 2) - (1 : Int32)))
set_option maxHeartbeats 4000000 in
theorem mt_X0_isPerson {l : Launch} {D : gw_D} {a : Nat → Nat} {Wr : va_W → Prop} {σ : gw_S} {x1 : Int64} {res : Bool} (hp : fx_X0_isPerson σ x1 = res) : gw_Ct D l yX0_isPerson cX0_isPerson 3 (some .boolean) rm_X0_isPerson [.ref (a 0), .long x1] (gw_st (wX D a σ) Wr) (gw_pI (gw_b res) (gw_st (wX D a σ) Wr)) := by
  refine gw_ct (own := RX0) [(0, .ref (a 0)), (1, .long x1)] (by decide) rfl (Nat.le_of_ble_eq_true rfl) rfl ?_
  intro E X
  unfold fx_X0_isPerson at hp
  refine gw_lload_n X 1 1 dX0_isPerson_0 rfl rfl rfl ?_
  refine gw_lconst X 2 dX0_isPerson_1 rfl gw_cl_0 ?_
  refine gw_aload_n X 3 0 dX0_isPerson_2 rfl rfl rfl ?_
  refine gX_g0_0 X 6 q280 dX0_isPerson_3 rfl ?_
  refine gX_g1_2N X 9 q193 dX0_isPerson_6 rfl ?_
  refine gw_iconst X 10 dX0_isPerson_9 rfl gw_ci_1 ?_
  refine gw_isub X 11 dX0_isPerson_10 rfl ?_
  refine gw_i2l X 12 dX0_isPerson_11 rfl ?_
  refine gw_callSi X 15 [.long x1, .long 0, .long (Int32.toInt64 ((σ.1 1 2) - (1 : Int32)))] (mt_X0_isIn rfl) lk_X0_67 yd_X0_isIn rfl rfl rfl dX0_isPerson_12 rfl rfl rfl ?_
  cases hp
  exact gw_zret X dX0_isPerson_15 (fun _ h => ⟨rfl, h⟩) (Nat.le_of_ble_eq_true rfl) (Nat.le_of_ble_eq_true rfl)
abbrev rm_X0_isOneOf : Room := { frames := 1, cells := 0, slots := 0, locals := 25 }
def fx_X0_isOneOf (x0 : Int64) (x2 : Int32) : Bool := fx_X0_isIn x0 (0 : Int64) (Int32.toInt64 (x2 - (1 : Int32)))
set_option maxHeartbeats 4000000 in
theorem mt_X0_isOneOf {l : Launch} {D : gw_D} {Ws : va_W → Prop} {x0 : Int64} {x2 : Int32} {res : Bool} (hp : fx_X0_isOneOf x0 x2 = res) : gw_Ct D l yX0_isOneOf cX0_isOneOf 3 (some .boolean) rm_X0_isOneOf [.long x0, .int x2] Ws (gw_pI (gw_b res) Ws) := by
  refine gw_ct (own := RX0) [(0, .long x0), (2, .int x2)] (by decide) rfl (Nat.le_of_ble_eq_true rfl) rfl ?_
  intro E X
  unfold fx_X0_isOneOf at hp
  refine gw_lload_n X 1 0 dX0_isOneOf_0 rfl rfl rfl ?_
  refine gw_lconst X 2 dX0_isOneOf_1 rfl gw_cl_0 ?_
  refine gw_iload_n X 3 1 dX0_isOneOf_2 rfl rfl rfl ?_
  refine gw_iconst X 4 dX0_isOneOf_3 rfl gw_ci_1 ?_
  refine gw_isub X 5 dX0_isOneOf_4 rfl ?_
  refine gw_i2l X 6 dX0_isOneOf_5 rfl ?_
  refine gw_callSi X 9 [.long x0, .long 0, .long (Int32.toInt64 (x2 - (1 : Int32)))] (mt_X0_isIn rfl) lk_X0_67 yd_X0_isIn rfl rfl rfl dX0_isOneOf_6 rfl rfl rfl ?_
  cases hp
  exact gw_zret X dX0_isOneOf_9 (fun _ h => ⟨rfl, h⟩) (Nat.le_of_ble_eq_true rfl) (Nat.le_of_ble_eq_true rfl)
abbrev rm_X0_asAtFirst : Room := { frames := 1, cells := 0, slots := 0, locals := 60 }
def fx_X0_asAtFirst_L40  : Nat → Int32 → gw_S → Option (gw_S)
  | 0, _, _ => none
  | n + 1, c1, σ => (if (8 : Int32) ≤ c1 then some σ else gw_ck c1 8 (fx_X0_asAtFirst_L40  n (c1 + 1) (gw_u σ 4 (Int32.toNatClampNeg c1) 0)))
def fx_X0_asAtFirst (σ : gw_S)  : Option (gw_S) := gw_let (gw_u σ 0 5 0) (fun σ1 => gw_let (gw_u σ1 0 6 0) (fun σ3 => gw_let (gw_u σ3 0 7 0) (fun σ5 => gw_let (gw_u σ5 0 8 0) (fun σ7 => fx_X0_asAtFirst_L40  1000 (0 : Int32) (gw_ua σ7 3 (va_cpy (σ7.1 12) (σ7.1 3) 0 0 8))))))
set_option maxHeartbeats 4000000 in
theorem wk_X0_asAtFirst_L40 {E : gw_E} {l : Launch} {D : gw_D} {a : Nat → Nat} {Wr : va_W → Prop} {res : gw_S} (X : gw_X E cX0_asAtFirst 2 RX0 none l D rm_X0_asAtFirst (some (gw_pV (gw_st (wX D a res) Wr))))  : ∀ {n : Nat} {c1 : Int32} {σ : gw_S}, fx_X0_asAtFirst_L40  n c1 σ = some res → gw_W E 40 [(0, .ref (a 0)), (1, .int c1)] [] (gw_st (wX D a σ) Wr) 0 0 := by
  intro n
  induction n with
  | zero =>
    intro c1 σ hp
    cases (show none = some res from hp)
  | succ n ih =>
    intro c1 σ hp
    rw [fx_X0_asAtFirst_L40] at hp
    refine gw_iload_n X 41 1 dX0_asAtFirst_40 rfl rfl rfl ?_
    refine gw_bipush X 43 dX0_asAtFirst_41 rfl gw_cb_8 ?_
    refine gw_icmp_ge X 59 46 dX0_asAtFirst_43 rfl rfl (fun z => ?_) (fun z => ?_)
    · replace hp := gw_t z hp
      cases hp
      exact gw_vret X dX0_asAtFirst_59 (fun _ h => ⟨rfl, h⟩) (Nat.le_of_ble_eq_true rfl) (Nat.le_of_ble_eq_true rfl)
    · replace hp := gw_f z hp
      refine gw_aload_n X 47 0 dX0_asAtFirst_46 rfl rfl rfl ?_
      refine gX_g0_10 X 50 q305 dX0_asAtFirst_47 rfl ?_
      refine gw_iload_n X 51 1 dX0_asAtFirst_50 rfl rfl rfl ?_
      refine gw_iconst X 52 dX0_asAtFirst_51 rfl gw_ci_0 ?_
      obtain ⟨hc, hp⟩ := gw_ck_some hp
      refine gX_s4 X 53 (Int32.toNatClampNeg c1) hc rfl dX0_asAtFirst_52 rfl ?_
      refine gw_iinc X 56 1 [(1, .int (c1 + 1)), (0, .ref (a 0))] dX0_asAtFirst_53 rfl rfl gw_ci_1 (by decide) rfl ?_
      refine gw_goto X 40 dX0_asAtFirst_56 rfl ?_
      refine gw_lv [1, 0] rfl ?_
      exact ih hp
set_option maxHeartbeats 4000000 in
theorem mt_X0_asAtFirst {l : Launch} {D : gw_D} {a : Nat → Nat} {Wr : va_W → Prop} {σ : gw_S}  {res : gw_S} (hp : fx_X0_asAtFirst σ  = some res) : gw_Ct D l yX0_asAtFirst cX0_asAtFirst 2 none rm_X0_asAtFirst [.ref (a 0)] (gw_st (wX D a σ) Wr) (gw_pV (gw_st (wX D a res) Wr)) := by
  refine gw_ct (own := RX0) [(0, .ref (a 0))] (by decide) rfl (Nat.le_of_ble_eq_true rfl) rfl ?_
  intro E X
  unfold fx_X0_asAtFirst at hp
  refine gw_aload_n X 1 0 dX0_asAtFirst_0 rfl rfl rfl ?_
  refine gw_iconst X 2 dX0_asAtFirst_1 rfl gw_ci_0 ?_
  refine gX_p0_5 X 5 q288 dX0_asAtFirst_2 rfl ?_
  refine gw_aload_n X 6 0 dX0_asAtFirst_5 rfl rfl rfl ?_
  refine gw_iconst X 7 dX0_asAtFirst_6 rfl gw_ci_0 ?_
  obtain ⟨σ1, h2, hp⟩ := gw_let_some hp
  rw [← h2]
  clear h2
  refine gX_p0_6 X 10 q291 dX0_asAtFirst_7 rfl ?_
  refine gw_aload_n X 11 0 dX0_asAtFirst_10 rfl rfl rfl ?_
  refine gw_iconst X 12 dX0_asAtFirst_11 rfl gw_ci_0 ?_
  obtain ⟨σ3, h4, hp⟩ := gw_let_some hp
  rw [← h4]
  clear h4
  refine gX_p0_7 X 15 q294 dX0_asAtFirst_12 rfl ?_
  refine gw_aload_n X 16 0 dX0_asAtFirst_15 rfl rfl rfl ?_
  refine gw_iconst X 17 dX0_asAtFirst_16 rfl gw_ci_0 ?_
  obtain ⟨σ5, h6, hp⟩ := gw_let_some hp
  rw [← h6]
  clear h6
  refine gX_p0_8 X 20 q297 dX0_asAtFirst_17 rfl ?_
  refine gw_aload_n X 21 0 dX0_asAtFirst_20 rfl rfl rfl ?_
  obtain ⟨σ7, h8, hp⟩ := gw_let_some hp
  rw [← h8]
  clear h8
  refine gX_g0_0 X 24 q280 dX0_asAtFirst_21 rfl ?_
  refine gX_g1_9N X 27 q213 dX0_asAtFirst_24 rfl ?_
  refine gw_iconst X 28 dX0_asAtFirst_27 rfl gw_ci_0 ?_
  refine gw_aload_n X 29 0 dX0_asAtFirst_28 rfl rfl rfl ?_
  refine gX_g0_9 X 32 q303 dX0_asAtFirst_29 rfl ?_
  refine gw_iconst X 33 dX0_asAtFirst_32 rfl gw_ci_0 ?_
  refine gw_bipush X 35 dX0_asAtFirst_33 rfl gw_cb_8 ?_
  refine gX_cp12_3 X 38 q651 dX0_asAtFirst_35 rfl rfl rfl rfl ?_
  refine gw_iconst X 39 dX0_asAtFirst_38 rfl gw_ci_0 ?_
  refine gw_istore_n X 40 [(1, .int 0), (0, .ref (a 0))] dX0_asAtFirst_39 rfl rfl (by decide) rfl ?_
  refine gw_lv [1, 0] rfl ?_
  exact wk_X0_asAtFirst_L40 X hp
abbrev rm_X0_limit : Room := { frames := 1, cells := 0, slots := 0, locals := 21 }
def fx_X0_limit (σ : gw_S) (x1 : Int32) : Int32 := (if fx_X0_isOf (σ.1 1 4) x1 = true then 1 else σ.1 1 0)
set_option maxHeartbeats 4000000 in
theorem mt_X0_limit {l : Launch} {D : gw_D} {a : Nat → Nat} {Wr : va_W → Prop} {σ : gw_S} {x1 : Int32} {res : Int32} (hp : fx_X0_limit σ x1 = res) : gw_Ct D l yX0_limit cX0_limit 2 (some .int) rm_X0_limit [.ref (a 0), .int x1] (gw_st (wX D a σ) Wr) (gw_pI res (gw_st (wX D a σ) Wr)) := by
  refine gw_ct (own := RX0) [(0, .ref (a 0)), (1, .int x1)] (by decide) rfl (Nat.le_of_ble_eq_true rfl) rfl ?_
  intro E X
  unfold fx_X0_limit at hp
  refine gw_aload_n X 1 0 dX0_limit_0 rfl rfl rfl ?_
  refine gX_g0_0 X 4 q280 dX0_limit_1 rfl ?_
  refine gX_g1_4N X 7 q199 dX0_limit_4 rfl ?_
  refine gw_iload_n X 8 1 dX0_limit_7 rfl rfl rfl ?_
  refine gw_callSi X 11 [.int (σ.1 1 4), .int x1] (mt_X0_isOf rfl) lk_X0_114 yd_X0_isOf rfl rfl rfl dX0_limit_8 rfl rfl rfl ?_
  refine gw_if_eqB X 18 14 dX0_limit_11 rfl rfl (fun z => ?_) (fun z => ?_)
  · replace hp := gw_f z hp
    refine gw_aload_n X 19 0 dX0_limit_18 rfl rfl rfl ?_
    refine gX_g0_0 X 22 q280 dX0_limit_19 rfl ?_
    refine gX_g1_0N X 25 q187 dX0_limit_22 rfl ?_
    cases hp
    exact gw_iret X dX0_limit_25 (fun _ h => ⟨rfl, h⟩) (Nat.le_of_ble_eq_true rfl) (Nat.le_of_ble_eq_true rfl)
  · replace hp := gw_t z hp
    refine gw_iconst X 15 dX0_limit_14 rfl gw_ci_1 ?_
    refine gw_goto X 25 dX0_limit_15 rfl ?_
    cases hp
    exact gw_iret X dX0_limit_25 (fun _ h => ⟨rfl, h⟩) (Nat.le_of_ble_eq_true rfl) (Nat.le_of_ble_eq_true rfl)
abbrev rm_X0_handOf : Room := { frames := 0, cells := 0, slots := 0, locals := 0 }
def fx_X0_handOf_L4 (σ : gw_S) (v1 : Int32) : Nat → Int32 → Int32 → Option (Int32)
  | 0, _, _ => none
  | n + 1, c2, c3 => (if (σ.1 1 2) ≤ c3 then some c2 else gw_ck c3 8 ((if (σ.1 3 (Int32.toNatClampNeg c3)) = v1 then fx_X0_handOf_L4 σ v1 n (c2 ||| ((1 : Int32) <<< (c3 &&& 31))) (c3 + 1) else fx_X0_handOf_L4 σ v1 n (c2 ||| (0 : Int32)) (c3 + 1))))
def fx_X0_handOf (σ : gw_S) (x1 : Int32) : Option (Int32) := fx_X0_handOf_L4 σ x1 1000 (0 : Int32) (0 : Int32)
set_option maxHeartbeats 4000000 in
theorem wk_X0_handOf_L4 {E : gw_E} {l : Launch} {D : gw_D} {a : Nat → Nat} {Wr : va_W → Prop} {σ : gw_S} {res : Int32} (X : gw_X E cX0_handOf 4 RX0 (some .int) l D rm_X0_handOf (some (gw_pI res (gw_st (wX D a σ) Wr)))) {v1 : Int32} : ∀ {n : Nat} {c2 : Int32} {c3 : Int32}, fx_X0_handOf_L4 σ v1 n c2 c3 = some res → gw_W E 4 [(0, .ref (a 0)), (1, .int v1), (2, .int c2), (3, .int c3)] [] (gw_st (wX D a σ) Wr) 0 0 := by
  intro n
  induction n with
  | zero =>
    intro c2 c3 hp
    cases (show none = some res from hp)
  | succ n ih =>
    intro c2 c3 hp
    rw [fx_X0_handOf_L4] at hp
    refine gw_iload_n X 5 3 dX0_handOf_4 rfl rfl rfl ?_
    refine gw_aload_n X 6 0 dX0_handOf_5 rfl rfl rfl ?_
    refine gX_g0_0 X 9 q280 dX0_handOf_6 rfl ?_
    refine gX_g1_2N X 12 q193 dX0_handOf_9 rfl ?_
    refine gw_icmp_ge X 41 15 dX0_handOf_12 rfl rfl (fun z => ?_) (fun z => ?_)
    · replace hp := gw_t z hp
      refine gw_iload_n X 42 2 dX0_handOf_41 rfl rfl rfl ?_
      cases hp
      exact gw_iret X dX0_handOf_42 (fun _ h => ⟨rfl, h⟩) (Nat.le_of_ble_eq_true rfl) (Nat.le_of_ble_eq_true rfl)
    · replace hp := gw_f z hp
      refine gw_iload_n X 16 2 dX0_handOf_15 rfl rfl rfl ?_
      refine gw_aload_n X 17 0 dX0_handOf_16 rfl rfl rfl ?_
      refine gX_g0_9 X 20 q303 dX0_handOf_17 rfl ?_
      refine gw_iload_n X 21 3 dX0_handOf_20 rfl rfl rfl ?_
      obtain ⟨hc, hp⟩ := gw_ck_some hp
      refine gX_l3 X 22 (Int32.toNatClampNeg c3) hc rfl dX0_handOf_21 rfl ?_
      refine gw_iload_n X 23 1 dX0_handOf_22 rfl rfl rfl ?_
      refine gw_icmp_ne X 32 26 dX0_handOf_23 rfl rfl (fun z => ?_) (fun z => ?_)
      · replace hp := gw_f z hp
        refine gw_iconst X 33 dX0_handOf_32 rfl gw_ci_0 ?_
        refine gw_ior X 34 dX0_handOf_33 rfl ?_
        refine gw_istore_n X 35 [(2, .int (c2 ||| (0 : Int32))), (0, .ref (a 0)), (1, .int v1), (3, .int c3)] dX0_handOf_34 rfl rfl (by decide) rfl ?_
        refine gw_iinc X 38 3 [(3, .int (c3 + 1)), (2, .int (c2 ||| (0 : Int32))), (0, .ref (a 0)), (1, .int v1)] dX0_handOf_35 rfl rfl gw_ci_1 (by decide) rfl ?_
        refine gw_goto X 4 dX0_handOf_38 rfl ?_
        refine gw_lv [2, 3, 1, 0] rfl ?_
        exact ih hp
      · replace hp := gw_t z hp
        refine gw_iconst X 27 dX0_handOf_26 rfl gw_ci_1 ?_
        refine gw_iload_n X 28 3 dX0_handOf_27 rfl rfl rfl ?_
        refine gw_ishl X 29 dX0_handOf_28 rfl ?_
        refine gw_goto X 33 dX0_handOf_29 rfl ?_
        refine gw_ior X 34 dX0_handOf_33 rfl ?_
        refine gw_istore_n X 35 [(2, .int (c2 ||| ((1 : Int32) <<< (c3 &&& 31)))), (0, .ref (a 0)), (1, .int v1), (3, .int c3)] dX0_handOf_34 rfl rfl (by decide) rfl ?_
        refine gw_iinc X 38 3 [(3, .int (c3 + 1)), (2, .int (c2 ||| ((1 : Int32) <<< (c3 &&& 31)))), (0, .ref (a 0)), (1, .int v1)] dX0_handOf_35 rfl rfl gw_ci_1 (by decide) rfl ?_
        refine gw_goto X 4 dX0_handOf_38 rfl ?_
        refine gw_lv [2, 3, 1, 0] rfl ?_
        exact ih hp
set_option maxHeartbeats 4000000 in
theorem mt_X0_handOf {l : Launch} {D : gw_D} {a : Nat → Nat} {Wr : va_W → Prop} {σ : gw_S} {x1 : Int32} {res : Int32} (hp : fx_X0_handOf σ x1 = some res) : gw_Ct D l yX0_handOf cX0_handOf 4 (some .int) rm_X0_handOf [.ref (a 0), .int x1] (gw_st (wX D a σ) Wr) (gw_pI res (gw_st (wX D a σ) Wr)) := by
  refine gw_ct (own := RX0) [(0, .ref (a 0)), (1, .int x1)] (by decide) rfl (Nat.le_of_ble_eq_true rfl) rfl ?_
  intro E X
  unfold fx_X0_handOf at hp
  refine gw_iconst X 1 dX0_handOf_0 rfl gw_ci_0 ?_
  refine gw_istore_n X 2 [(2, .int 0), (0, .ref (a 0)), (1, .int x1)] dX0_handOf_1 rfl rfl (by decide) rfl ?_
  refine gw_iconst X 3 dX0_handOf_2 rfl gw_ci_0 ?_
  refine gw_istore_n X 4 [(3, .int 0), (2, .int 0), (0, .ref (a 0)), (1, .int x1)] dX0_handOf_3 rfl rfl (by decide) rfl ?_
  refine gw_lv [2, 3, 1, 0] rfl ?_
  exact wk_X0_handOf_L4 X hp
abbrev rm_X0_isCity : Room := { frames := 0, cells := 0, slots := 0, locals := 0 }
def fx_X0_isCity (σ : gw_S)  : Bool := (if (σ.1 1 1) ≤ 0 then false else true)
set_option maxHeartbeats 4000000 in
theorem mt_X0_isCity {l : Launch} {D : gw_D} {a : Nat → Nat} {Wr : va_W → Prop} {σ : gw_S}  {res : Bool} (hp : fx_X0_isCity σ  = res) : gw_Ct D l yX0_isCity cX0_isCity 1 (some .boolean) rm_X0_isCity [.ref (a 0)] (gw_st (wX D a σ) Wr) (gw_pI (gw_b res) (gw_st (wX D a σ) Wr)) := by
  refine gw_ct (own := RX0) [(0, .ref (a 0))] (by decide) rfl (Nat.le_of_ble_eq_true rfl) rfl ?_
  intro E X
  unfold fx_X0_isCity at hp
  refine gw_aload_n X 1 0 dX0_isCity_0 rfl rfl rfl ?_
  refine gX_g0_0 X 4 q280 dX0_isCity_1 rfl ?_
  refine gX_g1_1N X 7 q189 dX0_isCity_4 rfl ?_
  refine gw_if_le X 14 10 dX0_isCity_7 rfl rfl (fun z => ?_) (fun z => ?_)
  · replace hp := gw_t z hp
    refine gw_iconst X 15 dX0_isCity_14 rfl gw_ci_0 ?_
    cases hp
    exact gw_zret0 X dX0_isCity_15 (fun _ h => ⟨rfl, h⟩) (Nat.le_of_ble_eq_true rfl) (Nat.le_of_ble_eq_true rfl)
  · replace hp := gw_f z hp
    refine gw_iconst X 11 dX0_isCity_10 rfl gw_ci_1 ?_
    refine gw_goto X 15 dX0_isCity_11 rfl ?_
    cases hp
    exact gw_zret1 X dX0_isCity_15 (fun _ h => ⟨rfl, h⟩) (Nat.le_of_ble_eq_true rfl) (Nat.le_of_ble_eq_true rfl)
abbrev rm_X0_underOf : Room := { frames := 1, cells := 0, slots := 0, locals := 23 }
def fx_X0_underOf_L22 {τ : Type} (k : Int32 → Option (τ)) (σ : gw_S) (v3 : Int32) : Nat → Int32 → Int32 → Option (τ)
  | 0, _, _ => none
  | n + 1, c2, c4 => (if (σ.1 1 2) ≤ c4 then k c2 else gw_ck c4 8 ((if (σ.1 3 (Int32.toNatClampNeg c4)) = (-1 : Int32) then fx_X0_underOf_L22 k σ v3 n (c2 ||| (0 : Int32)) (c4 + 1) else gw_ck c4 8 ((if fx_X0_isOf c2 (σ.1 3 (Int32.toNatClampNeg c4)) = true then fx_X0_underOf_L22 k σ v3 n (c2 ||| ((1 : Int32) <<< (c4 &&& 31))) (c4 + 1) else fx_X0_underOf_L22 k σ v3 n (c2 ||| (0 : Int32)) (c4 + 1))))))
def fx_X0_underOf_L8 (σ : gw_S)  : Nat → Int32 → Int32 → Option (Int32)
  | 0, _, _ => none
  | n + 1, c2, c3 => (if (σ.1 1 2) ≤ c3 then some c2 else fx_X0_underOf_L22 (fun (e3 : Int32) => fx_X0_underOf_L8 σ n e3 (c3 + 1)) σ c3 1000 c2 (0 : Int32))
def fx_X0_underOf (σ : gw_S) (x1 : Int32) : Option (Int32) := gw_b1 (fx_X0_handOf σ x1) (fun r1 => fx_X0_underOf_L8 σ 1000 r1 (0 : Int32))
set_option maxHeartbeats 4000000 in
theorem wk_X0_underOf_L22 {E : gw_E} {l : Launch} {D : gw_D} {a : Nat → Nat} {Wr : va_W → Prop} {σ : gw_S} {τ : Type} {res : τ} {post : Option (Option Value → va_W → Prop)} (X : gw_X E cX0_underOf 5 RX0 (some .int) l D rm_X0_underOf post) {k : Int32 → Option (τ)} {v3 : Int32} : ∀ {n : Nat} {c2 : Int32} {c4 : Int32}, fx_X0_underOf_L22 k σ v3 n c2 c4 = some res → (∀ (c2 : Int32), k c2 = some res → gw_W E 76 [(0, .ref (a 0)), (2, .int c2), (3, .int v3)] [] (gw_st (wX D a σ) Wr) 0 0) → gw_W E 22 [(0, .ref (a 0)), (2, .int c2), (3, .int v3), (4, .int c4)] [] (gw_st (wX D a σ) Wr) 0 0 := by
  intro n
  induction n with
  | zero =>
    intro c2 c4 hp hk
    cases (show none = some res from hp)
  | succ n ih =>
    intro c2 c4 hp hk
    rw [fx_X0_underOf_L22] at hp
    refine gw_iload X 24 3 dX0_underOf_22 rfl rfl ?_
    refine gw_aload_n X 25 0 dX0_underOf_24 rfl rfl rfl ?_
    refine gX_g0_0 X 28 q280 dX0_underOf_25 rfl ?_
    refine gX_g1_2N X 31 q193 dX0_underOf_28 rfl ?_
    refine gw_icmp_ge X 76 34 dX0_underOf_31 rfl rfl (fun z => ?_) (fun z => ?_)
    · replace hp := gw_t z hp
      refine gw_lv [0, 1, 2] rfl ?_
      exact hk _ hp
    · replace hp := gw_f z hp
      refine gw_iload_n X 35 1 dX0_underOf_34 rfl rfl rfl ?_
      refine gw_aload_n X 36 0 dX0_underOf_35 rfl rfl rfl ?_
      refine gX_g0_9 X 39 q303 dX0_underOf_36 rfl ?_
      refine gw_iload X 41 3 dX0_underOf_39 rfl rfl ?_
      obtain ⟨hc, hp⟩ := gw_ck_some hp
      refine gX_l3 X 42 (Int32.toNatClampNeg c4) hc rfl dX0_underOf_41 rfl ?_
      refine gw_iconst X 43 dX0_underOf_42 rfl gw_ci_m1 ?_
      refine gw_icmp_eq X 67 46 dX0_underOf_43 rfl rfl (fun z => ?_) (fun z => ?_)
      · replace hp := gw_t z hp
        refine gw_iconst X 68 dX0_underOf_67 rfl gw_ci_0 ?_
        refine gw_ior X 69 dX0_underOf_68 rfl ?_
        refine gw_istore_n X 70 [(2, .int (c2 ||| (0 : Int32))), (0, .ref (a 0)), (3, .int v3), (4, .int c4)] dX0_underOf_69 rfl rfl (by decide) rfl ?_
        refine gw_iinc X 73 3 [(4, .int (c4 + 1)), (2, .int (c2 ||| (0 : Int32))), (0, .ref (a 0)), (3, .int v3)] dX0_underOf_70 rfl rfl gw_ci_1 (by decide) rfl ?_
        refine gw_goto X 22 dX0_underOf_73 rfl ?_
        refine gw_lv [2, 1, 3, 0] rfl ?_
        exact ih hp hk
      · replace hp := gw_f z hp
        refine gw_iload_n X 47 1 dX0_underOf_46 rfl rfl rfl ?_
        refine gw_aload_n X 48 0 dX0_underOf_47 rfl rfl rfl ?_
        refine gX_g0_9 X 51 q303 dX0_underOf_48 rfl ?_
        refine gw_iload X 53 3 dX0_underOf_51 rfl rfl ?_
        obtain ⟨hc, hp⟩ := gw_ck_some hp
        refine gX_l3 X 54 (Int32.toNatClampNeg c4) hc rfl dX0_underOf_53 rfl ?_
        refine gw_callSi X 57 [.int c2, .int (σ.1 3 (Int32.toNatClampNeg c4))] (mt_X0_isOf rfl) lk_X0_114 yd_X0_isOf rfl rfl rfl dX0_underOf_54 rfl rfl rfl ?_
        refine gw_if_eqB X 67 60 dX0_underOf_57 rfl rfl (fun z => ?_) (fun z => ?_)
        · replace hp := gw_f z hp
          refine gw_iconst X 68 dX0_underOf_67 rfl gw_ci_0 ?_
          refine gw_ior X 69 dX0_underOf_68 rfl ?_
          refine gw_istore_n X 70 [(2, .int (c2 ||| (0 : Int32))), (0, .ref (a 0)), (3, .int v3), (4, .int c4)] dX0_underOf_69 rfl rfl (by decide) rfl ?_
          refine gw_iinc X 73 3 [(4, .int (c4 + 1)), (2, .int (c2 ||| (0 : Int32))), (0, .ref (a 0)), (3, .int v3)] dX0_underOf_70 rfl rfl gw_ci_1 (by decide) rfl ?_
          refine gw_goto X 22 dX0_underOf_73 rfl ?_
          refine gw_lv [2, 1, 3, 0] rfl ?_
          exact ih hp hk
        · replace hp := gw_t z hp
          refine gw_iconst X 61 dX0_underOf_60 rfl gw_ci_1 ?_
          refine gw_iload X 63 3 dX0_underOf_61 rfl rfl ?_
          refine gw_ishl X 64 dX0_underOf_63 rfl ?_
          refine gw_goto X 68 dX0_underOf_64 rfl ?_
          refine gw_ior X 69 dX0_underOf_68 rfl ?_
          refine gw_istore_n X 70 [(2, .int (c2 ||| ((1 : Int32) <<< (c4 &&& 31)))), (0, .ref (a 0)), (3, .int v3), (4, .int c4)] dX0_underOf_69 rfl rfl (by decide) rfl ?_
          refine gw_iinc X 73 3 [(4, .int (c4 + 1)), (2, .int (c2 ||| ((1 : Int32) <<< (c4 &&& 31)))), (0, .ref (a 0)), (3, .int v3)] dX0_underOf_70 rfl rfl gw_ci_1 (by decide) rfl ?_
          refine gw_goto X 22 dX0_underOf_73 rfl ?_
          refine gw_lv [2, 1, 3, 0] rfl ?_
          exact ih hp hk
set_option maxHeartbeats 4000000 in
theorem wk_X0_underOf_L8 {E : gw_E} {l : Launch} {D : gw_D} {a : Nat → Nat} {Wr : va_W → Prop} {σ : gw_S} {res : Int32} (X : gw_X E cX0_underOf 5 RX0 (some .int) l D rm_X0_underOf (some (gw_pI res (gw_st (wX D a σ) Wr))))  : ∀ {n : Nat} {c2 : Int32} {c3 : Int32}, fx_X0_underOf_L8 σ n c2 c3 = some res → gw_W E 8 [(0, .ref (a 0)), (2, .int c2), (3, .int c3)] [] (gw_st (wX D a σ) Wr) 0 0 := by
  intro n
  induction n with
  | zero =>
    intro c2 c3 hp
    cases (show none = some res from hp)
  | succ n ih =>
    intro c2 c3 hp
    rw [fx_X0_underOf_L8] at hp
    refine gw_iload_n X 9 2 dX0_underOf_8 rfl rfl rfl ?_
    refine gw_aload_n X 10 0 dX0_underOf_9 rfl rfl rfl ?_
    refine gX_g0_0 X 13 q280 dX0_underOf_10 rfl ?_
    refine gX_g1_2N X 16 q193 dX0_underOf_13 rfl ?_
    refine gw_icmp_ge X 82 19 dX0_underOf_16 rfl rfl (fun z => ?_) (fun z => ?_)
    · replace hp := gw_t z hp
      refine gw_iload_n X 83 1 dX0_underOf_82 rfl rfl rfl ?_
      cases hp
      exact gw_iret X dX0_underOf_83 (fun _ h => ⟨rfl, h⟩) (Nat.le_of_ble_eq_true rfl) (Nat.le_of_ble_eq_true rfl)
    · replace hp := gw_f z hp
      refine gw_iconst X 20 dX0_underOf_19 rfl gw_ci_0 ?_
      refine gw_istore X 22 [(4, .int 0), (0, .ref (a 0)), (2, .int c2), (3, .int c3)] dX0_underOf_20 rfl (by decide) rfl ?_
      refine gw_lv [1, 2, 3, 0] rfl ?_
      refine wk_X0_underOf_L22 X hp ?_
      clear hp
      intro e3 hp
      refine gw_iinc X 79 2 [(3, .int (c3 + 1)), (0, .ref (a 0)), (2, .int e3)] dX0_underOf_76 rfl rfl gw_ci_1 (by decide) rfl ?_
      refine gw_goto X 8 dX0_underOf_79 rfl ?_
      refine gw_lv [1, 2, 0] rfl ?_
      exact ih hp
set_option maxHeartbeats 4000000 in
theorem mt_X0_underOf {l : Launch} {D : gw_D} {a : Nat → Nat} {Wr : va_W → Prop} {σ : gw_S} {x1 : Int32} {res : Int32} (hp : fx_X0_underOf σ x1 = some res) : gw_Ct D l yX0_underOf cX0_underOf 5 (some .int) rm_X0_underOf [.ref (a 0), .int x1] (gw_st (wX D a σ) Wr) (gw_pI res (gw_st (wX D a σ) Wr)) := by
  refine gw_ct (own := RX0) [(0, .ref (a 0)), (1, .int x1)] (by decide) rfl (Nat.le_of_ble_eq_true rfl) rfl ?_
  intro E X
  unfold fx_X0_underOf at hp
  refine gw_aload_n X 1 0 dX0_underOf_0 rfl rfl rfl ?_
  refine gw_iload_n X 2 1 dX0_underOf_1 rfl rfl rfl ?_
  obtain ⟨r1, h2, hp⟩ := gw_b1_some hp
  refine gw_callVi X 5 [.int x1] (mt_X0_handOf h2) lk_X0_198 ydv_X0_handOf gX_cl0 gX_at0 rfl rfl rfl dX0_underOf_2 rfl rfl rfl ?_
  refine gw_istore_n X 6 [(2, .int r1), (0, .ref (a 0)), (1, .int x1)] dX0_underOf_5 rfl rfl (by decide) rfl ?_
  refine gw_iconst X 7 dX0_underOf_6 rfl gw_ci_0 ?_
  refine gw_istore_n X 8 [(3, .int 0), (2, .int r1), (0, .ref (a 0)), (1, .int x1)] dX0_underOf_7 rfl rfl (by decide) rfl ?_
  refine gw_lv [2, 1, 0] rfl ?_
  exact wk_X0_underOf_L8 X hp
abbrev rm_X0_cost : Room := { frames := 1, cells := 0, slots := 0, locals := 21 }
def fx_X0_cost (σ : gw_S) (x1 : Int32) : Int32 := (if fx_X0_isOf (σ.1 1 4) x1 = true then 2 else 1)
set_option maxHeartbeats 4000000 in
theorem mt_X0_cost {l : Launch} {D : gw_D} {a : Nat → Nat} {Wr : va_W → Prop} {σ : gw_S} {x1 : Int32} {res : Int32} (hp : fx_X0_cost σ x1 = res) : gw_Ct D l yX0_cost cX0_cost 2 (some .int) rm_X0_cost [.ref (a 0), .int x1] (gw_st (wX D a σ) Wr) (gw_pI res (gw_st (wX D a σ) Wr)) := by
  refine gw_ct (own := RX0) [(0, .ref (a 0)), (1, .int x1)] (by decide) rfl (Nat.le_of_ble_eq_true rfl) rfl ?_
  intro E X
  unfold fx_X0_cost at hp
  refine gw_aload_n X 1 0 dX0_cost_0 rfl rfl rfl ?_
  refine gX_g0_0 X 4 q280 dX0_cost_1 rfl ?_
  refine gX_g1_4N X 7 q199 dX0_cost_4 rfl ?_
  refine gw_iload_n X 8 1 dX0_cost_7 rfl rfl rfl ?_
  refine gw_callSi X 11 [.int (σ.1 1 4), .int x1] (mt_X0_isOf rfl) lk_X0_114 yd_X0_isOf rfl rfl rfl dX0_cost_8 rfl rfl rfl ?_
  refine gw_if_eqB X 18 14 dX0_cost_11 rfl rfl (fun z => ?_) (fun z => ?_)
  · replace hp := gw_f z hp
    refine gw_iconst X 19 dX0_cost_18 rfl gw_ci_1 ?_
    cases hp
    exact gw_iret X dX0_cost_19 (fun _ h => ⟨rfl, h⟩) (Nat.le_of_ble_eq_true rfl) (Nat.le_of_ble_eq_true rfl)
  · replace hp := gw_t z hp
    refine gw_iconst X 15 dX0_cost_14 rfl gw_ci_2 ?_
    refine gw_goto X 19 dX0_cost_15 rfl ?_
    cases hp
    exact gw_iret X dX0_cost_19 (fun _ h => ⟨rfl, h⟩) (Nat.le_of_ble_eq_true rfl) (Nat.le_of_ble_eq_true rfl)
abbrev rm_X0_timeOf : Room := { frames := 2, cells := 0, slots := 0, locals := 42 }
def fx_X0_timeOf_L8 (σ : gw_S) (v1 : Int32) : Nat → Int32 → Int32 → Int32 → Option (Int32)
  | 0, _, _, _ => none
  | n + 1, c3, c4, c5 => (if (σ.1 1 2) ≤ c5 then some (-1) else gw_ck c4 8 ((if (σ.1 3 (Int32.toNatClampNeg c4)) = (-1 : Int32) then some (-1) else gw_ck c4 8 ((if (σ.1 3 (Int32.toNatClampNeg c4)) = v1 then some (c3 + (fx_X0_cost σ c4)) else fx_X0_timeOf_L8 σ v1 n (c3 + (fx_X0_cost σ c4)) (σ.1 3 (Int32.toNatClampNeg c4)) (c5 + 1))))))
def fx_X0_timeOf (σ : gw_S) (x1 : Int32) (x2 : Int32) : Option (Int32) := fx_X0_timeOf_L8 σ x1 1000 (0 : Int32) x2 (0 : Int32)
set_option maxHeartbeats 4000000 in
theorem wk_X0_timeOf_L8 {E : gw_E} {l : Launch} {D : gw_D} {a : Nat → Nat} {Wr : va_W → Prop} {σ : gw_S} {res : Int32} (X : gw_X E cX0_timeOf 6 RX0 (some .int) l D rm_X0_timeOf (some (gw_pI res (gw_st (wX D a σ) Wr)))) {v1 : Int32} : ∀ {n : Nat} {c3 : Int32} {c4 : Int32} {c5 : Int32}, fx_X0_timeOf_L8 σ v1 n c3 c4 c5 = some res → gw_W E 8 [(0, .ref (a 0)), (1, .int v1), (3, .int c3), (4, .int c4), (5, .int c5)] [] (gw_st (wX D a σ) Wr) 0 0 := by
  intro n
  induction n with
  | zero =>
    intro c3 c4 c5 hp
    cases (show none = some res from hp)
  | succ n ih =>
    intro c3 c4 c5 hp
    rw [fx_X0_timeOf_L8] at hp
    refine gw_iload X 10 4 dX0_timeOf_8 rfl rfl ?_
    refine gw_aload_n X 11 0 dX0_timeOf_10 rfl rfl rfl ?_
    refine gX_g0_0 X 14 q280 dX0_timeOf_11 rfl ?_
    refine gX_g1_2N X 17 q193 dX0_timeOf_14 rfl ?_
    refine gw_icmp_ge X 63 20 dX0_timeOf_17 rfl rfl (fun z => ?_) (fun z => ?_)
    · replace hp := gw_t z hp
      refine gw_iconst X 64 dX0_timeOf_63 rfl gw_ci_m1 ?_
      cases hp
      exact gw_iret X dX0_timeOf_64 (fun _ h => ⟨rfl, h⟩) (Nat.le_of_ble_eq_true rfl) (Nat.le_of_ble_eq_true rfl)
    · replace hp := gw_f z hp
      refine gw_aload_n X 21 0 dX0_timeOf_20 rfl rfl rfl ?_
      refine gX_g0_9 X 24 q303 dX0_timeOf_21 rfl ?_
      refine gw_iload X 26 3 dX0_timeOf_24 rfl rfl ?_
      obtain ⟨hc, hp⟩ := gw_ck_some hp
      refine gX_l3 X 27 (Int32.toNatClampNeg c4) hc rfl dX0_timeOf_26 rfl ?_
      refine gw_iconst X 28 dX0_timeOf_27 rfl gw_ci_m1 ?_
      refine gw_icmp_eq X 63 31 dX0_timeOf_28 rfl rfl (fun z => ?_) (fun z => ?_)
      · replace hp := gw_t z hp
        refine gw_iconst X 64 dX0_timeOf_63 rfl gw_ci_m1 ?_
        cases hp
        exact gw_iret X dX0_timeOf_64 (fun _ h => ⟨rfl, h⟩) (Nat.le_of_ble_eq_true rfl) (Nat.le_of_ble_eq_true rfl)
      · replace hp := gw_f z hp
        refine gw_iload_n X 32 2 dX0_timeOf_31 rfl rfl rfl ?_
        refine gw_aload_n X 33 0 dX0_timeOf_32 rfl rfl rfl ?_
        refine gw_iload X 35 3 dX0_timeOf_33 rfl rfl ?_
        refine gw_callVi X 38 [.int c4] (mt_X0_cost rfl) lk_X0_211 ydv_X0_cost gX_cl0 gX_at0 rfl rfl rfl dX0_timeOf_35 rfl rfl rfl ?_
        refine gw_iadd X 39 dX0_timeOf_38 rfl ?_
        refine gw_istore_n X 40 [(3, .int (c3 + (fx_X0_cost σ c4))), (0, .ref (a 0)), (1, .int v1), (4, .int c4), (5, .int c5)] dX0_timeOf_39 rfl rfl (by decide) rfl ?_
        refine gw_aload_n X 41 1 dX0_timeOf_40 rfl rfl rfl ?_
        refine gX_g0_9 X 44 q303 dX0_timeOf_41 rfl ?_
        refine gw_iload X 46 3 dX0_timeOf_44 rfl rfl ?_
        obtain ⟨hc, hp⟩ := gw_ck_some hp
        refine gX_l3 X 47 (Int32.toNatClampNeg c4) hc rfl dX0_timeOf_46 rfl ?_
        refine gw_istore X 49 [(4, .int (σ.1 3 (Int32.toNatClampNeg c4))), (3, .int (c3 + (fx_X0_cost σ c4))), (0, .ref (a 0)), (1, .int v1), (5, .int c5)] dX0_timeOf_47 rfl (by decide) rfl ?_
        refine gw_iload X 51 0 dX0_timeOf_49 rfl rfl ?_
        refine gw_iload_n X 52 3 dX0_timeOf_51 rfl rfl rfl ?_
        refine gw_icmp_ne X 57 55 dX0_timeOf_52 rfl rfl (fun z => ?_) (fun z => ?_)
        · replace hp := gw_f z hp
          refine gw_iinc X 60 4 [(5, .int (c5 + 1)), (4, .int (σ.1 3 (Int32.toNatClampNeg c4))), (3, .int (c3 + (fx_X0_cost σ c4))), (0, .ref (a 0)), (1, .int v1)] dX0_timeOf_57 rfl rfl gw_ci_1 (by decide) rfl ?_
          refine gw_goto X 8 dX0_timeOf_60 rfl ?_
          refine gw_lv [3, 4, 2, 1, 0] rfl ?_
          exact ih hp
        · replace hp := gw_t z hp
          refine gw_iload_n X 56 1 dX0_timeOf_55 rfl rfl rfl ?_
          cases hp
          exact gw_iret X dX0_timeOf_56 (fun _ h => ⟨rfl, h⟩) (Nat.le_of_ble_eq_true rfl) (Nat.le_of_ble_eq_true rfl)
set_option maxHeartbeats 4000000 in
theorem mt_X0_timeOf {l : Launch} {D : gw_D} {a : Nat → Nat} {Wr : va_W → Prop} {σ : gw_S} {x1 : Int32} {x2 : Int32} {res : Int32} (hp : fx_X0_timeOf σ x1 x2 = some res) : gw_Ct D l yX0_timeOf cX0_timeOf 6 (some .int) rm_X0_timeOf [.ref (a 0), .int x1, .int x2] (gw_st (wX D a σ) Wr) (gw_pI res (gw_st (wX D a σ) Wr)) := by
  refine gw_ct (own := RX0) [(0, .ref (a 0)), (1, .int x1), (2, .int x2)] (by decide) rfl (Nat.le_of_ble_eq_true rfl) rfl ?_
  intro E X
  unfold fx_X0_timeOf at hp
  refine gw_iconst X 1 dX0_timeOf_0 rfl gw_ci_0 ?_
  refine gw_istore_n X 2 [(3, .int 0), (0, .ref (a 0)), (1, .int x1), (2, .int x2)] dX0_timeOf_1 rfl rfl (by decide) rfl ?_
  refine gw_iload_n X 3 3 dX0_timeOf_2 rfl rfl rfl ?_
  refine gw_istore X 5 [(4, .int x2), (3, .int 0), (0, .ref (a 0)), (1, .int x1), (2, .int x2)] dX0_timeOf_3 rfl (by decide) rfl ?_
  refine gw_iconst X 6 dX0_timeOf_5 rfl gw_ci_0 ?_
  refine gw_istore X 8 [(5, .int 0), (4, .int x2), (3, .int 0), (0, .ref (a 0)), (1, .int x1), (2, .int x2)] dX0_timeOf_6 rfl (by decide) rfl ?_
  refine gw_lv [3, 4, 2, 1, 0] rfl ?_
  exact wk_X0_timeOf_L8 X hp
abbrev rm_X0_ringOf : Room := { frames := 0, cells := 0, slots := 0, locals := 0 }
def fx_X0_ringOf_L4 (σ : gw_S) (v1 : Int32) : Nat → Int32 → Int32 → Option (Int32)
  | 0, _, _ => none
  | n + 1, c2, c3 => (if (σ.1 1 2) < c3 then some 0 else gw_ck c2 8 ((if (σ.1 3 (Int32.toNatClampNeg c2)) = (-1 : Int32) then some 0 else (if (σ.1 3 (Int32.toNatClampNeg c2)) = v1 then some c3 else fx_X0_ringOf_L4 σ v1 n (σ.1 3 (Int32.toNatClampNeg c2)) (c3 + 1)))))
def fx_X0_ringOf (σ : gw_S) (x1 : Int32) : Option (Int32) := fx_X0_ringOf_L4 σ x1 1000 x1 (1 : Int32)
set_option maxHeartbeats 4000000 in
theorem wk_X0_ringOf_L4 {E : gw_E} {l : Launch} {D : gw_D} {a : Nat → Nat} {Wr : va_W → Prop} {σ : gw_S} {res : Int32} (X : gw_X E cX0_ringOf 4 RX0 (some .int) l D rm_X0_ringOf (some (gw_pI res (gw_st (wX D a σ) Wr)))) {v1 : Int32} : ∀ {n : Nat} {c2 : Int32} {c3 : Int32}, fx_X0_ringOf_L4 σ v1 n c2 c3 = some res → gw_W E 4 [(0, .ref (a 0)), (1, .int v1), (2, .int c2), (3, .int c3)] [] (gw_st (wX D a σ) Wr) 0 0 := by
  intro n
  induction n with
  | zero =>
    intro c2 c3 hp
    cases (show none = some res from hp)
  | succ n ih =>
    intro c2 c3 hp
    rw [fx_X0_ringOf_L4] at hp
    refine gw_iload_n X 5 3 dX0_ringOf_4 rfl rfl rfl ?_
    refine gw_aload_n X 6 0 dX0_ringOf_5 rfl rfl rfl ?_
    refine gX_g0_0 X 9 q280 dX0_ringOf_6 rfl ?_
    refine gX_g1_2N X 12 q193 dX0_ringOf_9 rfl ?_
    refine gw_icmp_gt X 42 15 dX0_ringOf_12 rfl rfl (fun z => ?_) (fun z => ?_)
    · replace hp := gw_t z hp
      refine gw_iconst X 43 dX0_ringOf_42 rfl gw_ci_0 ?_
      cases hp
      exact gw_iret X dX0_ringOf_43 (fun _ h => ⟨rfl, h⟩) (Nat.le_of_ble_eq_true rfl) (Nat.le_of_ble_eq_true rfl)
    · replace hp := gw_f z hp
      refine gw_aload_n X 16 0 dX0_ringOf_15 rfl rfl rfl ?_
      refine gX_g0_9 X 19 q303 dX0_ringOf_16 rfl ?_
      refine gw_iload_n X 20 2 dX0_ringOf_19 rfl rfl rfl ?_
      obtain ⟨hc, hp⟩ := gw_ck_some hp
      refine gX_l3 X 21 (Int32.toNatClampNeg c2) hc rfl dX0_ringOf_20 rfl ?_
      refine gw_istore_n X 22 [(2, .int (σ.1 3 (Int32.toNatClampNeg c2))), (0, .ref (a 0)), (1, .int v1), (3, .int c3)] dX0_ringOf_21 rfl rfl (by decide) rfl ?_
      refine gw_iload_n X 23 0 dX0_ringOf_22 rfl rfl rfl ?_
      refine gw_iconst X 24 dX0_ringOf_23 rfl gw_ci_m1 ?_
      refine gw_icmp_ne X 29 27 dX0_ringOf_24 rfl rfl (fun z => ?_) (fun z => ?_)
      · replace hp := gw_f z hp
        refine gw_iload_n X 30 0 dX0_ringOf_29 rfl rfl rfl ?_
        refine gw_iload_n X 31 2 dX0_ringOf_30 rfl rfl rfl ?_
        refine gw_icmp_ne X 36 34 dX0_ringOf_31 rfl rfl (fun z => ?_) (fun z => ?_)
        · replace hp := gw_f z hp
          refine gw_iinc X 39 3 [(3, .int (c3 + 1)), (2, .int (σ.1 3 (Int32.toNatClampNeg c2))), (0, .ref (a 0)), (1, .int v1)] dX0_ringOf_36 rfl rfl gw_ci_1 (by decide) rfl ?_
          refine gw_goto X 4 dX0_ringOf_39 rfl ?_
          refine gw_lv [2, 3, 1, 0] rfl ?_
          exact ih hp
        · replace hp := gw_t z hp
          refine gw_iload_n X 35 3 dX0_ringOf_34 rfl rfl rfl ?_
          cases hp
          exact gw_iret X dX0_ringOf_35 (fun _ h => ⟨rfl, h⟩) (Nat.le_of_ble_eq_true rfl) (Nat.le_of_ble_eq_true rfl)
      · replace hp := gw_t z hp
        refine gw_iconst X 28 dX0_ringOf_27 rfl gw_ci_0 ?_
        cases hp
        exact gw_iret X dX0_ringOf_28 (fun _ h => ⟨rfl, h⟩) (Nat.le_of_ble_eq_true rfl) (Nat.le_of_ble_eq_true rfl)
set_option maxHeartbeats 4000000 in
theorem mt_X0_ringOf {l : Launch} {D : gw_D} {a : Nat → Nat} {Wr : va_W → Prop} {σ : gw_S} {x1 : Int32} {res : Int32} (hp : fx_X0_ringOf σ x1 = some res) : gw_Ct D l yX0_ringOf cX0_ringOf 4 (some .int) rm_X0_ringOf [.ref (a 0), .int x1] (gw_st (wX D a σ) Wr) (gw_pI res (gw_st (wX D a σ) Wr)) := by
  refine gw_ct (own := RX0) [(0, .ref (a 0)), (1, .int x1)] (by decide) rfl (Nat.le_of_ble_eq_true rfl) rfl ?_
  intro E X
  unfold fx_X0_ringOf at hp
  refine gw_iload_n X 1 1 dX0_ringOf_0 rfl rfl rfl ?_
  refine gw_istore_n X 2 [(2, .int x1), (0, .ref (a 0)), (1, .int x1)] dX0_ringOf_1 rfl rfl (by decide) rfl ?_
  refine gw_iconst X 3 dX0_ringOf_2 rfl gw_ci_1 ?_
  refine gw_istore_n X 4 [(3, .int 1), (2, .int x1), (0, .ref (a 0)), (1, .int x1)] dX0_ringOf_3 rfl rfl (by decide) rfl ?_
  refine gw_lv [2, 3, 1, 0] rfl ?_
  exact wk_X0_ringOf_L4 X hp
abbrev rm_X0_leastOf : Room := { frames := 1, cells := 0, slots := 0, locals := 24 }
def fx_X0_leastOf_L9 (σ : gw_S) (v1 : Int32) : Nat → Int32 → Int32 → Option (Int32)
  | 0, _, _ => none
  | n + 1, c2, c3 => (if c3 = v1 then some c2 else gw_ck c3 8 (fx_X0_leastOf_L9 σ v1 n (if c3 < c2 then c3 else c2) (σ.1 3 (Int32.toNatClampNeg c3))))
def fx_X0_leastOf (σ : gw_S) (x1 : Int32) : Option (Int32) := gw_ck x1 8 (fx_X0_leastOf_L9 σ x1 1000 x1 (σ.1 3 (Int32.toNatClampNeg x1)))
set_option maxHeartbeats 4000000 in
theorem wk_X0_leastOf_L9 {E : gw_E} {l : Launch} {D : gw_D} {a : Nat → Nat} {Wr : va_W → Prop} {σ : gw_S} {res : Int32} (X : gw_X E cX0_leastOf 4 RX0 (some .int) l D rm_X0_leastOf (some (gw_pI res (gw_st (wX D a σ) Wr)))) {v1 : Int32} : ∀ {n : Nat} {c2 : Int32} {c3 : Int32}, fx_X0_leastOf_L9 σ v1 n c2 c3 = some res → gw_W E 9 [(0, .ref (a 0)), (1, .int v1), (2, .int c2), (3, .int c3)] [] (gw_st (wX D a σ) Wr) 0 0 := by
  intro n
  induction n with
  | zero =>
    intro c2 c3 hp
    cases (show none = some res from hp)
  | succ n ih =>
    intro c2 c3 hp
    rw [fx_X0_leastOf_L9] at hp
    refine gw_iload_n X 10 3 dX0_leastOf_9 rfl rfl rfl ?_
    refine gw_iload_n X 11 1 dX0_leastOf_10 rfl rfl rfl ?_
    refine gw_icmp_eq X 30 14 dX0_leastOf_11 rfl rfl (fun z => ?_) (fun z => ?_)
    · replace hp := gw_t z hp
      refine gw_iload_n X 31 2 dX0_leastOf_30 rfl rfl rfl ?_
      cases hp
      exact gw_iret X dX0_leastOf_31 (fun _ h => ⟨rfl, h⟩) (Nat.le_of_ble_eq_true rfl) (Nat.le_of_ble_eq_true rfl)
    · replace hp := gw_f z hp
      refine gw_iload_n X 15 2 dX0_leastOf_14 rfl rfl rfl ?_
      refine gw_iload_n X 16 3 dX0_leastOf_15 rfl rfl rfl ?_
      refine gw_mmin X 19 q875 dX0_leastOf_16 rfl rfl rfl ?_
      refine gw_istore_n X 20 [(2, .int (if c3 < c2 then c3 else c2)), (0, .ref (a 0)), (1, .int v1), (3, .int c3)] dX0_leastOf_19 rfl rfl (by decide) rfl ?_
      refine gw_aload_n X 21 1 dX0_leastOf_20 rfl rfl rfl ?_
      refine gX_g0_9 X 24 q303 dX0_leastOf_21 rfl ?_
      refine gw_iload_n X 25 3 dX0_leastOf_24 rfl rfl rfl ?_
      obtain ⟨hc, hp⟩ := gw_ck_some hp
      refine gX_l3 X 26 (Int32.toNatClampNeg c3) hc rfl dX0_leastOf_25 rfl ?_
      refine gw_istore_n X 27 [(3, .int (σ.1 3 (Int32.toNatClampNeg c3))), (2, .int (if c3 < c2 then c3 else c2)), (0, .ref (a 0)), (1, .int v1)] dX0_leastOf_26 rfl rfl (by decide) rfl ?_
      refine gw_goto X 9 dX0_leastOf_27 rfl ?_
      refine gw_lv [2, 3, 1, 0] rfl ?_
      exact ih hp
set_option maxHeartbeats 4000000 in
theorem mt_X0_leastOf {l : Launch} {D : gw_D} {a : Nat → Nat} {Wr : va_W → Prop} {σ : gw_S} {x1 : Int32} {res : Int32} (hp : fx_X0_leastOf σ x1 = some res) : gw_Ct D l yX0_leastOf cX0_leastOf 4 (some .int) rm_X0_leastOf [.ref (a 0), .int x1] (gw_st (wX D a σ) Wr) (gw_pI res (gw_st (wX D a σ) Wr)) := by
  refine gw_ct (own := RX0) [(0, .ref (a 0)), (1, .int x1)] (by decide) rfl (Nat.le_of_ble_eq_true rfl) rfl ?_
  intro E X
  unfold fx_X0_leastOf at hp
  refine gw_iload_n X 1 1 dX0_leastOf_0 rfl rfl rfl ?_
  refine gw_istore_n X 2 [(2, .int x1), (0, .ref (a 0)), (1, .int x1)] dX0_leastOf_1 rfl rfl (by decide) rfl ?_
  refine gw_aload_n X 3 1 dX0_leastOf_2 rfl rfl rfl ?_
  refine gX_g0_9 X 6 q303 dX0_leastOf_3 rfl ?_
  refine gw_iload_n X 7 2 dX0_leastOf_6 rfl rfl rfl ?_
  obtain ⟨hc, hp⟩ := gw_ck_some hp
  refine gX_l3 X 8 (Int32.toNatClampNeg x1) hc rfl dX0_leastOf_7 rfl ?_
  refine gw_istore_n X 9 [(3, .int (σ.1 3 (Int32.toNatClampNeg x1))), (2, .int x1), (0, .ref (a 0)), (1, .int x1)] dX0_leastOf_8 rfl rfl (by decide) rfl ?_
  refine gw_lv [2, 3, 1, 0] rfl ?_
  exact wk_X0_leastOf_L9 X hp
abbrev rm_X0_ringMany : Room := { frames := 2, cells := 0, slots := 0, locals := 47 }
def fx_X0_ringMany_L4 (σ : gw_S)  : Nat → Int32 → Int32 → Option (Int32)
  | 0, _, _ => none
  | n + 1, c1, c2 => (if (σ.1 1 2) ≤ c2 then some c1 else gw_b1 (fx_X0_ringOf σ c2) (fun r1 => (if r1 ≤ 0 then fx_X0_ringMany_L4 σ n (c1 + (0 : Int32)) (c2 + 1) else gw_b1 (fx_X0_leastOf σ c2) (fun r3 => (if r3 = c2 then fx_X0_ringMany_L4 σ n (c1 + (1 : Int32)) (c2 + 1) else fx_X0_ringMany_L4 σ n (c1 + (0 : Int32)) (c2 + 1))))))
def fx_X0_ringMany (σ : gw_S)  : Option (Int32) := fx_X0_ringMany_L4 σ 1000 (0 : Int32) (0 : Int32)
set_option maxHeartbeats 4000000 in
theorem wk_X0_ringMany_L4 {E : gw_E} {l : Launch} {D : gw_D} {a : Nat → Nat} {Wr : va_W → Prop} {σ : gw_S} {res : Int32} (X : gw_X E cX0_ringMany 3 RX0 (some .int) l D rm_X0_ringMany (some (gw_pI res (gw_st (wX D a σ) Wr))))  : ∀ {n : Nat} {c1 : Int32} {c2 : Int32}, fx_X0_ringMany_L4 σ n c1 c2 = some res → gw_W E 4 [(0, .ref (a 0)), (1, .int c1), (2, .int c2)] [] (gw_st (wX D a σ) Wr) 0 0 := by
  intro n
  induction n with
  | zero =>
    intro c1 c2 hp
    cases (show none = some res from hp)
  | succ n ih =>
    intro c1 c2 hp
    rw [fx_X0_ringMany_L4] at hp
    refine gw_iload_n X 5 2 dX0_ringMany_4 rfl rfl rfl ?_
    refine gw_aload_n X 6 0 dX0_ringMany_5 rfl rfl rfl ?_
    refine gX_g0_0 X 9 q280 dX0_ringMany_6 rfl ?_
    refine gX_g1_2N X 12 q193 dX0_ringMany_9 rfl ?_
    refine gw_icmp_ge X 46 15 dX0_ringMany_12 rfl rfl (fun z => ?_) (fun z => ?_)
    · replace hp := gw_t z hp
      refine gw_iload_n X 47 1 dX0_ringMany_46 rfl rfl rfl ?_
      cases hp
      exact gw_iret X dX0_ringMany_47 (fun _ h => ⟨rfl, h⟩) (Nat.le_of_ble_eq_true rfl) (Nat.le_of_ble_eq_true rfl)
    · replace hp := gw_f z hp
      refine gw_iload_n X 16 1 dX0_ringMany_15 rfl rfl rfl ?_
      refine gw_aload_n X 17 0 dX0_ringMany_16 rfl rfl rfl ?_
      refine gw_iload_n X 18 2 dX0_ringMany_17 rfl rfl rfl ?_
      obtain ⟨r1, h2, hp⟩ := gw_b1_some hp
      refine gw_callVi X 21 [.int c2] (mt_X0_ringOf h2) lk_X0_218 ydv_X0_ringOf gX_cl0 gX_at0 rfl rfl rfl dX0_ringMany_18 rfl rfl rfl ?_
      refine gw_if_le X 37 24 dX0_ringMany_21 rfl rfl (fun z => ?_) (fun z => ?_)
      · replace hp := gw_t z hp
        refine gw_iconst X 38 dX0_ringMany_37 rfl gw_ci_0 ?_
        refine gw_iadd X 39 dX0_ringMany_38 rfl ?_
        refine gw_istore_n X 40 [(1, .int (c1 + (0 : Int32))), (0, .ref (a 0)), (2, .int c2)] dX0_ringMany_39 rfl rfl (by decide) rfl ?_
        refine gw_iinc X 43 2 [(2, .int (c2 + 1)), (1, .int (c1 + (0 : Int32))), (0, .ref (a 0))] dX0_ringMany_40 rfl rfl gw_ci_1 (by decide) rfl ?_
        refine gw_goto X 4 dX0_ringMany_43 rfl ?_
        refine gw_lv [2, 1, 0] rfl ?_
        exact ih hp
      · replace hp := gw_f z hp
        refine gw_aload_n X 25 0 dX0_ringMany_24 rfl rfl rfl ?_
        refine gw_iload_n X 26 2 dX0_ringMany_25 rfl rfl rfl ?_
        obtain ⟨r3, h4, hp⟩ := gw_b1_some hp
        refine gw_callVi X 29 [.int c2] (mt_X0_leastOf h4) lk_X0_226 ydv_X0_leastOf gX_cl0 gX_at0 rfl rfl rfl dX0_ringMany_26 rfl rfl rfl ?_
        refine gw_iload_n X 30 2 dX0_ringMany_29 rfl rfl rfl ?_
        refine gw_icmp_ne X 37 33 dX0_ringMany_30 rfl rfl (fun z => ?_) (fun z => ?_)
        · replace hp := gw_f z hp
          refine gw_iconst X 38 dX0_ringMany_37 rfl gw_ci_0 ?_
          refine gw_iadd X 39 dX0_ringMany_38 rfl ?_
          refine gw_istore_n X 40 [(1, .int (c1 + (0 : Int32))), (0, .ref (a 0)), (2, .int c2)] dX0_ringMany_39 rfl rfl (by decide) rfl ?_
          refine gw_iinc X 43 2 [(2, .int (c2 + 1)), (1, .int (c1 + (0 : Int32))), (0, .ref (a 0))] dX0_ringMany_40 rfl rfl gw_ci_1 (by decide) rfl ?_
          refine gw_goto X 4 dX0_ringMany_43 rfl ?_
          refine gw_lv [2, 1, 0] rfl ?_
          exact ih hp
        · replace hp := gw_t z hp
          refine gw_iconst X 34 dX0_ringMany_33 rfl gw_ci_1 ?_
          refine gw_goto X 38 dX0_ringMany_34 rfl ?_
          refine gw_iadd X 39 dX0_ringMany_38 rfl ?_
          refine gw_istore_n X 40 [(1, .int (c1 + (1 : Int32))), (0, .ref (a 0)), (2, .int c2)] dX0_ringMany_39 rfl rfl (by decide) rfl ?_
          refine gw_iinc X 43 2 [(2, .int (c2 + 1)), (1, .int (c1 + (1 : Int32))), (0, .ref (a 0))] dX0_ringMany_40 rfl rfl gw_ci_1 (by decide) rfl ?_
          refine gw_goto X 4 dX0_ringMany_43 rfl ?_
          refine gw_lv [2, 1, 0] rfl ?_
          exact ih hp
set_option maxHeartbeats 4000000 in
theorem mt_X0_ringMany {l : Launch} {D : gw_D} {a : Nat → Nat} {Wr : va_W → Prop} {σ : gw_S}  {res : Int32} (hp : fx_X0_ringMany σ  = some res) : gw_Ct D l yX0_ringMany cX0_ringMany 3 (some .int) rm_X0_ringMany [.ref (a 0)] (gw_st (wX D a σ) Wr) (gw_pI res (gw_st (wX D a σ) Wr)) := by
  refine gw_ct (own := RX0) [(0, .ref (a 0))] (by decide) rfl (Nat.le_of_ble_eq_true rfl) rfl ?_
  intro E X
  unfold fx_X0_ringMany at hp
  refine gw_iconst X 1 dX0_ringMany_0 rfl gw_ci_0 ?_
  refine gw_istore_n X 2 [(1, .int 0), (0, .ref (a 0))] dX0_ringMany_1 rfl rfl (by decide) rfl ?_
  refine gw_iconst X 3 dX0_ringMany_2 rfl gw_ci_0 ?_
  refine gw_istore_n X 4 [(2, .int 0), (1, .int 0), (0, .ref (a 0))] dX0_ringMany_3 rfl rfl (by decide) rfl ?_
  refine gw_lv [2, 1, 0] rfl ?_
  exact wk_X0_ringMany_L4 X hp
abbrev rm_X0_isDeed : Room := { frames := 2, cells := 0, slots := 0, locals := 47 }
def fx_X0_isDeed (x0 : Int64) : Bool := fx_X0_isOneOf x0 (6 : Int32)
set_option maxHeartbeats 4000000 in
theorem mt_X0_isDeed {l : Launch} {D : gw_D} {Ws : va_W → Prop} {x0 : Int64} {res : Bool} (hp : fx_X0_isDeed x0 = res) : gw_Ct D l yX0_isDeed cX0_isDeed 2 (some .boolean) rm_X0_isDeed [.long x0] Ws (gw_pI (gw_b res) Ws) := by
  refine gw_ct (own := RX0) [(0, .long x0)] (by decide) rfl (Nat.le_of_ble_eq_true rfl) rfl ?_
  intro E X
  unfold fx_X0_isDeed at hp
  refine gw_lload_n X 1 0 dX0_isDeed_0 rfl rfl rfl ?_
  refine gw_bipush X 3 dX0_isDeed_1 rfl gw_cb_6 ?_
  refine gw_callSi X 6 [.long x0, .int 6] (mt_X0_isOneOf rfl) lk_X0_97 yd_X0_isOneOf rfl rfl rfl dX0_isDeed_3 rfl rfl rfl ?_
  cases hp
  exact gw_zret X dX0_isDeed_6 (fun _ h => ⟨rfl, h⟩) (Nat.le_of_ble_eq_true rfl) (Nat.le_of_ble_eq_true rfl)
abbrev rm_X0_doerOf : Room := { frames := 3, cells := 0, slots := 0, locals := 67 }
def fx_X0_doerOf_L5 (σ : gw_S) (v1 : Int32) (v2 : Int32) : Nat → Int32 → Int32 → Option (Int32)
  | 0, _, _ => none
  | n + 1, c3, c4 => (if (σ.1 1 2) ≤ c4 then some c3 else gw_ck c4 8 ((if fx_X0_isOf (σ.1 10 (Int32.toNatClampNeg c4)) v2 = true then gw_b1 (fx_X0_timeOf σ v1 c4) (fun r1 => (if r1 = (-1 : Int32) then fx_X0_doerOf_L5 σ v1 v2 n c3 (c4 + 1) else (if c3 = (-1 : Int32) then fx_X0_doerOf_L5 σ v1 v2 n c4 (c4 + 1) else gw_b1 (fx_X0_timeOf σ v1 c4) (fun r3 => gw_b1 (fx_X0_timeOf σ v1 c3) (fun r5 => (if r5 ≤ r3 then fx_X0_doerOf_L5 σ v1 v2 n c3 (c4 + 1) else fx_X0_doerOf_L5 σ v1 v2 n c4 (c4 + 1))))))) else fx_X0_doerOf_L5 σ v1 v2 n c3 (c4 + 1))))
def fx_X0_doerOf (σ : gw_S) (x1 : Int32) (x2 : Int32) : Option (Int32) := fx_X0_doerOf_L5 σ x1 x2 1000 (-1 : Int32) (0 : Int32)
set_option maxHeartbeats 4000000 in
theorem wk_X0_doerOf_L5 {E : gw_E} {l : Launch} {D : gw_D} {a : Nat → Nat} {Wr : va_W → Prop} {σ : gw_S} {res : Int32} (X : gw_X E cX0_doerOf 5 RX0 (some .int) l D rm_X0_doerOf (some (gw_pI res (gw_st (wX D a σ) Wr)))) {v1 : Int32} {v2 : Int32} : ∀ {n : Nat} {c3 : Int32} {c4 : Int32}, fx_X0_doerOf_L5 σ v1 v2 n c3 c4 = some res → gw_W E 5 [(0, .ref (a 0)), (1, .int v1), (2, .int v2), (3, .int c3), (4, .int c4)] [] (gw_st (wX D a σ) Wr) 0 0 := by
  intro n
  induction n with
  | zero =>
    intro c3 c4 hp
    cases (show none = some res from hp)
  | succ n ih =>
    intro c3 c4 hp
    rw [fx_X0_doerOf_L5] at hp
    refine gw_iload X 7 4 dX0_doerOf_5 rfl rfl ?_
    refine gw_aload_n X 8 0 dX0_doerOf_7 rfl rfl rfl ?_
    refine gX_g0_0 X 11 q280 dX0_doerOf_8 rfl ?_
    refine gX_g1_2N X 14 q193 dX0_doerOf_11 rfl ?_
    refine gw_icmp_ge X 82 17 dX0_doerOf_14 rfl rfl (fun z => ?_) (fun z => ?_)
    · replace hp := gw_t z hp
      refine gw_iload_n X 83 3 dX0_doerOf_82 rfl rfl rfl ?_
      cases hp
      exact gw_iret X dX0_doerOf_83 (fun _ h => ⟨rfl, h⟩) (Nat.le_of_ble_eq_true rfl) (Nat.le_of_ble_eq_true rfl)
    · replace hp := gw_f z hp
      refine gw_aload_n X 18 0 dX0_doerOf_17 rfl rfl rfl ?_
      refine gX_g0_0 X 21 q280 dX0_doerOf_18 rfl ?_
      refine gX_g1_7N X 24 q207 dX0_doerOf_21 rfl ?_
      refine gw_iload X 26 4 dX0_doerOf_24 rfl rfl ?_
      obtain ⟨hc, hp⟩ := gw_ck_some hp
      refine gX_l10 X 27 (Int32.toNatClampNeg c4) hc rfl dX0_doerOf_26 rfl ?_
      refine gw_iload_n X 28 2 dX0_doerOf_27 rfl rfl rfl ?_
      refine gw_callSi X 31 [.int (σ.1 10 (Int32.toNatClampNeg c4)), .int v2] (mt_X0_isOf rfl) lk_X0_114 yd_X0_isOf rfl rfl rfl dX0_doerOf_28 rfl rfl rfl ?_
      refine gw_if_eqB X 76 34 dX0_doerOf_31 rfl rfl (fun z => ?_) (fun z => ?_)
      · replace hp := gw_f z hp
        refine gw_iinc X 79 4 [(4, .int (c4 + 1)), (0, .ref (a 0)), (1, .int v1), (2, .int v2), (3, .int c3)] dX0_doerOf_76 rfl rfl gw_ci_1 (by decide) rfl ?_
        refine gw_goto X 5 dX0_doerOf_79 rfl ?_
        refine gw_lv [1, 2, 3, 4, 0] rfl ?_
        exact ih hp
      · replace hp := gw_t z hp
        refine gw_aload_n X 35 0 dX0_doerOf_34 rfl rfl rfl ?_
        refine gw_iload_n X 36 1 dX0_doerOf_35 rfl rfl rfl ?_
        refine gw_iload X 38 4 dX0_doerOf_36 rfl rfl ?_
        obtain ⟨r1, h2, hp⟩ := gw_b1_some hp
        refine gw_callVi X 41 [.int v1, .int c4] (mt_X0_timeOf h2) lk_X0_214 ydv_X0_timeOf gX_cl0 gX_at0 rfl rfl rfl dX0_doerOf_38 rfl rfl rfl ?_
        refine gw_iconst X 42 dX0_doerOf_41 rfl gw_ci_m1 ?_
        refine gw_icmp_ne X 48 45 dX0_doerOf_42 rfl rfl (fun z => ?_) (fun z => ?_)
        · replace hp := gw_f z hp
          refine gw_iload_n X 49 3 dX0_doerOf_48 rfl rfl rfl ?_
          refine gw_iconst X 50 dX0_doerOf_49 rfl gw_ci_m1 ?_
          refine gw_icmp_eq X 69 53 dX0_doerOf_50 rfl rfl (fun z => ?_) (fun z => ?_)
          · replace hp := gw_t z hp
            refine gw_iload X 71 4 dX0_doerOf_69 rfl rfl ?_
            refine gw_goto X 75 dX0_doerOf_71 rfl ?_
            refine gw_istore_n X 76 [(3, .int c4), (0, .ref (a 0)), (1, .int v1), (2, .int v2), (4, .int c4)] dX0_doerOf_75 rfl rfl (by decide) rfl ?_
            refine gw_iinc X 79 4 [(4, .int (c4 + 1)), (3, .int c4), (0, .ref (a 0)), (1, .int v1), (2, .int v2)] dX0_doerOf_76 rfl rfl gw_ci_1 (by decide) rfl ?_
            refine gw_goto X 5 dX0_doerOf_79 rfl ?_
            refine gw_lv [2, 3, 4, 1, 0] rfl ?_
            exact ih hp
          · replace hp := gw_f z hp
            refine gw_aload_n X 54 0 dX0_doerOf_53 rfl rfl rfl ?_
            refine gw_iload_n X 55 1 dX0_doerOf_54 rfl rfl rfl ?_
            refine gw_iload X 57 4 dX0_doerOf_55 rfl rfl ?_
            obtain ⟨r3, h4, hp⟩ := gw_b1_some hp
            refine gw_callVi X 60 [.int v1, .int c4] (mt_X0_timeOf h4) lk_X0_214 ydv_X0_timeOf gX_cl0 gX_at0 rfl rfl rfl dX0_doerOf_57 rfl rfl rfl ?_
            refine gw_aload_n X 61 0 dX0_doerOf_60 rfl rfl rfl ?_
            refine gw_iload_n X 62 1 dX0_doerOf_61 rfl rfl rfl ?_
            refine gw_iload_n X 63 3 dX0_doerOf_62 rfl rfl rfl ?_
            obtain ⟨r5, h6, hp⟩ := gw_b1_some hp
            refine gw_callVi X 66 [.int v1, .int c3] (mt_X0_timeOf h6) lk_X0_214 ydv_X0_timeOf gX_cl0 gX_at0 rfl rfl rfl dX0_doerOf_63 rfl rfl rfl ?_
            refine gw_icmp_ge X 74 69 dX0_doerOf_66 rfl rfl (fun z => ?_) (fun z => ?_)
            · replace hp := gw_t z hp
              refine gw_iload_n X 75 3 dX0_doerOf_74 rfl rfl rfl ?_
              refine gw_istore_n X 76 [(3, .int c3), (0, .ref (a 0)), (1, .int v1), (2, .int v2), (4, .int c4)] dX0_doerOf_75 rfl rfl (by decide) rfl ?_
              refine gw_iinc X 79 4 [(4, .int (c4 + 1)), (3, .int c3), (0, .ref (a 0)), (1, .int v1), (2, .int v2)] dX0_doerOf_76 rfl rfl gw_ci_1 (by decide) rfl ?_
              refine gw_goto X 5 dX0_doerOf_79 rfl ?_
              refine gw_lv [2, 3, 4, 1, 0] rfl ?_
              exact ih hp
            · replace hp := gw_f z hp
              refine gw_iload X 71 4 dX0_doerOf_69 rfl rfl ?_
              refine gw_goto X 75 dX0_doerOf_71 rfl ?_
              refine gw_istore_n X 76 [(3, .int c4), (0, .ref (a 0)), (1, .int v1), (2, .int v2), (4, .int c4)] dX0_doerOf_75 rfl rfl (by decide) rfl ?_
              refine gw_iinc X 79 4 [(4, .int (c4 + 1)), (3, .int c4), (0, .ref (a 0)), (1, .int v1), (2, .int v2)] dX0_doerOf_76 rfl rfl gw_ci_1 (by decide) rfl ?_
              refine gw_goto X 5 dX0_doerOf_79 rfl ?_
              refine gw_lv [2, 3, 4, 1, 0] rfl ?_
              exact ih hp
        · replace hp := gw_t z hp
          refine gw_goto X 76 dX0_doerOf_45 rfl ?_
          refine gw_iinc X 79 4 [(4, .int (c4 + 1)), (0, .ref (a 0)), (1, .int v1), (2, .int v2), (3, .int c3)] dX0_doerOf_76 rfl rfl gw_ci_1 (by decide) rfl ?_
          refine gw_goto X 5 dX0_doerOf_79 rfl ?_
          refine gw_lv [1, 2, 3, 4, 0] rfl ?_
          exact ih hp
set_option maxHeartbeats 4000000 in
theorem mt_X0_doerOf {l : Launch} {D : gw_D} {a : Nat → Nat} {Wr : va_W → Prop} {σ : gw_S} {x1 : Int32} {x2 : Int32} {res : Int32} (hp : fx_X0_doerOf σ x1 x2 = some res) : gw_Ct D l yX0_doerOf cX0_doerOf 5 (some .int) rm_X0_doerOf [.ref (a 0), .int x1, .int x2] (gw_st (wX D a σ) Wr) (gw_pI res (gw_st (wX D a σ) Wr)) := by
  refine gw_ct (own := RX0) [(0, .ref (a 0)), (1, .int x1), (2, .int x2)] (by decide) rfl (Nat.le_of_ble_eq_true rfl) rfl ?_
  intro E X
  unfold fx_X0_doerOf at hp
  refine gw_iconst X 1 dX0_doerOf_0 rfl gw_ci_m1 ?_
  refine gw_istore_n X 2 [(3, .int (-1)), (0, .ref (a 0)), (1, .int x1), (2, .int x2)] dX0_doerOf_1 rfl rfl (by decide) rfl ?_
  refine gw_iconst X 3 dX0_doerOf_2 rfl gw_ci_0 ?_
  refine gw_istore X 5 [(4, .int 0), (3, .int (-1)), (0, .ref (a 0)), (1, .int x1), (2, .int x2)] dX0_doerOf_3 rfl (by decide) rfl ?_
  refine gw_lv [2, 3, 4, 1, 0] rfl ?_
  exact wk_X0_doerOf_L5 X hp
abbrev rm_X0_deedsOf : Room := { frames := 1, cells := 0, slots := 0, locals := 21 }
def fx_X0_deedsOf_L4 (σ : gw_S) (v1 : Int32) : Nat → Int32 → Int32 → Option (Int32)
  | 0, _, _ => none
  | n + 1, c2, c3 => (if (σ.1 1 2) ≤ c3 then some c2 else (if fx_X0_isOf v1 c3 = true then gw_ck c3 8 (fx_X0_deedsOf_L4 σ v1 n (c2 ||| (σ.1 10 (Int32.toNatClampNeg c3))) (c3 + 1)) else fx_X0_deedsOf_L4 σ v1 n (c2 ||| (0 : Int32)) (c3 + 1)))
def fx_X0_deedsOf (σ : gw_S) (x1 : Int32) : Option (Int32) := fx_X0_deedsOf_L4 σ x1 1000 (0 : Int32) (0 : Int32)
set_option maxHeartbeats 4000000 in
theorem wk_X0_deedsOf_L4 {E : gw_E} {l : Launch} {D : gw_D} {a : Nat → Nat} {Wr : va_W → Prop} {σ : gw_S} {res : Int32} (X : gw_X E cX0_deedsOf 4 RX0 (some .int) l D rm_X0_deedsOf (some (gw_pI res (gw_st (wX D a σ) Wr)))) {v1 : Int32} : ∀ {n : Nat} {c2 : Int32} {c3 : Int32}, fx_X0_deedsOf_L4 σ v1 n c2 c3 = some res → gw_W E 4 [(0, .ref (a 0)), (1, .int v1), (2, .int c2), (3, .int c3)] [] (gw_st (wX D a σ) Wr) 0 0 := by
  intro n
  induction n with
  | zero =>
    intro c2 c3 hp
    cases (show none = some res from hp)
  | succ n ih =>
    intro c2 c3 hp
    rw [fx_X0_deedsOf_L4] at hp
    refine gw_iload_n X 5 3 dX0_deedsOf_4 rfl rfl rfl ?_
    refine gw_aload_n X 6 0 dX0_deedsOf_5 rfl rfl rfl ?_
    refine gX_g0_0 X 9 q280 dX0_deedsOf_6 rfl ?_
    refine gX_g1_2N X 12 q193 dX0_deedsOf_9 rfl ?_
    refine gw_icmp_ge X 45 15 dX0_deedsOf_12 rfl rfl (fun z => ?_) (fun z => ?_)
    · replace hp := gw_t z hp
      refine gw_iload_n X 46 2 dX0_deedsOf_45 rfl rfl rfl ?_
      cases hp
      exact gw_iret X dX0_deedsOf_46 (fun _ h => ⟨rfl, h⟩) (Nat.le_of_ble_eq_true rfl) (Nat.le_of_ble_eq_true rfl)
    · replace hp := gw_f z hp
      refine gw_iload_n X 16 2 dX0_deedsOf_15 rfl rfl rfl ?_
      refine gw_iload_n X 17 1 dX0_deedsOf_16 rfl rfl rfl ?_
      refine gw_iload_n X 18 3 dX0_deedsOf_17 rfl rfl rfl ?_
      refine gw_callSi X 21 [.int v1, .int c3] (mt_X0_isOf rfl) lk_X0_114 yd_X0_isOf rfl rfl rfl dX0_deedsOf_18 rfl rfl rfl ?_
      refine gw_if_eqB X 36 24 dX0_deedsOf_21 rfl rfl (fun z => ?_) (fun z => ?_)
      · replace hp := gw_f z hp
        refine gw_iconst X 37 dX0_deedsOf_36 rfl gw_ci_0 ?_
        refine gw_ior X 38 dX0_deedsOf_37 rfl ?_
        refine gw_istore_n X 39 [(2, .int (c2 ||| (0 : Int32))), (0, .ref (a 0)), (1, .int v1), (3, .int c3)] dX0_deedsOf_38 rfl rfl (by decide) rfl ?_
        refine gw_iinc X 42 3 [(3, .int (c3 + 1)), (2, .int (c2 ||| (0 : Int32))), (0, .ref (a 0)), (1, .int v1)] dX0_deedsOf_39 rfl rfl gw_ci_1 (by decide) rfl ?_
        refine gw_goto X 4 dX0_deedsOf_42 rfl ?_
        refine gw_lv [2, 3, 1, 0] rfl ?_
        exact ih hp
      · replace hp := gw_t z hp
        refine gw_aload_n X 25 0 dX0_deedsOf_24 rfl rfl rfl ?_
        refine gX_g0_0 X 28 q280 dX0_deedsOf_25 rfl ?_
        refine gX_g1_7N X 31 q207 dX0_deedsOf_28 rfl ?_
        refine gw_iload_n X 32 3 dX0_deedsOf_31 rfl rfl rfl ?_
        obtain ⟨hc, hp⟩ := gw_ck_some hp
        refine gX_l10 X 33 (Int32.toNatClampNeg c3) hc rfl dX0_deedsOf_32 rfl ?_
        refine gw_goto X 37 dX0_deedsOf_33 rfl ?_
        refine gw_ior X 38 dX0_deedsOf_37 rfl ?_
        refine gw_istore_n X 39 [(2, .int (c2 ||| (σ.1 10 (Int32.toNatClampNeg c3)))), (0, .ref (a 0)), (1, .int v1), (3, .int c3)] dX0_deedsOf_38 rfl rfl (by decide) rfl ?_
        refine gw_iinc X 42 3 [(3, .int (c3 + 1)), (2, .int (c2 ||| (σ.1 10 (Int32.toNatClampNeg c3)))), (0, .ref (a 0)), (1, .int v1)] dX0_deedsOf_39 rfl rfl gw_ci_1 (by decide) rfl ?_
        refine gw_goto X 4 dX0_deedsOf_42 rfl ?_
        refine gw_lv [2, 3, 1, 0] rfl ?_
        exact ih hp
set_option maxHeartbeats 4000000 in
theorem mt_X0_deedsOf {l : Launch} {D : gw_D} {a : Nat → Nat} {Wr : va_W → Prop} {σ : gw_S} {x1 : Int32} {res : Int32} (hp : fx_X0_deedsOf σ x1 = some res) : gw_Ct D l yX0_deedsOf cX0_deedsOf 4 (some .int) rm_X0_deedsOf [.ref (a 0), .int x1] (gw_st (wX D a σ) Wr) (gw_pI res (gw_st (wX D a σ) Wr)) := by
  refine gw_ct (own := RX0) [(0, .ref (a 0)), (1, .int x1)] (by decide) rfl (Nat.le_of_ble_eq_true rfl) rfl ?_
  intro E X
  unfold fx_X0_deedsOf at hp
  refine gw_iconst X 1 dX0_deedsOf_0 rfl gw_ci_0 ?_
  refine gw_istore_n X 2 [(2, .int 0), (0, .ref (a 0)), (1, .int x1)] dX0_deedsOf_1 rfl rfl (by decide) rfl ?_
  refine gw_iconst X 3 dX0_deedsOf_2 rfl gw_ci_0 ?_
  refine gw_istore_n X 4 [(3, .int 0), (2, .int 0), (0, .ref (a 0)), (1, .int x1)] dX0_deedsOf_3 rfl rfl (by decide) rfl ?_
  refine gw_lv [2, 3, 1, 0] rfl ?_
  exact wk_X0_deedsOf_L4 X hp
abbrev rm_X0_isAsking : Room := { frames := 3, cells := 0, slots := 0, locals := 68 }
def fx_X0_isAsking (σ : gw_S) (x1 : Int32) (x2 : Int32) (x3 : Int32) : Bool := (if fx_X0_isPerson σ (Int32.toInt64 x1) = true then (if fx_X0_isPerson σ (Int32.toInt64 x2) = true then (if fx_X0_isDeed (Int32.toInt64 x3) = true then true else false) else false) else false)
set_option maxHeartbeats 4000000 in
theorem mt_X0_isAsking {l : Launch} {D : gw_D} {a : Nat → Nat} {Wr : va_W → Prop} {σ : gw_S} {x1 : Int32} {x2 : Int32} {x3 : Int32} {res : Bool} (hp : fx_X0_isAsking σ x1 x2 x3 = res) : gw_Ct D l yX0_isAsking cX0_isAsking 4 (some .boolean) rm_X0_isAsking [.ref (a 0), .int x1, .int x2, .int x3] (gw_st (wX D a σ) Wr) (gw_pI (gw_b res) (gw_st (wX D a σ) Wr)) := by
  refine gw_ct (own := RX0) [(0, .ref (a 0)), (1, .int x1), (2, .int x2), (3, .int x3)] (by decide) rfl (Nat.le_of_ble_eq_true rfl) rfl ?_
  intro E X
  unfold fx_X0_isAsking at hp
  refine gw_aload_n X 1 0 dX0_isAsking_0 rfl rfl rfl ?_
  refine gw_iload_n X 2 1 dX0_isAsking_1 rfl rfl rfl ?_
  refine gw_i2l X 3 dX0_isAsking_2 rfl ?_
  refine gw_callVi X 6 [.long (Int32.toInt64 x1)] (mt_X0_isPerson rfl) lk_X0_186 ydv_X0_isPerson gX_cl0 gX_at0 rfl rfl rfl dX0_isAsking_3 rfl rfl rfl ?_
  refine gw_if_eqB X 30 9 dX0_isAsking_6 rfl rfl (fun z => ?_) (fun z => ?_)
  · replace hp := gw_f z hp
    refine gw_iconst X 31 dX0_isAsking_30 rfl gw_ci_0 ?_
    cases hp
    exact gw_zret0 X dX0_isAsking_31 (fun _ h => ⟨rfl, h⟩) (Nat.le_of_ble_eq_true rfl) (Nat.le_of_ble_eq_true rfl)
  · replace hp := gw_t z hp
    refine gw_aload_n X 10 0 dX0_isAsking_9 rfl rfl rfl ?_
    refine gw_iload_n X 11 2 dX0_isAsking_10 rfl rfl rfl ?_
    refine gw_i2l X 12 dX0_isAsking_11 rfl ?_
    refine gw_callVi X 15 [.long (Int32.toInt64 x2)] (mt_X0_isPerson rfl) lk_X0_186 ydv_X0_isPerson gX_cl0 gX_at0 rfl rfl rfl dX0_isAsking_12 rfl rfl rfl ?_
    refine gw_if_eqB X 30 18 dX0_isAsking_15 rfl rfl (fun z => ?_) (fun z => ?_)
    · replace hp := gw_f z hp
      refine gw_iconst X 31 dX0_isAsking_30 rfl gw_ci_0 ?_
      cases hp
      exact gw_zret0 X dX0_isAsking_31 (fun _ h => ⟨rfl, h⟩) (Nat.le_of_ble_eq_true rfl) (Nat.le_of_ble_eq_true rfl)
    · replace hp := gw_t z hp
      refine gw_iload_n X 19 3 dX0_isAsking_18 rfl rfl rfl ?_
      refine gw_i2l X 20 dX0_isAsking_19 rfl ?_
      refine gw_callSi X 23 [.long (Int32.toInt64 x3)] (mt_X0_isDeed rfl) lk_X0_232 yd_X0_isDeed rfl rfl rfl dX0_isAsking_20 rfl rfl rfl ?_
      refine gw_if_eqB X 30 26 dX0_isAsking_23 rfl rfl (fun z => ?_) (fun z => ?_)
      · replace hp := gw_f z hp
        refine gw_iconst X 31 dX0_isAsking_30 rfl gw_ci_0 ?_
        cases hp
        exact gw_zret0 X dX0_isAsking_31 (fun _ h => ⟨rfl, h⟩) (Nat.le_of_ble_eq_true rfl) (Nat.le_of_ble_eq_true rfl)
      · replace hp := gw_t z hp
        refine gw_iconst X 27 dX0_isAsking_26 rfl gw_ci_1 ?_
        refine gw_goto X 31 dX0_isAsking_27 rfl ?_
        cases hp
        exact gw_zret1 X dX0_isAsking_31 (fun _ h => ⟨rfl, h⟩) (Nat.le_of_ble_eq_true rfl) (Nat.le_of_ble_eq_true rfl)
abbrev rm_X0_whyNot : Room := { frames := 1, cells := 0, slots := 0, locals := 21 }
def fx_X0_whyNot (σ : gw_S) (x1 : Int32) (x2 : Int32) (x3 : Int32) : Option (Int32) := gw_ck x2 8 ((if (σ.1 3 (Int32.toNatClampNeg x2)) = x1 then (if fx_X0_isOf (σ.1 0 6) x2 = true then some 2 else (if x3 = (-1 : Int32) then some 0 else gw_ck x2 8 ((if fx_X0_isOf (σ.1 10 (Int32.toNatClampNeg x2)) x3 = true then some 0 else some 3)))) else some 1))
set_option maxHeartbeats 4000000 in
theorem mt_X0_whyNot {l : Launch} {D : gw_D} {a : Nat → Nat} {Wr : va_W → Prop} {σ : gw_S} {x1 : Int32} {x2 : Int32} {x3 : Int32} {res : Int32} (hp : fx_X0_whyNot σ x1 x2 x3 = some res) : gw_Ct D l yX0_whyNot cX0_whyNot 4 (some .int) rm_X0_whyNot [.ref (a 0), .int x1, .int x2, .int x3] (gw_st (wX D a σ) Wr) (gw_pI res (gw_st (wX D a σ) Wr)) := by
  refine gw_ct (own := RX0) [(0, .ref (a 0)), (1, .int x1), (2, .int x2), (3, .int x3)] (by decide) rfl (Nat.le_of_ble_eq_true rfl) rfl ?_
  intro E X
  unfold fx_X0_whyNot at hp
  refine gw_aload_n X 1 0 dX0_whyNot_0 rfl rfl rfl ?_
  refine gX_g0_9 X 4 q303 dX0_whyNot_1 rfl ?_
  refine gw_iload_n X 5 2 dX0_whyNot_4 rfl rfl rfl ?_
  obtain ⟨hc, hp⟩ := gw_ck_some hp
  refine gX_l3 X 6 (Int32.toNatClampNeg x2) hc rfl dX0_whyNot_5 rfl ?_
  refine gw_iload_n X 7 1 dX0_whyNot_6 rfl rfl rfl ?_
  refine gw_icmp_eq X 12 10 dX0_whyNot_7 rfl rfl (fun z => ?_) (fun z => ?_)
  · replace hp := gw_t z hp
    refine gw_aload_n X 13 0 dX0_whyNot_12 rfl rfl rfl ?_
    refine gX_g0_6 X 16 q291 dX0_whyNot_13 rfl ?_
    refine gw_iload_n X 17 2 dX0_whyNot_16 rfl rfl rfl ?_
    refine gw_callSi X 20 [.int (σ.1 0 6), .int x2] (mt_X0_isOf rfl) lk_X0_114 yd_X0_isOf rfl rfl rfl dX0_whyNot_17 rfl rfl rfl ?_
    refine gw_if_eqB X 25 23 dX0_whyNot_20 rfl rfl (fun z => ?_) (fun z => ?_)
    · replace hp := gw_f z hp
      refine gw_iload_n X 26 3 dX0_whyNot_25 rfl rfl rfl ?_
      refine gw_iconst X 27 dX0_whyNot_26 rfl gw_ci_m1 ?_
      refine gw_icmp_eq X 46 30 dX0_whyNot_27 rfl rfl (fun z => ?_) (fun z => ?_)
      · replace hp := gw_t z hp
        refine gw_iconst X 47 dX0_whyNot_46 rfl gw_ci_0 ?_
        refine gw_goto X 51 dX0_whyNot_47 rfl ?_
        cases hp
        exact gw_iret X dX0_whyNot_51 (fun _ h => ⟨rfl, h⟩) (Nat.le_of_ble_eq_true rfl) (Nat.le_of_ble_eq_true rfl)
      · replace hp := gw_f z hp
        refine gw_aload_n X 31 0 dX0_whyNot_30 rfl rfl rfl ?_
        refine gX_g0_0 X 34 q280 dX0_whyNot_31 rfl ?_
        refine gX_g1_7N X 37 q207 dX0_whyNot_34 rfl ?_
        refine gw_iload_n X 38 2 dX0_whyNot_37 rfl rfl rfl ?_
        obtain ⟨hc, hp⟩ := gw_ck_some hp
        refine gX_l10 X 39 (Int32.toNatClampNeg x2) hc rfl dX0_whyNot_38 rfl ?_
        refine gw_iload_n X 40 3 dX0_whyNot_39 rfl rfl rfl ?_
        refine gw_callSi X 43 [.int (σ.1 10 (Int32.toNatClampNeg x2)), .int x3] (mt_X0_isOf rfl) lk_X0_114 yd_X0_isOf rfl rfl rfl dX0_whyNot_40 rfl rfl rfl ?_
        refine gw_if_eqB X 50 46 dX0_whyNot_43 rfl rfl (fun z => ?_) (fun z => ?_)
        · replace hp := gw_f z hp
          refine gw_iconst X 51 dX0_whyNot_50 rfl gw_ci_3 ?_
          cases hp
          exact gw_iret X dX0_whyNot_51 (fun _ h => ⟨rfl, h⟩) (Nat.le_of_ble_eq_true rfl) (Nat.le_of_ble_eq_true rfl)
        · replace hp := gw_t z hp
          refine gw_iconst X 47 dX0_whyNot_46 rfl gw_ci_0 ?_
          refine gw_goto X 51 dX0_whyNot_47 rfl ?_
          cases hp
          exact gw_iret X dX0_whyNot_51 (fun _ h => ⟨rfl, h⟩) (Nat.le_of_ble_eq_true rfl) (Nat.le_of_ble_eq_true rfl)
    · replace hp := gw_t z hp
      refine gw_iconst X 24 dX0_whyNot_23 rfl gw_ci_2 ?_
      cases hp
      exact gw_iret X dX0_whyNot_24 (fun _ h => ⟨rfl, h⟩) (Nat.le_of_ble_eq_true rfl) (Nat.le_of_ble_eq_true rfl)
  · replace hp := gw_f z hp
    refine gw_iconst X 11 dX0_whyNot_10 rfl gw_ci_1 ?_
    cases hp
    exact gw_iret X dX0_whyNot_11 (fun _ h => ⟨rfl, h⟩) (Nat.le_of_ble_eq_true rfl) (Nat.le_of_ble_eq_true rfl)
abbrev rm_X0_undo : Room := { frames := 1, cells := 0, slots := 0, locals := 20 }
def fx_X0_undo (σ : gw_S)  : Int32 × gw_S := (if fx_X0_isCity σ = true then (if (σ.1 1 3) = 0 then ((-5), σ) else ((gw_u σ 1 3 ((σ.1 1 3) - (1 : Int32))).1 1 3, gw_u σ 1 3 ((σ.1 1 3) - (1 : Int32)))) else ((-2), σ))
set_option maxHeartbeats 4000000 in
theorem mt_X0_undo {l : Launch} {D : gw_D} {a : Nat → Nat} {Wr : va_W → Prop} {σ : gw_S}  {res : Int32 × gw_S} (hp : fx_X0_undo σ  = res) : gw_Ct D l yX0_undo cX0_undo 1 (some .int) rm_X0_undo [.ref (a 0)] (gw_st (wX D a σ) Wr) (gw_pI res.1 (gw_st (wX D a res.2) Wr)) := by
  refine gw_ct (own := RX0) [(0, .ref (a 0))] (by decide) rfl (Nat.le_of_ble_eq_true rfl) rfl ?_
  intro E X
  unfold fx_X0_undo at hp
  refine gw_aload_n X 1 0 dX0_undo_0 rfl rfl rfl ?_
  refine gw_callVi X 4 [] (mt_X0_isCity rfl) lk_X0_103 ydv_X0_isCity gX_cl0 gX_at0 rfl rfl rfl dX0_undo_1 rfl rfl rfl ?_
  refine gw_if_neB X 10 7 dX0_undo_4 rfl rfl (fun z => ?_) (fun z => ?_)
  · replace hp := gw_t z hp
    refine gw_aload_n X 11 0 dX0_undo_10 rfl rfl rfl ?_
    refine gX_g0_0 X 14 q280 dX0_undo_11 rfl ?_
    refine gX_g1_3N X 17 q196 dX0_undo_14 rfl ?_
    refine gw_if_ne X 23 20 dX0_undo_17 rfl rfl (fun z => ?_) (fun z => ?_)
    · replace hp := gw_f z hp
      refine gw_aload_n X 24 0 dX0_undo_23 rfl rfl rfl ?_
      refine gX_g0_0 X 27 q280 dX0_undo_24 rfl ?_
      refine gw_dup X 28 dX0_undo_27 rfl rfl ?_
      refine gX_g1_3N X 31 q196 dX0_undo_28 rfl ?_
      refine gw_iconst X 32 dX0_undo_31 rfl gw_ci_1 ?_
      refine gw_isub X 33 dX0_undo_32 rfl ?_
      refine gX_p1_3N X 36 q196 dX0_undo_33 rfl ?_
      refine gw_aload_n X 37 0 dX0_undo_36 rfl rfl rfl ?_
      refine gX_g0_0 X 40 q280 dX0_undo_37 rfl ?_
      refine gX_g1_3N X 43 q196 dX0_undo_40 rfl ?_
      cases hp
      exact gw_iret X dX0_undo_43 (fun _ h => ⟨rfl, h⟩) (Nat.le_of_ble_eq_true rfl) (Nat.le_of_ble_eq_true rfl)
    · replace hp := gw_t z hp
      refine gw_bipush X 22 dX0_undo_20 rfl gw_cb_m5 ?_
      cases hp
      exact gw_iret X dX0_undo_22 (fun _ h => ⟨rfl, h⟩) (Nat.le_of_ble_eq_true rfl) (Nat.le_of_ble_eq_true rfl)
  · replace hp := gw_f z hp
    refine gw_bipush X 9 dX0_undo_7 rfl gw_cb_m2 ?_
    cases hp
    exact gw_iret X dX0_undo_9 (fun _ h => ⟨rfl, h⟩) (Nat.le_of_ble_eq_true rfl) (Nat.le_of_ble_eq_true rfl)
abbrev rm_X0_anew : Room := { frames := 1, cells := 0, slots := 0, locals := 20 }
def fx_X0_anew (σ : gw_S)  : Int32 × gw_S := (if fx_X0_isCity σ = true then (σ.1 1 3, gw_u σ 1 3 0) else ((-2), σ))
set_option maxHeartbeats 4000000 in
theorem mt_X0_anew {l : Launch} {D : gw_D} {a : Nat → Nat} {Wr : va_W → Prop} {σ : gw_S}  {res : Int32 × gw_S} (hp : fx_X0_anew σ  = res) : gw_Ct D l yX0_anew cX0_anew 2 (some .int) rm_X0_anew [.ref (a 0)] (gw_st (wX D a σ) Wr) (gw_pI res.1 (gw_st (wX D a res.2) Wr)) := by
  refine gw_ct (own := RX0) [(0, .ref (a 0))] (by decide) rfl (Nat.le_of_ble_eq_true rfl) rfl ?_
  intro E X
  unfold fx_X0_anew at hp
  refine gw_aload_n X 1 0 dX0_anew_0 rfl rfl rfl ?_
  refine gw_callVi X 4 [] (mt_X0_isCity rfl) lk_X0_103 ydv_X0_isCity gX_cl0 gX_at0 rfl rfl rfl dX0_anew_1 rfl rfl rfl ?_
  refine gw_if_neB X 10 7 dX0_anew_4 rfl rfl (fun z => ?_) (fun z => ?_)
  · replace hp := gw_t z hp
    refine gw_aload_n X 11 0 dX0_anew_10 rfl rfl rfl ?_
    refine gX_g0_0 X 14 q280 dX0_anew_11 rfl ?_
    refine gX_g1_3N X 17 q196 dX0_anew_14 rfl ?_
    refine gw_istore_n X 18 [(1, .int (σ.1 1 3)), (0, .ref (a 0))] dX0_anew_17 rfl rfl (by decide) rfl ?_
    refine gw_aload_n X 19 1 dX0_anew_18 rfl rfl rfl ?_
    refine gX_g0_0 X 22 q280 dX0_anew_19 rfl ?_
    refine gw_iconst X 23 dX0_anew_22 rfl gw_ci_0 ?_
    refine gX_p1_3N X 26 q196 dX0_anew_23 rfl ?_
    refine gw_iload_n X 27 0 dX0_anew_26 rfl rfl rfl ?_
    cases hp
    exact gw_iret X dX0_anew_27 (fun _ h => ⟨rfl, h⟩) (Nat.le_of_ble_eq_true rfl) (Nat.le_of_ble_eq_true rfl)
  · replace hp := gw_f z hp
    refine gw_bipush X 9 dX0_anew_7 rfl gw_cb_m2 ?_
    cases hp
    exact gw_iret X dX0_anew_9 (fun _ h => ⟨rfl, h⟩) (Nat.le_of_ble_eq_true rfl) (Nat.le_of_ble_eq_true rfl)
abbrev rm_X0_isDealt : Room := { frames := 1, cells := 0, slots := 0, locals := 23 }
def fx_X0_isDealt_L2 (σ : gw_S)  : Nat → Int32 → Option (Bool)
  | 0, _ => none
  | n + 1, c1 => (if (σ.1 1 2) ≤ c1 then some true else gw_b1 (fx_X0_ringOf σ c1) (fun r1 => (if r1 = 0 then some false else fx_X0_isDealt_L2 σ n (c1 + 1))))
def fx_X0_isDealt (σ : gw_S)  : Option (Bool) := fx_X0_isDealt_L2 σ 1000 (0 : Int32)
set_option maxHeartbeats 4000000 in
theorem wk_X0_isDealt_L2 {E : gw_E} {l : Launch} {D : gw_D} {a : Nat → Nat} {Wr : va_W → Prop} {σ : gw_S} {res : Bool} (X : gw_X E cX0_isDealt 2 RX0 (some .boolean) l D rm_X0_isDealt (some (gw_pI (gw_b res) (gw_st (wX D a σ) Wr))))  : ∀ {n : Nat} {c1 : Int32}, fx_X0_isDealt_L2 σ n c1 = some res → gw_W E 2 [(0, .ref (a 0)), (1, .int c1)] [] (gw_st (wX D a σ) Wr) 0 0 := by
  intro n
  induction n with
  | zero =>
    intro c1 hp
    cases (show none = some res from hp)
  | succ n ih =>
    intro c1 hp
    rw [fx_X0_isDealt_L2] at hp
    refine gw_iload_n X 3 1 dX0_isDealt_2 rfl rfl rfl ?_
    refine gw_aload_n X 4 0 dX0_isDealt_3 rfl rfl rfl ?_
    refine gX_g0_0 X 7 q280 dX0_isDealt_4 rfl ?_
    refine gX_g1_2N X 10 q193 dX0_isDealt_7 rfl ?_
    refine gw_icmp_ge X 29 13 dX0_isDealt_10 rfl rfl (fun z => ?_) (fun z => ?_)
    · replace hp := gw_t z hp
      refine gw_iconst X 30 dX0_isDealt_29 rfl gw_ci_1 ?_
      cases hp
      exact gw_zret1 X dX0_isDealt_30 (fun _ h => ⟨rfl, h⟩) (Nat.le_of_ble_eq_true rfl) (Nat.le_of_ble_eq_true rfl)
    · replace hp := gw_f z hp
      refine gw_aload_n X 14 0 dX0_isDealt_13 rfl rfl rfl ?_
      refine gw_iload_n X 15 1 dX0_isDealt_14 rfl rfl rfl ?_
      obtain ⟨r1, h2, hp⟩ := gw_b1_some hp
      refine gw_callVi X 18 [.int c1] (mt_X0_ringOf h2) lk_X0_218 ydv_X0_ringOf gX_cl0 gX_at0 rfl rfl rfl dX0_isDealt_15 rfl rfl rfl ?_
      refine gw_if_ne X 23 21 dX0_isDealt_18 rfl rfl (fun z => ?_) (fun z => ?_)
      · replace hp := gw_f z hp
        refine gw_iinc X 26 1 [(1, .int (c1 + 1)), (0, .ref (a 0))] dX0_isDealt_23 rfl rfl gw_ci_1 (by decide) rfl ?_
        refine gw_goto X 2 dX0_isDealt_26 rfl ?_
        refine gw_lv [1, 0] rfl ?_
        exact ih hp
      · replace hp := gw_t z hp
        refine gw_iconst X 22 dX0_isDealt_21 rfl gw_ci_0 ?_
        cases hp
        exact gw_zret0 X dX0_isDealt_22 (fun _ h => ⟨rfl, h⟩) (Nat.le_of_ble_eq_true rfl) (Nat.le_of_ble_eq_true rfl)
set_option maxHeartbeats 4000000 in
theorem mt_X0_isDealt {l : Launch} {D : gw_D} {a : Nat → Nat} {Wr : va_W → Prop} {σ : gw_S}  {res : Bool} (hp : fx_X0_isDealt σ  = some res) : gw_Ct D l yX0_isDealt cX0_isDealt 2 (some .boolean) rm_X0_isDealt [.ref (a 0)] (gw_st (wX D a σ) Wr) (gw_pI (gw_b res) (gw_st (wX D a σ) Wr)) := by
  refine gw_ct (own := RX0) [(0, .ref (a 0))] (by decide) rfl (Nat.le_of_ble_eq_true rfl) rfl ?_
  intro E X
  unfold fx_X0_isDealt at hp
  refine gw_iconst X 1 dX0_isDealt_0 rfl gw_ci_0 ?_
  refine gw_istore_n X 2 [(1, .int 0), (0, .ref (a 0))] dX0_isDealt_1 rfl rfl (by decide) rfl ?_
  refine gw_lv [1, 0] rfl ?_
  exact wk_X0_isDealt_L2 X hp
abbrev rm_X0_canAsk : Room := { frames := 1, cells := 0, slots := 0, locals := 21 }
def fx_X0_canAsk (σ : gw_S) (x1 : Int32) (x2 : Int32) : Option (Bool) := gw_ck x1 8 ((if (σ.1 3 (Int32.toNatClampNeg x1)) = (-1 : Int32) then some false else (if fx_X0_isOf (σ.1 0 6) x1 = true then some false else gw_ck x1 8 (gw_ck x1 8 (gw_ck (σ.1 3 (Int32.toNatClampNeg x1)) 8 ((if fx_X0_isOf ((σ.1 10 (Int32.toNatClampNeg x1)) &&& (σ.1 11 (Int32.toNatClampNeg (σ.1 3 (Int32.toNatClampNeg x1))))) x2 = true then some true else some false)))))))
set_option maxHeartbeats 4000000 in
theorem mt_X0_canAsk {l : Launch} {D : gw_D} {a : Nat → Nat} {Wr : va_W → Prop} {σ : gw_S} {x1 : Int32} {x2 : Int32} {res : Bool} (hp : fx_X0_canAsk σ x1 x2 = some res) : gw_Ct D l yX0_canAsk cX0_canAsk 3 (some .boolean) rm_X0_canAsk [.ref (a 0), .int x1, .int x2] (gw_st (wX D a σ) Wr) (gw_pI (gw_b res) (gw_st (wX D a σ) Wr)) := by
  refine gw_ct (own := RX0) [(0, .ref (a 0)), (1, .int x1), (2, .int x2)] (by decide) rfl (Nat.le_of_ble_eq_true rfl) rfl ?_
  intro E X
  unfold fx_X0_canAsk at hp
  refine gw_aload_n X 1 0 dX0_canAsk_0 rfl rfl rfl ?_
  refine gX_g0_9 X 4 q303 dX0_canAsk_1 rfl ?_
  refine gw_iload_n X 5 1 dX0_canAsk_4 rfl rfl rfl ?_
  obtain ⟨hc, hp⟩ := gw_ck_some hp
  refine gX_l3 X 6 (Int32.toNatClampNeg x1) hc rfl dX0_canAsk_5 rfl ?_
  refine gw_iconst X 7 dX0_canAsk_6 rfl gw_ci_m1 ?_
  refine gw_icmp_eq X 56 10 dX0_canAsk_7 rfl rfl (fun z => ?_) (fun z => ?_)
  · replace hp := gw_t z hp
    refine gw_iconst X 57 dX0_canAsk_56 rfl gw_ci_0 ?_
    cases hp
    exact gw_zret0 X dX0_canAsk_57 (fun _ h => ⟨rfl, h⟩) (Nat.le_of_ble_eq_true rfl) (Nat.le_of_ble_eq_true rfl)
  · replace hp := gw_f z hp
    refine gw_aload_n X 11 0 dX0_canAsk_10 rfl rfl rfl ?_
    refine gX_g0_6 X 14 q291 dX0_canAsk_11 rfl ?_
    refine gw_iload_n X 15 1 dX0_canAsk_14 rfl rfl rfl ?_
    refine gw_callSi X 18 [.int (σ.1 0 6), .int x1] (mt_X0_isOf rfl) lk_X0_114 yd_X0_isOf rfl rfl rfl dX0_canAsk_15 rfl rfl rfl ?_
    refine gw_if_neB X 56 21 dX0_canAsk_18 rfl rfl (fun z => ?_) (fun z => ?_)
    · replace hp := gw_t z hp
      refine gw_iconst X 57 dX0_canAsk_56 rfl gw_ci_0 ?_
      cases hp
      exact gw_zret0 X dX0_canAsk_57 (fun _ h => ⟨rfl, h⟩) (Nat.le_of_ble_eq_true rfl) (Nat.le_of_ble_eq_true rfl)
    · replace hp := gw_f z hp
      refine gw_aload_n X 22 0 dX0_canAsk_21 rfl rfl rfl ?_
      refine gX_g0_0 X 25 q280 dX0_canAsk_22 rfl ?_
      refine gX_g1_7N X 28 q207 dX0_canAsk_25 rfl ?_
      refine gw_iload_n X 29 1 dX0_canAsk_28 rfl rfl rfl ?_
      obtain ⟨hc, hp⟩ := gw_ck_some hp
      refine gX_l10 X 30 (Int32.toNatClampNeg x1) hc rfl dX0_canAsk_29 rfl ?_
      refine gw_aload_n X 31 0 dX0_canAsk_30 rfl rfl rfl ?_
      refine gX_g0_0 X 34 q280 dX0_canAsk_31 rfl ?_
      refine gX_g1_8N X 37 q210 dX0_canAsk_34 rfl ?_
      refine gw_aload_n X 38 0 dX0_canAsk_37 rfl rfl rfl ?_
      refine gX_g0_9 X 41 q303 dX0_canAsk_38 rfl ?_
      refine gw_iload_n X 42 1 dX0_canAsk_41 rfl rfl rfl ?_
      obtain ⟨hc, hp⟩ := gw_ck_some hp
      refine gX_l3 X 43 (Int32.toNatClampNeg x1) hc rfl dX0_canAsk_42 rfl ?_
      obtain ⟨hc, hp⟩ := gw_ck_some hp
      refine gX_l11 X 44 (Int32.toNatClampNeg (σ.1 3 (Int32.toNatClampNeg x1))) hc rfl dX0_canAsk_43 rfl ?_
      refine gw_iand X 45 dX0_canAsk_44 rfl ?_
      refine gw_iload_n X 46 2 dX0_canAsk_45 rfl rfl rfl ?_
      refine gw_callSi X 49 [.int ((σ.1 10 (Int32.toNatClampNeg x1)) &&& (σ.1 11 (Int32.toNatClampNeg (σ.1 3 (Int32.toNatClampNeg x1))))), .int x2] (mt_X0_isOf rfl) lk_X0_114 yd_X0_isOf rfl rfl rfl dX0_canAsk_46 rfl rfl rfl ?_
      refine gw_if_eqB X 56 52 dX0_canAsk_49 rfl rfl (fun z => ?_) (fun z => ?_)
      · replace hp := gw_f z hp
        refine gw_iconst X 57 dX0_canAsk_56 rfl gw_ci_0 ?_
        cases hp
        exact gw_zret0 X dX0_canAsk_57 (fun _ h => ⟨rfl, h⟩) (Nat.le_of_ble_eq_true rfl) (Nat.le_of_ble_eq_true rfl)
      · replace hp := gw_t z hp
        refine gw_iconst X 53 dX0_canAsk_52 rfl gw_ci_1 ?_
        refine gw_goto X 57 dX0_canAsk_53 rfl ?_
        cases hp
        exact gw_zret1 X dX0_canAsk_57 (fun _ h => ⟨rfl, h⟩) (Nat.le_of_ble_eq_true rfl) (Nat.le_of_ble_eq_true rfl)
