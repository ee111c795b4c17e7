set_option maxRecDepth 100000
abbrev rm_X3_in : Room := { frames := 0, cells := 0, slots := 0, locals := 0 }
def fx_X3_in (x0 : Int64) (x2 : Int64) (x4 : Int64) : Bool := (if (lg_cmp x0 x2) < 0 then false else (if 0 < (lg_cmp x0 x4) then false else true))
set_option maxHeartbeats 4000000 in
theorem mt_X3_in {l : Launch} {D : gw_D} {Ws : va_W → Prop} {x0 : Int64} {x2 : Int64} {x4 : Int64} {res : Bool} (hp : fx_X3_in x0 x2 x4 = res) : gw_Ct D l yX3_in cX3_in 6 (some .boolean) rm_X3_in [.long x0, .long x2, .long x4] Ws (gw_pI (gw_b res) Ws) := by
  refine gw_ct (own := RX3) [(0, .long x0), (2, .long x2), (4, .long x4)] (by decide) rfl (Nat.le_of_ble_eq_true rfl) rfl ?_
  intro E X
  unfold fx_X3_in at hp
  refine gw_lload_n X 1 0 dX3_in_0 rfl rfl rfl ?_
  refine gw_lload_n X 2 1 dX3_in_1 rfl rfl rfl ?_
  refine gw_lcmp X 3 dX3_in_2 rfl ?_
  refine gw_if_lt X 17 6 dX3_in_3 rfl rfl (fun z => ?_) (fun z => ?_)
  · replace hp := gw_t z hp
    refine gw_iconst X 18 dX3_in_17 rfl gw_ci_0 ?_
    cases hp
    exact gw_zret0 X dX3_in_18 (fun _ h => ⟨rfl, h⟩) (Nat.le_of_ble_eq_true rfl) (Nat.le_of_ble_eq_true rfl)
  · replace hp := gw_f z hp
    refine gw_lload_n X 7 0 dX3_in_6 rfl rfl rfl ?_
    refine gw_lload X 9 2 dX3_in_7 rfl rfl ?_
    refine gw_lcmp X 10 dX3_in_9 rfl ?_
    refine gw_if_gt X 17 13 dX3_in_10 rfl rfl (fun z => ?_) (fun z => ?_)
    · replace hp := gw_t z hp
      refine gw_iconst X 18 dX3_in_17 rfl gw_ci_0 ?_
      cases hp
      exact gw_zret0 X dX3_in_18 (fun _ h => ⟨rfl, h⟩) (Nat.le_of_ble_eq_true rfl) (Nat.le_of_ble_eq_true rfl)
    · replace hp := gw_f z hp
      refine gw_iconst X 14 dX3_in_13 rfl gw_ci_1 ?_
      refine gw_goto X 18 dX3_in_14 rfl ?_
      cases hp
      exact gw_zret1 X dX3_in_18 (fun _ h => ⟨rfl, h⟩) (Nat.le_of_ble_eq_true rfl) (Nat.le_of_ble_eq_true rfl)
abbrev rm_X3_isSlot : Room := { frames := 1, cells := 0, slots := 0, locals := 25 }
def fx_X3_isSlot (x0 : Int32) : Bool := fx_X3_in (Int32.toInt64 x0) (0 : Int64) (3 : Int64)
set_option maxHeartbeats 4000000 in
theorem mt_X3_isSlot {l : Launch} {D : gw_D} {Ws : va_W → Prop} {x0 : Int32} {res : Bool} (hp : fx_X3_isSlot x0 = res) : gw_Ct D l yX3_isSlot cX3_isSlot 1 (some .boolean) rm_X3_isSlot [.int x0] Ws (gw_pI (gw_b res) Ws) := by
  refine gw_ct (own := RX3) [(0, .int x0)] (by decide) rfl (Nat.le_of_ble_eq_true rfl) rfl ?_
  intro E X
  unfold fx_X3_isSlot at hp
  refine gw_iload_n X 1 0 dX3_isSlot_0 rfl rfl rfl ?_
  refine gw_i2l X 2 dX3_isSlot_1 rfl ?_
  refine gw_lconst X 3 dX3_isSlot_2 rfl gw_cl_0 ?_
  refine gw_ldc2 X 6 dX3_isSlot_3 rfl q1496 ?_
  refine gw_callSi X 9 [.long (Int32.toInt64 x0), .long 0, .long 3] (mt_X3_in rfl) lk_X3_64 yd_X3_in rfl rfl rfl dX3_isSlot_6 rfl rfl rfl ?_
  cases hp
  exact gw_zret X dX3_isSlot_9 (fun _ h => ⟨rfl, h⟩) (Nat.le_of_ble_eq_true rfl) (Nat.le_of_ble_eq_true rfl)
abbrev rm_X3_row : Room := { frames := 2, cells := 0, slots := 0, locals := 45 }
def fx_X3_row_L57 (v1 : Int32) (v3 : Int32) : Nat → Int32 → gw_S → Option (Int32 × gw_S)
  | 0, _, _ => none
  | n + 1, c4, σ => (if v3 ≤ c4 then some (0, σ) else gw_ck (((60 : Int32) * v1) + c4) 240 (fx_X3_row_L57 v1 v3 n (c4 + 1) (gw_ul σ 3 (Int32.toNatClampNeg (((60 : Int32) * v1) + c4)) 0)))
def fx_X3_row (σ : gw_S) (x1 : Int32) (x2 : Int32) (x3 : Int32) : Option (Int32 × gw_S) := gw_let (gw_u σ 0 0 0) (fun σ1 => (if fx_X3_isSlot x1 = true then (if fx_X3_in (Int32.toInt64 x2) (0 : Int64) (3 : Int64) = true then (if x3 ≤ (60 : Int32) then (if 0 ≤ x3 then gw_ck x1 4 (gw_let (gw_u σ1 1 (Int32.toNatClampNeg x1) x2) (fun σ3 => gw_ck x1 4 (fx_X3_row_L57 x1 x3 1000 (0 : Int32) (gw_u σ3 2 (Int32.toNatClampNeg x1) x3)))) else some ((-3), σ1)) else some ((-2), σ1)) else some ((-2), σ1)) else some ((-2), σ1)))
set_option maxHeartbeats 4000000 in
theorem wk_X3_row_L57 {E : gw_E} {l : Launch} {D : gw_D} {a : Nat → Nat} {Wr : va_W → Prop} {res : Int32 × gw_S} (X : gw_X E cX3_row 5 RX3 (some .int) l D rm_X3_row (some (gw_pI res.1 (gw_st (wM D a res.2) Wr)))) {v1 : Int32} {v3 : Int32} : ∀ {n : Nat} {c4 : Int32} {σ : gw_S}, fx_X3_row_L57 v1 v3 n c4 σ = some res → gw_W E 57 [(0, .ref (a 0)), (1, .int v1), (3, .int v3), (4, .int c4)] [] (gw_st (wM D a σ) Wr) 0 0 := by
  intro n
  induction n with
  | zero =>
    intro c4 σ hp
    cases (show none = some res from hp)
  | succ n ih =>
    intro c4 σ hp
    rw [fx_X3_row_L57] at hp
    refine gw_iload X 59 3 dX3_row_57 rfl rfl ?_
    refine gw_iload_n X 60 2 dX3_row_59 rfl rfl rfl ?_
    refine gw_icmp_ge X 82 63 dX3_row_60 rfl rfl (fun z => ?_) (fun z => ?_)
    · replace hp := gw_t z hp
      refine gw_iconst X 83 dX3_row_82 rfl gw_ci_0 ?_
      cases hp
      exact gw_iret X dX3_row_83 (fun _ h => ⟨rfl, h⟩) (Nat.le_of_ble_eq_true rfl) (Nat.le_of_ble_eq_true rfl)
    · replace hp := gw_f z hp
      refine gw_aload_n X 64 0 dX3_row_63 rfl rfl rfl ?_
      refine gM_g0_3 X 67 q1397 dX3_row_64 rfl ?_
      refine gw_bipush X 69 dX3_row_67 rfl gw_cb_60 ?_
      refine gw_iload_n X 70 1 dX3_row_69 rfl rfl rfl ?_
      refine gw_imul X 71 dX3_row_70 rfl ?_
      refine gw_iload X 73 3 dX3_row_71 rfl rfl ?_
      refine gw_iadd X 74 dX3_row_73 rfl ?_
      refine gw_lconst X 75 dX3_row_74 rfl gw_cl_0 ?_
      obtain ⟨hc, hp⟩ := gw_ck_some hp
      refine gM_s3 X 76 (Int32.toNatClampNeg (((60 : Int32) * v1) + c4)) hc rfl dX3_row_75 rfl ?_
      refine gw_iinc X 79 3 [(4, .int (c4 + 1)), (0, .ref (a 0)), (1, .int v1), (3, .int v3)] dX3_row_76 rfl rfl gw_ci_1 (by decide) rfl ?_
      refine gw_goto X 57 dX3_row_79 rfl ?_
      refine gw_lv [1, 2, 3, 0] rfl ?_
      exact ih hp
set_option maxHeartbeats 4000000 in
theorem mt_X3_row {l : Launch} {D : gw_D} {a : Nat → Nat} {Wr : va_W → Prop} {σ : gw_S} {x1 : Int32} {x2 : Int32} {x3 : Int32} {res : Int32 × gw_S} (hp : fx_X3_row σ x1 x2 x3 = some res) : gw_Ct D l yX3_row cX3_row 5 (some .int) rm_X3_row [.ref (a 0), .int x1, .int x2, .int x3] (gw_st (wM D a σ) Wr) (gw_pI res.1 (gw_st (wM D a res.2) Wr)) := by
  refine gw_ct (own := RX3) [(0, .ref (a 0)), (1, .int x1), (2, .int x2), (3, .int x3)] (by decide) rfl (Nat.le_of_ble_eq_true rfl) rfl ?_
  intro E X
  unfold fx_X3_row at hp
  refine gw_aload_n X 1 0 dX3_row_0 rfl rfl rfl ?_
  refine gw_iconst X 2 dX3_row_1 rfl gw_ci_0 ?_
  refine gM_p0_0 X 5 q1394 dX3_row_2 rfl ?_
  refine gw_iload_n X 6 1 dX3_row_5 rfl rfl rfl ?_
  obtain ⟨σ1, h2, hp⟩ := gw_let_some hp
  rw [← h2]
  clear h2
  refine gw_callSi X 9 [.int x1] (mt_X3_isSlot rfl) lk_X3_68 yd_X3_isSlot rfl rfl rfl dX3_row_6 rfl rfl rfl ?_
  refine gw_if_eqB X 30 12 dX3_row_9 rfl rfl (fun z => ?_) (fun z => ?_)
  · replace hp := gw_f z hp
    refine gw_bipush X 32 dX3_row_30 rfl gw_cb_m2 ?_
    cases hp
    exact gw_iret X dX3_row_32 (fun _ h => ⟨rfl, h⟩) (Nat.le_of_ble_eq_true rfl) (Nat.le_of_ble_eq_true rfl)
  · replace hp := gw_t z hp
    refine gw_iload_n X 13 2 dX3_row_12 rfl rfl rfl ?_
    refine gw_i2l X 14 dX3_row_13 rfl ?_
    refine gw_lconst X 15 dX3_row_14 rfl gw_cl_0 ?_
    refine gw_ldc2 X 18 dX3_row_15 rfl q1496 ?_
    refine gw_callSi X 21 [.long (Int32.toInt64 x2), .long 0, .long 3] (mt_X3_in rfl) lk_X3_64 yd_X3_in rfl rfl rfl dX3_row_18 rfl rfl rfl ?_
    refine gw_if_eqB X 30 24 dX3_row_21 rfl rfl (fun z => ?_) (fun z => ?_)
    · replace hp := gw_f z hp
      refine gw_bipush X 32 dX3_row_30 rfl gw_cb_m2 ?_
      cases hp
      exact gw_iret X dX3_row_32 (fun _ h => ⟨rfl, h⟩) (Nat.le_of_ble_eq_true rfl) (Nat.le_of_ble_eq_true rfl)
    · replace hp := gw_t z hp
      refine gw_iload_n X 25 3 dX3_row_24 rfl rfl rfl ?_
      refine gw_bipush X 27 dX3_row_25 rfl gw_cb_60 ?_
      refine gw_icmp_le X 33 30 dX3_row_27 rfl rfl (fun z => ?_) (fun z => ?_)
      · replace hp := gw_t z hp
        refine gw_iload_n X 34 3 dX3_row_33 rfl rfl rfl ?_
        refine gw_if_ge X 40 37 dX3_row_34 rfl rfl (fun z => ?_) (fun z => ?_)
        · replace hp := gw_t z hp
          refine gw_aload_n X 41 0 dX3_row_40 rfl rfl rfl ?_
          refine gM_g0_1 X 44 q1395 dX3_row_41 rfl ?_
          refine gw_iload_n X 45 1 dX3_row_44 rfl rfl rfl ?_
          refine gw_iload_n X 46 2 dX3_row_45 rfl rfl rfl ?_
          obtain ⟨hc, hp⟩ := gw_ck_some hp
          refine gM_s1 X 47 (Int32.toNatClampNeg x1) hc rfl dX3_row_46 rfl ?_
          refine gw_aload_n X 48 0 dX3_row_47 rfl rfl rfl ?_
          obtain ⟨σ3, h4, hp⟩ := gw_let_some hp
          rw [← h4]
          clear h4
          refine gM_g0_2 X 51 q1396 dX3_row_48 rfl ?_
          refine gw_iload_n X 52 1 dX3_row_51 rfl rfl rfl ?_
          refine gw_iload_n X 53 3 dX3_row_52 rfl rfl rfl ?_
          obtain ⟨hc, hp⟩ := gw_ck_some hp
          refine gM_s2 X 54 (Int32.toNatClampNeg x1) hc rfl dX3_row_53 rfl ?_
          refine gw_iconst X 55 dX3_row_54 rfl gw_ci_0 ?_
          refine gw_istore X 57 [(4, .int 0), (0, .ref (a 0)), (1, .int x1), (2, .int x2), (3, .int x3)] dX3_row_55 rfl (by decide) rfl ?_
          refine gw_lv [1, 2, 4, 0] rfl ?_
          exact wk_X3_row_L57 X hp
        · replace hp := gw_f z hp
          refine gw_bipush X 39 dX3_row_37 rfl gw_cb_m3 ?_
          cases hp
          exact gw_iret X dX3_row_39 (fun _ h => ⟨rfl, h⟩) (Nat.le_of_ble_eq_true rfl) (Nat.le_of_ble_eq_true rfl)
      · replace hp := gw_f z hp
        refine gw_bipush X 32 dX3_row_30 rfl gw_cb_m2 ?_
        cases hp
        exact gw_iret X dX3_row_32 (fun _ h => ⟨rfl, h⟩) (Nat.le_of_ble_eq_true rfl) (Nat.le_of_ble_eq_true rfl)
abbrev rm_X3_cut : Room := { frames := 0, cells := 0, slots := 0, locals := 0 }
def fx_X3_cut (x0 : Int64) (x2 : Int32) : Int64 := (if x2 = 0 then Int32.toInt64 ((Int32.toInt8 (Int64.toInt32 x0)).toInt32) else (if x2 = (1 : Int32) then Int32.toInt64 ((Int32.toInt16 (Int64.toInt32 x0)).toInt32) else (if x2 = (2 : Int32) then Int32.toInt64 (Int64.toInt32 x0) else x0)))
set_option maxHeartbeats 4000000 in
theorem mt_X3_cut {l : Launch} {D : gw_D} {Ws : va_W → Prop} {x0 : Int64} {x2 : Int32} {res : Int64} (hp : fx_X3_cut x0 x2 = res) : gw_Ct D l yX3_cut cX3_cut 3 (some .long) rm_X3_cut [.long x0, .int x2] Ws (gw_pL res Ws) := by
  refine gw_ct (own := RX3) [(0, .long x0), (2, .int x2)] (by decide) rfl (Nat.le_of_ble_eq_true rfl) rfl ?_
  intro E X
  unfold fx_X3_cut at hp
  refine gw_iload_n X 1 1 dX3_cut_0 rfl rfl rfl ?_
  refine gw_if_ne X 11 4 dX3_cut_1 rfl rfl (fun z => ?_) (fun z => ?_)
  · replace hp := gw_f z hp
    refine gw_iload_n X 12 1 dX3_cut_11 rfl rfl rfl ?_
    refine gw_iconst X 13 dX3_cut_12 rfl gw_ci_1 ?_
    refine gw_icmp_ne X 23 16 dX3_cut_13 rfl rfl (fun z => ?_) (fun z => ?_)
    · replace hp := gw_f z hp
      refine gw_iload_n X 24 1 dX3_cut_23 rfl rfl rfl ?_
      refine gw_iconst X 25 dX3_cut_24 rfl gw_ci_2 ?_
      refine gw_icmp_ne X 34 28 dX3_cut_25 rfl rfl (fun z => ?_) (fun z => ?_)
      · replace hp := gw_f z hp
        refine gw_lload_n X 35 0 dX3_cut_34 rfl rfl rfl ?_
        cases hp
        exact gw_lret X dX3_cut_35 (fun _ h => ⟨rfl, h⟩) (Nat.le_of_ble_eq_true rfl) (Nat.le_of_ble_eq_true rfl)
      · replace hp := gw_t z hp
        refine gw_lload_n X 29 0 dX3_cut_28 rfl rfl rfl ?_
        refine gw_l2i X 30 dX3_cut_29 rfl ?_
        refine gw_i2l X 31 dX3_cut_30 rfl ?_
        refine gw_goto X 35 dX3_cut_31 rfl ?_
        cases hp
        exact gw_lret X dX3_cut_35 (fun _ h => ⟨rfl, h⟩) (Nat.le_of_ble_eq_true rfl) (Nat.le_of_ble_eq_true rfl)
    · replace hp := gw_t z hp
      refine gw_lload_n X 17 0 dX3_cut_16 rfl rfl rfl ?_
      refine gw_l2i X 18 dX3_cut_17 rfl ?_
      refine gw_i2s X 19 dX3_cut_18 rfl ?_
      refine gw_i2l X 20 dX3_cut_19 rfl ?_
      refine gw_goto X 35 dX3_cut_20 rfl ?_
      cases hp
      exact gw_lret X dX3_cut_35 (fun _ h => ⟨rfl, h⟩) (Nat.le_of_ble_eq_true rfl) (Nat.le_of_ble_eq_true rfl)
  · replace hp := gw_t z hp
    refine gw_lload_n X 5 0 dX3_cut_4 rfl rfl rfl ?_
    refine gw_l2i X 6 dX3_cut_5 rfl ?_
    refine gw_i2b X 7 dX3_cut_6 rfl ?_
    refine gw_i2l X 8 dX3_cut_7 rfl ?_
    refine gw_goto X 35 dX3_cut_8 rfl ?_
    cases hp
    exact gw_lret X dX3_cut_35 (fun _ h => ⟨rfl, h⟩) (Nat.le_of_ble_eq_true rfl) (Nat.le_of_ble_eq_true rfl)
abbrev rm_X3_write : Room := { frames := 2, cells := 0, slots := 0, locals := 45 }
def fx_X3_write (σ : gw_S) (x1 : Int32) (x2 : Int32) (x3 : Int64) : Option (Int32 × gw_S) := gw_let (gw_u σ 0 0 0) (fun σ1 => (if fx_X3_isSlot x1 = true then gw_ck x1 4 ((if (σ1.1 1 (Int32.toNatClampNeg x1)) = (-1 : Int32) then some ((-6), σ1) else gw_ck x1 4 ((if fx_X3_in (Int32.toInt64 x2) (0 : Int64) (Int32.toInt64 ((σ1.1 2 (Int32.toNatClampNeg x1)) - (1 : Int32))) = true then gw_ck x1 4 (gw_ck (((60 : Int32) * x1) + x2) 240 (some (0, gw_ul σ1 3 (Int32.toNatClampNeg (((60 : Int32) * x1) + x2)) (fx_X3_cut x3 (σ1.1 1 (Int32.toNatClampNeg x1)))))) else some ((-7), σ1))))) else some ((-2), σ1)))
set_option maxHeartbeats 4000000 in
theorem mt_X3_write {l : Launch} {D : gw_D} {a : Nat → Nat} {Wr : va_W → Prop} {σ : gw_S} {x1 : Int32} {x2 : Int32} {x3 : Int64} {res : Int32 × gw_S} (hp : fx_X3_write σ x1 x2 x3 = some res) : gw_Ct D l yX3_write cX3_write 5 (some .int) rm_X3_write [.ref (a 0), .int x1, .int x2, .long x3] (gw_st (wM D a σ) Wr) (gw_pI res.1 (gw_st (wM D a res.2) Wr)) := by
  refine gw_ct (own := RX3) [(0, .ref (a 0)), (1, .int x1), (2, .int x2), (3, .long x3)] (by decide) rfl (Nat.le_of_ble_eq_true rfl) rfl ?_
  intro E X
  unfold fx_X3_write at hp
  refine gw_aload_n X 1 0 dX3_write_0 rfl rfl rfl ?_
  refine gw_iconst X 2 dX3_write_1 rfl gw_ci_0 ?_
  refine gM_p0_0 X 5 q1394 dX3_write_2 rfl ?_
  refine gw_iload_n X 6 1 dX3_write_5 rfl rfl rfl ?_
  obtain ⟨σ1, h2, hp⟩ := gw_let_some hp
  rw [← h2]
  clear h2
  refine gw_callSi X 9 [.int x1] (mt_X3_isSlot rfl) lk_X3_68 yd_X3_isSlot rfl rfl rfl dX3_write_6 rfl rfl rfl ?_
  refine gw_if_neB X 15 12 dX3_write_9 rfl rfl (fun z => ?_) (fun z => ?_)
  · replace hp := gw_t z hp
    refine gw_aload_n X 16 0 dX3_write_15 rfl rfl rfl ?_
    refine gM_g0_1 X 19 q1395 dX3_write_16 rfl ?_
    refine gw_iload_n X 20 1 dX3_write_19 rfl rfl rfl ?_
    obtain ⟨hc, hp⟩ := gw_ck_some hp
    refine gM_l1 X 21 (Int32.toNatClampNeg x1) hc rfl dX3_write_20 rfl ?_
    refine gw_iconst X 22 dX3_write_21 rfl gw_ci_m1 ?_
    refine gw_icmp_ne X 28 25 dX3_write_22 rfl rfl (fun z => ?_) (fun z => ?_)
    · replace hp := gw_f z hp
      refine gw_iload_n X 29 2 dX3_write_28 rfl rfl rfl ?_
      refine gw_i2l X 30 dX3_write_29 rfl ?_
      refine gw_lconst X 31 dX3_write_30 rfl gw_cl_0 ?_
      refine gw_aload_n X 32 0 dX3_write_31 rfl rfl rfl ?_
      refine gM_g0_2 X 35 q1396 dX3_write_32 rfl ?_
      refine gw_iload_n X 36 1 dX3_write_35 rfl rfl rfl ?_
      obtain ⟨hc, hp⟩ := gw_ck_some hp
      refine gM_l2 X 37 (Int32.toNatClampNeg x1) hc rfl dX3_write_36 rfl ?_
      refine gw_iconst X 38 dX3_write_37 rfl gw_ci_1 ?_
      refine gw_isub X 39 dX3_write_38 rfl ?_
      refine gw_i2l X 40 dX3_write_39 rfl ?_
      refine gw_callSi X 43 [.long (Int32.toInt64 x2), .long 0, .long (Int32.toInt64 ((σ1.1 2 (Int32.toNatClampNeg x1)) - (1 : Int32)))] (mt_X3_in rfl) lk_X3_64 yd_X3_in rfl rfl rfl dX3_write_40 rfl rfl rfl ?_
      refine gw_if_neB X 49 46 dX3_write_43 rfl rfl (fun z => ?_) (fun z => ?_)
      · replace hp := gw_t z hp
        refine gw_aload_n X 50 0 dX3_write_49 rfl rfl rfl ?_
        refine gM_g0_3 X 53 q1397 dX3_write_50 rfl ?_
        refine gw_bipush X 55 dX3_write_53 rfl gw_cb_60 ?_
        refine gw_iload_n X 56 1 dX3_write_55 rfl rfl rfl ?_
        refine gw_imul X 57 dX3_write_56 rfl ?_
        refine gw_iload_n X 58 2 dX3_write_57 rfl rfl rfl ?_
        refine gw_iadd X 59 dX3_write_58 rfl ?_
        refine gw_lload_n X 60 3 dX3_write_59 rfl rfl rfl ?_
        refine gw_aload_n X 61 0 dX3_write_60 rfl rfl rfl ?_
        refine gM_g0_1 X 64 q1395 dX3_write_61 rfl ?_
        refine gw_iload_n X 65 1 dX3_write_64 rfl rfl rfl ?_
        obtain ⟨hc, hp⟩ := gw_ck_some hp
        refine gM_l1 X 66 (Int32.toNatClampNeg x1) hc rfl dX3_write_65 rfl ?_
        refine gw_callSl X 69 [.long x3, .int (σ1.1 1 (Int32.toNatClampNeg x1))] (mt_X3_cut rfl) lk_X3_72 yd_X3_cut rfl rfl rfl dX3_write_66 rfl rfl rfl ?_
        obtain ⟨hc, hp⟩ := gw_ck_some hp
        refine gM_s3 X 70 (Int32.toNatClampNeg (((60 : Int32) * x1) + x2)) hc rfl dX3_write_69 rfl ?_
        refine gw_iconst X 71 dX3_write_70 rfl gw_ci_0 ?_
        cases hp
        exact gw_iret X dX3_write_71 (fun _ h => ⟨rfl, h⟩) (Nat.le_of_ble_eq_true rfl) (Nat.le_of_ble_eq_true rfl)
      · replace hp := gw_f z hp
        refine gw_bipush X 48 dX3_write_46 rfl gw_cb_m7 ?_
        cases hp
        exact gw_iret X dX3_write_48 (fun _ h => ⟨rfl, h⟩) (Nat.le_of_ble_eq_true rfl) (Nat.le_of_ble_eq_true rfl)
    · replace hp := gw_t z hp
      refine gw_bipush X 27 dX3_write_25 rfl gw_cb_m6 ?_
      cases hp
      exact gw_iret X dX3_write_27 (fun _ h => ⟨rfl, h⟩) (Nat.le_of_ble_eq_true rfl) (Nat.le_of_ble_eq_true rfl)
  · replace hp := gw_f z hp
    refine gw_bipush X 14 dX3_write_12 rfl gw_cb_m2 ?_
    cases hp
    exact gw_iret X dX3_write_14 (fun _ h => ⟨rfl, h⟩) (Nat.le_of_ble_eq_true rfl) (Nat.le_of_ble_eq_true rfl)
abbrev rm_X3_paste : Room := { frames := 2, cells := 0, slots := 0, locals := 45 }
def fx_X3_paste_L118 {τ : Type} (k : gw_S → Option (τ)) (v1 : Int32) (v2 : Int32) (v3 : Int32) (v4 : Int32) (v5 : Int32) : Nat → Int32 → gw_S → Option (τ)
  | 0, _, _ => none
  | n + 1, c6, σ => (if v5 ≤ c6 then k σ else gw_ck ((((60 : Int32) * v1) + v2) + c6) 240 (gw_ck c6 60 (fx_X3_paste_L118 k v1 v2 v3 v4 v5 n (c6 + 1) (gw_ul σ 4 (Int32.toNatClampNeg c6) (σ.2 3 (Int32.toNatClampNeg ((((60 : Int32) * v1) + v2) + c6)))))))
def fx_X3_paste_L155 (v3 : Int32) (v4 : Int32) (v5 : Int32) : Nat → Int32 → gw_S → Option (Int32 × gw_S)
  | 0, _, _ => none
  | n + 1, c6, σ => (if v5 ≤ c6 then some (0, σ) else gw_ck c6 60 (gw_ck ((((60 : Int32) * v3) + v4) + c6) 240 (fx_X3_paste_L155 v3 v4 v5 n (c6 + 1) (gw_ul σ 3 (Int32.toNatClampNeg ((((60 : Int32) * v3) + v4) + c6)) (σ.2 4 (Int32.toNatClampNeg c6))))))
def fx_X3_paste (σ : gw_S) (x1 : Int32) (x2 : Int32) (x3 : Int32) (x4 : Int32) (x5 : Int32) : Option (Int32 × gw_S) := gw_let (gw_u σ 0 0 0) (fun σ1 => (if fx_X3_isSlot x1 = true then (if fx_X3_isSlot x3 = true then gw_ck x1 4 ((if (σ1.1 1 (Int32.toNatClampNeg x1)) = (-1 : Int32) then some ((-6), σ1) else gw_ck x3 4 ((if (σ1.1 1 (Int32.toNatClampNeg x3)) = (-1 : Int32) then some ((-6), σ1) else gw_ck x1 4 (gw_ck x3 4 ((if (σ1.1 1 (Int32.toNatClampNeg x1)) = (σ1.1 1 (Int32.toNatClampNeg x3)) then (if x2 < 0 then some ((-7), σ1) else (if x4 < 0 then some ((-7), σ1) else (if x5 < 0 then some ((-7), σ1) else gw_ck x1 4 ((if 0 < (lg_cmp ((Int32.toInt64 x2) + (Int32.toInt64 x5)) (Int32.toInt64 (σ1.1 2 (Int32.toNatClampNeg x1)))) then some ((-7), σ1) else gw_ck x3 4 ((if (lg_cmp ((Int32.toInt64 x4) + (Int32.toInt64 x5)) (Int32.toInt64 (σ1.1 2 (Int32.toNatClampNeg x3)))) ≤ 0 then fx_X3_paste_L118 (fun (σ3 : gw_S) => fx_X3_paste_L155 x3 x4 x5 1000 (0 : Int32) σ3) x1 x2 x3 x4 x5 1000 (0 : Int32) σ1 else some ((-7), σ1)))))))) else some ((-8), σ1)))))))) else some ((-2), σ1)) else some ((-2), σ1)))
set_option maxHeartbeats 4000000 in
theorem wk_X3_paste_L118 {E : gw_E} {l : Launch} {D : gw_D} {a : Nat → Nat} {Wr : va_W → Prop} {τ : Type} {res : τ} {post : Option (Option Value → va_W → Prop)} (X : gw_X E cX3_paste 7 RX3 (some .int) l D rm_X3_paste post) {k : gw_S → Option (τ)} {v1 : Int32} {v2 : Int32} {v3 : Int32} {v4 : Int32} {v5 : Int32} : ∀ {n : Nat} {c6 : Int32} {σ : gw_S}, fx_X3_paste_L118 k v1 v2 v3 v4 v5 n c6 σ = some res → (∀  (σ : gw_S), k σ = some res → gw_W E 152 [(0, .ref (a 0)), (3, .int v3), (4, .int v4), (5, .int v5)] [] (gw_st (wM D a σ) Wr) 0 0) → gw_W E 118 [(0, .ref (a 0)), (1, .int v1), (2, .int v2), (3, .int v3), (4, .int v4), (5, .int v5), (6, .int c6)] [] (gw_st (wM D a σ) Wr) 0 0 := by
  intro n
  induction n with
  | zero =>
    intro c6 σ hp hk
    cases (show none = some res from hp)
  | succ n ih =>
    intro c6 σ hp hk
    rw [fx_X3_paste_L118] at hp
    refine gw_iload X 120 6 dX3_paste_118 rfl rfl ?_
    refine gw_iload X 122 5 dX3_paste_120 rfl rfl ?_
    refine gw_icmp_ge X 152 125 dX3_paste_122 rfl rfl (fun z => ?_) (fun z => ?_)
    · replace hp := gw_t z hp
      refine gw_lv [0, 3, 4, 5] rfl ?_
      exact hk _ hp
    · replace hp := gw_f z hp
      refine gw_aload_n X 126 0 dX3_paste_125 rfl rfl rfl ?_
      refine gM_g0_4 X 129 q1398 dX3_paste_126 rfl ?_
      refine gw_iload X 131 6 dX3_paste_129 rfl rfl ?_
      refine gw_aload_n X 132 0 dX3_paste_131 rfl rfl rfl ?_
      refine gM_g0_3 X 135 q1397 dX3_paste_132 rfl ?_
      refine gw_bipush X 137 dX3_paste_135 rfl gw_cb_60 ?_
      refine gw_iload_n X 138 1 dX3_paste_137 rfl rfl rfl ?_
      refine gw_imul X 139 dX3_paste_138 rfl ?_
      refine gw_iload_n X 140 2 dX3_paste_139 rfl rfl rfl ?_
      refine gw_iadd X 141 dX3_paste_140 rfl ?_
      refine gw_iload X 143 6 dX3_paste_141 rfl rfl ?_
      refine gw_iadd X 144 dX3_paste_143 rfl ?_
      obtain ⟨hc, hp⟩ := gw_ck_some hp
      refine gM_l3 X 145 (Int32.toNatClampNeg ((((60 : Int32) * v1) + v2) + c6)) hc rfl dX3_paste_144 rfl ?_
      obtain ⟨hc, hp⟩ := gw_ck_some hp
      refine gM_s4 X 146 (Int32.toNatClampNeg c6) hc rfl dX3_paste_145 rfl ?_
      refine gw_iinc X 149 6 [(6, .int (c6 + 1)), (0, .ref (a 0)), (1, .int v1), (2, .int v2), (3, .int v3), (4, .int v4), (5, .int v5)] dX3_paste_146 rfl rfl gw_ci_1 (by decide) rfl ?_
      refine gw_goto X 118 dX3_paste_149 rfl ?_
      refine gw_lv [1, 2, 3, 4, 5, 6, 0] rfl ?_
      exact ih hp hk
set_option maxHeartbeats 4000000 in
theorem wk_X3_paste_L155 {E : gw_E} {l : Launch} {D : gw_D} {a : Nat → Nat} {Wr : va_W → Prop} {res : Int32 × gw_S} (X : gw_X E cX3_paste 7 RX3 (some .int) l D rm_X3_paste (some (gw_pI res.1 (gw_st (wM D a res.2) Wr)))) {v3 : Int32} {v4 : Int32} {v5 : Int32} : ∀ {n : Nat} {c6 : Int32} {σ : gw_S}, fx_X3_paste_L155 v3 v4 v5 n c6 σ = some res → gw_W E 155 [(0, .ref (a 0)), (3, .int v3), (4, .int v4), (5, .int v5), (6, .int c6)] [] (gw_st (wM D a σ) Wr) 0 0 := by
  intro n
  induction n with
  | zero =>
    intro c6 σ hp
    cases (show none = some res from hp)
  | succ n ih =>
    intro c6 σ hp
    rw [fx_X3_paste_L155] at hp
    refine gw_iload X 157 4 dX3_paste_155 rfl rfl ?_
    refine gw_iload X 159 3 dX3_paste_157 rfl rfl ?_
    refine gw_icmp_ge X 190 162 dX3_paste_159 rfl rfl (fun z => ?_) (fun z => ?_)
    · replace hp := gw_t z hp
      refine gw_iconst X 191 dX3_paste_190 rfl gw_ci_0 ?_
      cases hp
      exact gw_iret X dX3_paste_191 (fun _ h => ⟨rfl, h⟩) (Nat.le_of_ble_eq_true rfl) (Nat.le_of_ble_eq_true rfl)
    · replace hp := gw_f z hp
      refine gw_aload_n X 163 0 dX3_paste_162 rfl rfl rfl ?_
      refine gM_g0_3 X 166 q1397 dX3_paste_163 rfl ?_
      refine gw_bipush X 168 dX3_paste_166 rfl gw_cb_60 ?_
      refine gw_iload_n X 169 1 dX3_paste_168 rfl rfl rfl ?_
      refine gw_imul X 170 dX3_paste_169 rfl ?_
      refine gw_iload X 172 2 dX3_paste_170 rfl rfl ?_
      refine gw_iadd X 173 dX3_paste_172 rfl ?_
      refine gw_iload X 175 4 dX3_paste_173 rfl rfl ?_
      refine gw_iadd X 176 dX3_paste_175 rfl ?_
      refine gw_aload_n X 177 0 dX3_paste_176 rfl rfl rfl ?_
      refine gM_g0_4 X 180 q1398 dX3_paste_177 rfl ?_
      refine gw_iload X 182 4 dX3_paste_180 rfl rfl ?_
      obtain ⟨hc, hp⟩ := gw_ck_some hp
      refine gM_l4 X 183 (Int32.toNatClampNeg c6) hc rfl dX3_paste_182 rfl ?_
      obtain ⟨hc, hp⟩ := gw_ck_some hp
      refine gM_s3 X 184 (Int32.toNatClampNeg ((((60 : Int32) * v3) + v4) + c6)) hc rfl dX3_paste_183 rfl ?_
      refine gw_iinc X 187 4 [(6, .int (c6 + 1)), (0, .ref (a 0)), (3, .int v3), (4, .int v4), (5, .int v5)] dX3_paste_184 rfl rfl gw_ci_1 (by decide) rfl ?_
      refine gw_goto X 155 dX3_paste_187 rfl ?_
      refine gw_lv [1, 2, 3, 4, 0] rfl ?_
      exact ih hp
set_option maxHeartbeats 4000000 in
theorem mt_X3_paste {l : Launch} {D : gw_D} {a : Nat → Nat} {Wr : va_W → Prop} {σ : gw_S} {x1 : Int32} {x2 : Int32} {x3 : Int32} {x4 : Int32} {x5 : Int32} {res : Int32 × gw_S} (hp : fx_X3_paste σ x1 x2 x3 x4 x5 = some res) : gw_Ct D l yX3_paste cX3_paste 7 (some .int) rm_X3_paste [.ref (a 0), .int x1, .int x2, .int x3, .int x4, .int x5] (gw_st (wM D a σ) Wr) (gw_pI res.1 (gw_st (wM D a res.2) Wr)) := by
  refine gw_ct (own := RX3) [(0, .ref (a 0)), (1, .int x1), (2, .int x2), (3, .int x3), (4, .int x4), (5, .int x5)] (by decide) rfl (Nat.le_of_ble_eq_true rfl) rfl ?_
  intro E X
  unfold fx_X3_paste at hp
  refine gw_aload_n X 1 0 dX3_paste_0 rfl rfl rfl ?_
  refine gw_iconst X 2 dX3_paste_1 rfl gw_ci_0 ?_
  refine gM_p0_0 X 5 q1394 dX3_paste_2 rfl ?_
  refine gw_iload_n X 6 1 dX3_paste_5 rfl rfl rfl ?_
  obtain ⟨σ1, h2, hp⟩ := gw_let_some hp
  rw [← h2]
  clear h2
  refine gw_callSi X 9 [.int x1] (mt_X3_isSlot rfl) lk_X3_68 yd_X3_isSlot rfl rfl rfl dX3_paste_6 rfl rfl rfl ?_
  refine gw_if_eqB X 19 12 dX3_paste_9 rfl rfl (fun z => ?_) (fun z => ?_)
  · replace hp := gw_f z hp
    refine gw_bipush X 21 dX3_paste_19 rfl gw_cb_m2 ?_
    cases hp
    exact gw_iret X dX3_paste_21 (fun _ h => ⟨rfl, h⟩) (Nat.le_of_ble_eq_true rfl) (Nat.le_of_ble_eq_true rfl)
  · replace hp := gw_t z hp
    refine gw_iload_n X 13 3 dX3_paste_12 rfl rfl rfl ?_
    refine gw_callSi X 16 [.int x3] (mt_X3_isSlot rfl) lk_X3_68 yd_X3_isSlot rfl rfl rfl dX3_paste_13 rfl rfl rfl ?_
    refine gw_if_neB X 22 19 dX3_paste_16 rfl rfl (fun z => ?_) (fun z => ?_)
    · replace hp := gw_t z hp
      refine gw_aload_n X 23 0 dX3_paste_22 rfl rfl rfl ?_
      refine gM_g0_1 X 26 q1395 dX3_paste_23 rfl ?_
      refine gw_iload_n X 27 1 dX3_paste_26 rfl rfl rfl ?_
      obtain ⟨hc, hp⟩ := gw_ck_some hp
      refine gM_l1 X 28 (Int32.toNatClampNeg x1) hc rfl dX3_paste_27 rfl ?_
      refine gw_iconst X 29 dX3_paste_28 rfl gw_ci_m1 ?_
      refine gw_icmp_eq X 42 32 dX3_paste_29 rfl rfl (fun z => ?_) (fun z => ?_)
      · replace hp := gw_t z hp
        refine gw_bipush X 44 dX3_paste_42 rfl gw_cb_m6 ?_
        cases hp
        exact gw_iret X dX3_paste_44 (fun _ h => ⟨rfl, h⟩) (Nat.le_of_ble_eq_true rfl) (Nat.le_of_ble_eq_true rfl)
      · replace hp := gw_f z hp
        refine gw_aload_n X 33 0 dX3_paste_32 rfl rfl rfl ?_
        refine gM_g0_1 X 36 q1395 dX3_paste_33 rfl ?_
        refine gw_iload_n X 37 3 dX3_paste_36 rfl rfl rfl ?_
        obtain ⟨hc, hp⟩ := gw_ck_some hp
        refine gM_l1 X 38 (Int32.toNatClampNeg x3) hc rfl dX3_paste_37 rfl ?_
        refine gw_iconst X 39 dX3_paste_38 rfl gw_ci_m1 ?_
        refine gw_icmp_ne X 45 42 dX3_paste_39 rfl rfl (fun z => ?_) (fun z => ?_)
        · replace hp := gw_f z hp
          refine gw_aload_n X 46 0 dX3_paste_45 rfl rfl rfl ?_
          refine gM_g0_1 X 49 q1395 dX3_paste_46 rfl ?_
          refine gw_iload_n X 50 1 dX3_paste_49 rfl rfl rfl ?_
          obtain ⟨hc, hp⟩ := gw_ck_some hp
          refine gM_l1 X 51 (Int32.toNatClampNeg x1) hc rfl dX3_paste_50 rfl ?_
          refine gw_aload_n X 52 0 dX3_paste_51 rfl rfl rfl ?_
          refine gM_g0_1 X 55 q1395 dX3_paste_52 rfl ?_
          refine gw_iload_n X 56 3 dX3_paste_55 rfl rfl rfl ?_
          obtain ⟨hc, hp⟩ := gw_ck_some hp
          refine gM_l1 X 57 (Int32.toNatClampNeg x3) hc rfl dX3_paste_56 rfl ?_
          refine gw_icmp_eq X 63 60 dX3_paste_57 rfl rfl (fun z => ?_) (fun z => ?_)
          · replace hp := gw_t z hp
            refine gw_iload_n X 64 2 dX3_paste_63 rfl rfl rfl ?_
            refine gw_if_lt X 112 67 dX3_paste_64 rfl rfl (fun z => ?_) (fun z => ?_)
            · replace hp := gw_t z hp
              refine gw_bipush X 114 dX3_paste_112 rfl gw_cb_m7 ?_
              cases hp
              exact gw_iret X dX3_paste_114 (fun _ h => ⟨rfl, h⟩) (Nat.le_of_ble_eq_true rfl) (Nat.le_of_ble_eq_true rfl)
            · replace hp := gw_f z hp
              refine gw_iload X 69 4 dX3_paste_67 rfl rfl ?_
              refine gw_if_lt X 112 72 dX3_paste_69 rfl rfl (fun z => ?_) (fun z => ?_)
              · replace hp := gw_t z hp
                refine gw_bipush X 114 dX3_paste_112 rfl gw_cb_m7 ?_
                cases hp
                exact gw_iret X dX3_paste_114 (fun _ h => ⟨rfl, h⟩) (Nat.le_of_ble_eq_true rfl) (Nat.le_of_ble_eq_true rfl)
              · replace hp := gw_f z hp
                refine gw_iload X 74 5 dX3_paste_72 rfl rfl ?_
                refine gw_if_lt X 112 77 dX3_paste_74 rfl rfl (fun z => ?_) (fun z => ?_)
                · replace hp := gw_t z hp
                  refine gw_bipush X 114 dX3_paste_112 rfl gw_cb_m7 ?_
                  cases hp
                  exact gw_iret X dX3_paste_114 (fun _ h => ⟨rfl, h⟩) (Nat.le_of_ble_eq_true rfl) (Nat.le_of_ble_eq_true rfl)
                · replace hp := gw_f z hp
                  refine gw_iload_n X 78 2 dX3_paste_77 rfl rfl rfl ?_
                  refine gw_i2l X 79 dX3_paste_78 rfl ?_
                  refine gw_iload X 81 5 dX3_paste_79 rfl rfl ?_
                  refine gw_i2l X 82 dX3_paste_81 rfl ?_
                  refine gw_ladd X 83 dX3_paste_82 rfl ?_
                  refine gw_aload_n X 84 0 dX3_paste_83 rfl rfl rfl ?_
                  refine gM_g0_2 X 87 q1396 dX3_paste_84 rfl ?_
                  refine gw_iload_n X 88 1 dX3_paste_87 rfl rfl rfl ?_
                  obtain ⟨hc, hp⟩ := gw_ck_some hp
                  refine gM_l2 X 89 (Int32.toNatClampNeg x1) hc rfl dX3_paste_88 rfl ?_
                  refine gw_i2l X 90 dX3_paste_89 rfl ?_
                  refine gw_lcmp X 91 dX3_paste_90 rfl ?_
                  refine gw_if_gt X 112 94 dX3_paste_91 rfl rfl (fun z => ?_) (fun z => ?_)
                  · replace hp := gw_t z hp
                    refine gw_bipush X 114 dX3_paste_112 rfl gw_cb_m7 ?_
                    cases hp
                    exact gw_iret X dX3_paste_114 (fun _ h => ⟨rfl, h⟩) (Nat.le_of_ble_eq_true rfl) (Nat.le_of_ble_eq_true rfl)
                  · replace hp := gw_f z hp
                    refine gw_iload X 96 4 dX3_paste_94 rfl rfl ?_
                    refine gw_i2l X 97 dX3_paste_96 rfl ?_
                    refine gw_iload X 99 5 dX3_paste_97 rfl rfl ?_
                    refine gw_i2l X 100 dX3_paste_99 rfl ?_
                    refine gw_ladd X 101 dX3_paste_100 rfl ?_
                    refine gw_aload_n X 102 0 dX3_paste_101 rfl rfl rfl ?_
                    refine gM_g0_2 X 105 q1396 dX3_paste_102 rfl ?_
                    refine gw_iload_n X 106 3 dX3_paste_105 rfl rfl rfl ?_
                    obtain ⟨hc, hp⟩ := gw_ck_some hp
                    refine gM_l2 X 107 (Int32.toNatClampNeg x3) hc rfl dX3_paste_106 rfl ?_
                    refine gw_i2l X 108 dX3_paste_107 rfl ?_
                    refine gw_lcmp X 109 dX3_paste_108 rfl ?_
                    refine gw_if_le X 115 112 dX3_paste_109 rfl rfl (fun z => ?_) (fun z => ?_)
                    · replace hp := gw_t z hp
                      refine gw_iconst X 116 dX3_paste_115 rfl gw_ci_0 ?_
                      refine gw_istore X 118 [(6, .int 0), (0, .ref (a 0)), (1, .int x1), (2, .int x2), (3, .int x3), (4, .int x4), (5, .int x5)] dX3_paste_116 rfl (by decide) rfl ?_
                      refine gw_lv [1, 2, 3, 4, 5, 6, 0] rfl ?_
                      refine wk_X3_paste_L118 X hp ?_
                      clear hp
                      intro σ3 hp
                      refine gw_iconst X 153 dX3_paste_152 rfl gw_ci_0 ?_
                      refine gw_istore X 155 [(6, .int 0), (0, .ref (a 0)), (3, .int x3), (4, .int x4), (5, .int x5)] dX3_paste_153 rfl (by decide) rfl ?_
                      refine gw_lv [1, 2, 3, 4, 0] rfl ?_
                      exact wk_X3_paste_L155 X hp
                    · replace hp := gw_f z hp
                      refine gw_bipush X 114 dX3_paste_112 rfl gw_cb_m7 ?_
                      cases hp
                      exact gw_iret X dX3_paste_114 (fun _ h => ⟨rfl, h⟩) (Nat.le_of_ble_eq_true rfl) (Nat.le_of_ble_eq_true rfl)
          · replace hp := gw_f z hp
            refine gw_bipush X 62 dX3_paste_60 rfl gw_cb_m8 ?_
            cases hp
            exact gw_iret X dX3_paste_62 (fun _ h => ⟨rfl, h⟩) (Nat.le_of_ble_eq_true rfl) (Nat.le_of_ble_eq_true rfl)
        · replace hp := gw_t z hp
          refine gw_bipush X 44 dX3_paste_42 rfl gw_cb_m6 ?_
          cases hp
          exact gw_iret X dX3_paste_44 (fun _ h => ⟨rfl, h⟩) (Nat.le_of_ble_eq_true rfl) (Nat.le_of_ble_eq_true rfl)
    · replace hp := gw_f z hp
      refine gw_bipush X 21 dX3_paste_19 rfl gw_cb_m2 ?_
      cases hp
      exact gw_iret X dX3_paste_21 (fun _ h => ⟨rfl, h⟩) (Nat.le_of_ble_eq_true rfl) (Nat.le_of_ble_eq_true rfl)
abbrev rm_X3_four : Room := { frames := 0, cells := 0, slots := 0, locals := 0 }
def fx_X3_four_L3 (v1 : Int32) : Nat → Int32 → gw_S → Option (gw_S)
  | 0, _, _ => none
  | n + 1, c2, σ => (if c2 < 0 then some σ else gw_ck (σ.1 0 6) 900 (gw_let (gw_u σ 5 (Int32.toNatClampNeg (σ.1 0 6)) (vp_nar .byte ((Int32.toInt8 (v1 >>> (c2 &&& 31))).toInt32))) (fun σ1 => fx_X3_four_L3 v1 n (c2 + (-8)) (gw_u σ1 0 6 ((σ1.1 0 6) + (1 : Int32))))))
def fx_X3_four (σ : gw_S) (x1 : Int32) : Option (gw_S) := fx_X3_four_L3 x1 1000 (24 : Int32) σ
set_option maxHeartbeats 4000000 in
theorem wk_X3_four_L3 {E : gw_E} {l : Launch} {D : gw_D} {a : Nat → Nat} {Wr : va_W → Prop} {res : gw_S} (X : gw_X E cX3_four 3 RX3 none l D rm_X3_four (some (gw_pV (gw_st (wM D a res) Wr)))) {v1 : Int32} : ∀ {n : Nat} {c2 : Int32} {σ : gw_S}, fx_X3_four_L3 v1 n c2 σ = some res → gw_W E 3 [(0, .ref (a 0)), (1, .int v1), (2, .int c2)] [] (gw_st (wM D a σ) Wr) 0 0 := by
  intro n
  induction n with
  | zero =>
    intro c2 σ hp
    cases (show none = some res from hp)
  | succ n ih =>
    intro c2 σ hp
    rw [fx_X3_four_L3] at hp
    refine gw_iload_n X 4 2 dX3_four_3 rfl rfl rfl ?_
    refine gw_if_lt X 36 7 dX3_four_4 rfl rfl (fun z => ?_) (fun z => ?_)
    · replace hp := gw_t z hp
      cases hp
      exact gw_vret X dX3_four_36 (fun _ h => ⟨rfl, h⟩) (Nat.le_of_ble_eq_true rfl) (Nat.le_of_ble_eq_true rfl)
    · replace hp := gw_f z hp
      refine gw_aload_n X 8 0 dX3_four_7 rfl rfl rfl ?_
      refine gM_g0_5 X 11 q1399 dX3_four_8 rfl ?_
      refine gw_aload_n X 12 0 dX3_four_11 rfl rfl rfl ?_
      refine gM_g0_6 X 15 q1400 dX3_four_12 rfl ?_
      refine gw_iload_n X 16 1 dX3_four_15 rfl rfl rfl ?_
      refine gw_iload_n X 17 2 dX3_four_16 rfl rfl rfl ?_
      refine gw_ishr X 18 dX3_four_17 rfl ?_
      refine gw_i2b X 19 dX3_four_18 rfl ?_
      obtain ⟨hc, hp⟩ := gw_ck_some hp
      refine gM_s5 X 20 (Int32.toNatClampNeg (σ.1 0 6)) hc rfl dX3_four_19 rfl ?_
      refine gw_aload_n X 21 0 dX3_four_20 rfl rfl rfl ?_
      refine gw_dup X 22 dX3_four_21 rfl rfl ?_
      obtain ⟨σ1, h2, hp⟩ := gw_let_some hp
      rw [← h2]
      clear h2
      refine gM_g0_6 X 25 q1400 dX3_four_22 rfl ?_
      refine gw_iconst X 26 dX3_four_25 rfl gw_ci_1 ?_
      refine gw_iadd X 27 dX3_four_26 rfl ?_
      refine gM_p0_6 X 30 q1400 dX3_four_27 rfl ?_
      refine gw_iinc X 33 2 [(2, .int (c2 + (-8))), (0, .ref (a 0)), (1, .int v1)] dX3_four_30 rfl rfl gw_ci_m8 (by decide) rfl ?_
      refine gw_goto X 3 dX3_four_33 rfl ?_
      refine gw_lv [1, 2, 0] rfl ?_
      exact ih hp
set_option maxHeartbeats 4000000 in
theorem mt_X3_four {l : Launch} {D : gw_D} {a : Nat → Nat} {Wr : va_W → Prop} {σ : gw_S} {x1 : Int32} {res : gw_S} (hp : fx_X3_four σ x1 = some res) : gw_Ct D l yX3_four cX3_four 3 none rm_X3_four [.ref (a 0), .int x1] (gw_st (wM D a σ) Wr) (gw_pV (gw_st (wM D a res) Wr)) := by
  refine gw_ct (own := RX3) [(0, .ref (a 0)), (1, .int x1)] (by decide) rfl (Nat.le_of_ble_eq_true rfl) rfl ?_
  intro E X
  unfold fx_X3_four at hp
  refine gw_bipush X 2 dX3_four_0 rfl gw_cb_24 ?_
  refine gw_istore_n X 3 [(2, .int 24), (0, .ref (a 0)), (1, .int x1)] dX3_four_2 rfl rfl (by decide) rfl ?_
  refine gw_lv [1, 2, 0] rfl ?_
  exact wk_X3_four_L3 X hp
abbrev rm_X3_feed : Room := { frames := 1, cells := 0, slots := 0, locals := 22 }
def fx_X3_feed (σ : gw_S) (x1 : Int32) (x2 : Int32) (x3 : Int32) (x4 : Int32) (x5 : Int32) : Option (Int32 × gw_S) := gw_let (gw_u σ 0 0 0) (fun σ1 => (if ((σ1.1 0 6) + (20 : Int32)) ≤ (900 : Int32) then gw_b1 (fx_X3_four σ1 x1) (fun σ3 => gw_b1 (fx_X3_four σ3 x2) (fun σ5 => gw_b1 (fx_X3_four σ5 x3) (fun σ7 => gw_b1 (fx_X3_four σ7 x4) (fun σ9 => gw_b1 (fx_X3_four σ9 x5) (fun σ11 => some (σ11.1 0 6, σ11)))))) else some ((-1), σ1)))
set_option maxHeartbeats 4000000 in
theorem mt_X3_feed {l : Launch} {D : gw_D} {a : Nat → Nat} {Wr : va_W → Prop} {σ : gw_S} {x1 : Int32} {x2 : Int32} {x3 : Int32} {x4 : Int32} {x5 : Int32} {res : Int32 × gw_S} (hp : fx_X3_feed σ x1 x2 x3 x4 x5 = some res) : gw_Ct D l yX3_feed cX3_feed 6 (some .int) rm_X3_feed [.ref (a 0), .int x1, .int x2, .int x3, .int x4, .int x5] (gw_st (wM D a σ) Wr) (gw_pI res.1 (gw_st (wM D a res.2) Wr)) := by
  refine gw_ct (own := RX3) [(0, .ref (a 0)), (1, .int x1), (2, .int x2), (3, .int x3), (4, .int x4), (5, .int x5)] (by decide) rfl (Nat.le_of_ble_eq_true rfl) rfl ?_
  intro E X
  unfold fx_X3_feed at hp
  refine gw_aload_n X 1 0 dX3_feed_0 rfl rfl rfl ?_
  refine gw_iconst X 2 dX3_feed_1 rfl gw_ci_0 ?_
  refine gM_p0_0 X 5 q1394 dX3_feed_2 rfl ?_
  refine gw_aload_n X 6 0 dX3_feed_5 rfl rfl rfl ?_
  obtain ⟨σ1, h2, hp⟩ := gw_let_some hp
  rw [← h2]
  clear h2
  refine gM_g0_6 X 9 q1400 dX3_feed_6 rfl ?_
  refine gw_bipush X 11 dX3_feed_9 rfl gw_cb_20 ?_
  refine gw_iadd X 12 dX3_feed_11 rfl ?_
  refine gw_sipush X 15 dX3_feed_12 rfl gw_cs_900 ?_
  refine gw_icmp_le X 20 18 dX3_feed_15 rfl rfl (fun z => ?_) (fun z => ?_)
  · replace hp := gw_t z hp
    refine gw_aload_n X 21 0 dX3_feed_20 rfl rfl rfl ?_
    refine gw_iload_n X 22 1 dX3_feed_21 rfl rfl rfl ?_
    obtain ⟨σ3, h4, hp⟩ := gw_b1_some hp
    refine gw_callVv X 25 [.int x1] (mt_X3_four h4) lk_X3_79 ydv_X3_four gM_cl0 gM_at0 rfl rfl rfl dX3_feed_22 rfl rfl rfl ?_
    refine gw_aload_n X 26 0 dX3_feed_25 rfl rfl rfl ?_
    refine gw_iload_n X 27 2 dX3_feed_26 rfl rfl rfl ?_
    obtain ⟨σ5, h6, hp⟩ := gw_b1_some hp
    refine gw_callVv X 30 [.int x2] (mt_X3_four h6) lk_X3_79 ydv_X3_four gM_cl0 gM_at0 rfl rfl rfl dX3_feed_27 rfl rfl rfl ?_
    refine gw_aload_n X 31 0 dX3_feed_30 rfl rfl rfl ?_
    refine gw_iload_n X 32 3 dX3_feed_31 rfl rfl rfl ?_
    obtain ⟨σ7, h8, hp⟩ := gw_b1_some hp
    refine gw_callVv X 35 [.int x3] (mt_X3_four h8) lk_X3_79 ydv_X3_four gM_cl0 gM_at0 rfl rfl rfl dX3_feed_32 rfl rfl rfl ?_
    refine gw_aload_n X 36 0 dX3_feed_35 rfl rfl rfl ?_
    refine gw_iload X 38 4 dX3_feed_36 rfl rfl ?_
    obtain ⟨σ9, h10, hp⟩ := gw_b1_some hp
    refine gw_callVv X 41 [.int x4] (mt_X3_four h10) lk_X3_79 ydv_X3_four gM_cl0 gM_at0 rfl rfl rfl dX3_feed_38 rfl rfl rfl ?_
    refine gw_aload_n X 42 0 dX3_feed_41 rfl rfl rfl ?_
    refine gw_iload X 44 5 dX3_feed_42 rfl rfl ?_
    obtain ⟨σ11, h12, hp⟩ := gw_b1_some hp
    refine gw_callVv X 47 [.int x5] (mt_X3_four h12) lk_X3_79 ydv_X3_four gM_cl0 gM_at0 rfl rfl rfl dX3_feed_44 rfl rfl rfl ?_
    refine gw_aload_n X 48 0 dX3_feed_47 rfl rfl rfl ?_
    refine gM_g0_6 X 51 q1400 dX3_feed_48 rfl ?_
    cases hp
    exact gw_iret X dX3_feed_51 (fun _ h => ⟨rfl, h⟩) (Nat.le_of_ble_eq_true rfl) (Nat.le_of_ble_eq_true rfl)
  · replace hp := gw_f z hp
    refine gw_iconst X 19 dX3_feed_18 rfl gw_ci_m1 ?_
    cases hp
    exact gw_iret X dX3_feed_19 (fun _ h => ⟨rfl, h⟩) (Nat.le_of_ble_eq_true rfl) (Nat.le_of_ble_eq_true rfl)
abbrev rm_X3_end : Room := { frames := 1, cells := 0, slots := 0, locals := 25 }
def fx_X3_end (σ : gw_S) (x1 : Int32) : Int32 × gw_S := (if fx_X3_in (Int32.toInt64 x1) (0 : Int64) (Int32.toInt64 ((gw_u σ 0 0 0).1 0 6)) = true then (x1, gw_u (gw_u σ 0 0 0) 0 6 x1) else ((-1), gw_u σ 0 0 0))
set_option maxHeartbeats 4000000 in
theorem mt_X3_end {l : Launch} {D : gw_D} {a : Nat → Nat} {Wr : va_W → Prop} {σ : gw_S} {x1 : Int32} {res : Int32 × gw_S} (hp : fx_X3_end σ x1 = res) : gw_Ct D l yX3_end cX3_end 2 (some .int) rm_X3_end [.ref (a 0), .int x1] (gw_st (wM D a σ) Wr) (gw_pI res.1 (gw_st (wM D a res.2) Wr)) := by
  refine gw_ct (own := RX3) [(0, .ref (a 0)), (1, .int x1)] (by decide) rfl (Nat.le_of_ble_eq_true rfl) rfl ?_
  intro E X
  unfold fx_X3_end at hp
  refine gw_aload_n X 1 0 dX3_end_0 rfl rfl rfl ?_
  refine gw_iconst X 2 dX3_end_1 rfl gw_ci_0 ?_
  refine gM_p0_0 X 5 q1394 dX3_end_2 rfl ?_
  refine gw_iload_n X 6 1 dX3_end_5 rfl rfl rfl ?_
  refine gw_i2l X 7 dX3_end_6 rfl ?_
  refine gw_lconst X 8 dX3_end_7 rfl gw_cl_0 ?_
  refine gw_aload_n X 9 0 dX3_end_8 rfl rfl rfl ?_
  refine gM_g0_6 X 12 q1400 dX3_end_9 rfl ?_
  refine gw_i2l X 13 dX3_end_12 rfl ?_
  refine gw_callSi X 16 [.long (Int32.toInt64 x1), .long 0, .long (Int32.toInt64 ((gw_u σ 0 0 0).1 0 6))] (mt_X3_in rfl) lk_X3_64 yd_X3_in rfl rfl rfl dX3_end_13 rfl rfl rfl ?_
  refine gw_if_neB X 21 19 dX3_end_16 rfl rfl (fun z => ?_) (fun z => ?_)
  · replace hp := gw_t z hp
    refine gw_aload_n X 22 0 dX3_end_21 rfl rfl rfl ?_
    refine gw_iload_n X 23 1 dX3_end_22 rfl rfl rfl ?_
    refine gM_p0_6 X 26 q1400 dX3_end_23 rfl ?_
    refine gw_iload_n X 27 1 dX3_end_26 rfl rfl rfl ?_
    cases hp
    exact gw_iret X dX3_end_27 (fun _ h => ⟨rfl, h⟩) (Nat.le_of_ble_eq_true rfl) (Nat.le_of_ble_eq_true rfl)
  · replace hp := gw_f z hp
    refine gw_iconst X 20 dX3_end_19 rfl gw_ci_m1 ?_
    cases hp
    exact gw_iret X dX3_end_20 (fun _ h => ⟨rfl, h⟩) (Nat.le_of_ble_eq_true rfl) (Nat.le_of_ble_eq_true rfl)
abbrev rm_X3_fault : Room := { frames := 0, cells := 0, slots := 0, locals := 0 }
def fx_X3_fault (σ : gw_S) (x1 : Int32) : Int32 × gw_S := (if x1 = 0 then ((gw_u σ 0 0 0).1 0 14, gw_u σ 0 0 0) else (if x1 = (1 : Int32) then ((gw_u σ 0 0 0).1 0 15, gw_u σ 0 0 0) else ((-1), gw_u σ 0 0 0)))
set_option maxHeartbeats 4000000 in
theorem mt_X3_fault {l : Launch} {D : gw_D} {a : Nat → Nat} {Wr : va_W → Prop} {σ : gw_S} {x1 : Int32} {res : Int32 × gw_S} (hp : fx_X3_fault σ x1 = res) : gw_Ct D l yX3_fault cX3_fault 2 (some .int) rm_X3_fault [.ref (a 0), .int x1] (gw_st (wM D a σ) Wr) (gw_pI res.1 (gw_st (wM D a res.2) Wr)) := by
  refine gw_ct (own := RX3) [(0, .ref (a 0)), (1, .int x1)] (by decide) rfl (Nat.le_of_ble_eq_true rfl) rfl ?_
  intro E X
  unfold fx_X3_fault at hp
  refine gw_aload_n X 1 0 dX3_fault_0 rfl rfl rfl ?_
  refine gw_iconst X 2 dX3_fault_1 rfl gw_ci_0 ?_
  refine gM_p0_0 X 5 q1394 dX3_fault_2 rfl ?_
  refine gw_iload_n X 6 1 dX3_fault_5 rfl rfl rfl ?_
  refine gw_if_ne X 16 9 dX3_fault_6 rfl rfl (fun z => ?_) (fun z => ?_)
  · replace hp := gw_f z hp
    refine gw_iload_n X 17 1 dX3_fault_16 rfl rfl rfl ?_
    refine gw_iconst X 18 dX3_fault_17 rfl gw_ci_1 ?_
    refine gw_icmp_ne X 28 21 dX3_fault_18 rfl rfl (fun z => ?_) (fun z => ?_)
    · replace hp := gw_f z hp
      refine gw_iconst X 29 dX3_fault_28 rfl gw_ci_m1 ?_
      cases hp
      exact gw_iret X dX3_fault_29 (fun _ h => ⟨rfl, h⟩) (Nat.le_of_ble_eq_true rfl) (Nat.le_of_ble_eq_true rfl)
    · replace hp := gw_t z hp
      refine gw_aload_n X 22 0 dX3_fault_21 rfl rfl rfl ?_
      refine gM_g0_15 X 25 q1409 dX3_fault_22 rfl ?_
      refine gw_goto X 29 dX3_fault_25 rfl ?_
      cases hp
      exact gw_iret X dX3_fault_29 (fun _ h => ⟨rfl, h⟩) (Nat.le_of_ble_eq_true rfl) (Nat.le_of_ble_eq_true rfl)
  · replace hp := gw_t z hp
    refine gw_aload_n X 10 0 dX3_fault_9 rfl rfl rfl ?_
    refine gM_g0_14 X 13 q1408 dX3_fault_10 rfl ?_
    refine gw_goto X 29 dX3_fault_13 rfl ?_
    cases hp
    exact gw_iret X dX3_fault_29 (fun _ h => ⟨rfl, h⟩) (Nat.le_of_ble_eq_true rfl) (Nat.le_of_ble_eq_true rfl)
abbrev rm_X3_tells : Room := { frames := 0, cells := 0, slots := 0, locals := 0 }
def fx_X3_tells (σ : gw_S) (x1 : Int32) (x2 : Int32) : Option (gw_S) := gw_ck ((12 : Int32) + x1) 15 (some (gw_u σ 7 (Int32.toNatClampNeg ((12 : Int32) + x1)) x2))
set_option maxHeartbeats 4000000 in
theorem mt_X3_tells {l : Launch} {D : gw_D} {a : Nat → Nat} {Wr : va_W → Prop} {σ : gw_S} {x1 : Int32} {x2 : Int32} {res : gw_S} (hp : fx_X3_tells σ x1 x2 = some res) : gw_Ct D l yX3_tells cX3_tells 3 none rm_X3_tells [.ref (a 0), .int x1, .int x2] (gw_st (wM D a σ) Wr) (gw_pV (gw_st (wM D a res) Wr)) := by
  refine gw_ct (own := RX3) [(0, .ref (a 0)), (1, .int x1), (2, .int x2)] (by decide) rfl (Nat.le_of_ble_eq_true rfl) rfl ?_
  intro E X
  unfold fx_X3_tells at hp
  refine gw_aload_n X 1 0 dX3_tells_0 rfl rfl rfl ?_
  refine gM_g0_17 X 4 q1411 dX3_tells_1 rfl ?_
  refine gw_bipush X 6 dX3_tells_4 rfl gw_cb_12 ?_
  refine gw_iload_n X 7 1 dX3_tells_6 rfl rfl rfl ?_
  refine gw_iadd X 8 dX3_tells_7 rfl ?_
  refine gw_iload_n X 9 2 dX3_tells_8 rfl rfl rfl ?_
  obtain ⟨hc, hp⟩ := gw_ck_some hp
  refine gM_s7 X 10 (Int32.toNatClampNeg ((12 : Int32) + x1)) hc rfl dX3_tells_9 rfl ?_
  cases hp
  exact gw_vret X dX3_tells_10 (fun _ h => ⟨rfl, h⟩) (Nat.le_of_ble_eq_true rfl) (Nat.le_of_ble_eq_true rfl)
abbrev rm_X3_clears : Room := { frames := 1, cells := 0, slots := 0, locals := 22 }
def fx_X3_clears_L9  : Nat → Int32 → gw_S → Option (gw_S)
  | 0, _, _ => none
  | n + 1, c1, σ => (if (3 : Int32) ≤ c1 then some σ else gw_b1 (fx_X3_tells σ c1 (0 : Int32)) (fun σ1 => fx_X3_clears_L9  n (c1 + 1) σ1))
def fx_X3_clears (σ : gw_S)  : Option (gw_S) := fx_X3_clears_L9  1000 (0 : Int32) (gw_u σ 6 4 0)
set_option maxHeartbeats 4000000 in
theorem wk_X3_clears_L9 {E : gw_E} {l : Launch} {D : gw_D} {a : Nat → Nat} {Wr : va_W → Prop} {res : gw_S} (X : gw_X E cX3_clears 2 RX3 none l D rm_X3_clears (some (gw_pV (gw_st (wM D a res) Wr))))  : ∀ {n : Nat} {c1 : Int32} {σ : gw_S}, fx_X3_clears_L9  n c1 σ = some res → gw_W E 9 [(0, .ref (a 0)), (1, .int c1)] [] (gw_st (wM D a σ) Wr) 0 0 := by
  intro n
  induction n with
  | zero =>
    intro c1 σ hp
    cases (show none = some res from hp)
  | succ n ih =>
    intro c1 σ hp
    rw [fx_X3_clears_L9] at hp
    refine gw_iload_n X 10 1 dX3_clears_9 rfl rfl rfl ?_
    refine gw_iconst X 11 dX3_clears_10 rfl gw_ci_3 ?_
    refine gw_icmp_ge X 26 14 dX3_clears_11 rfl rfl (fun z => ?_) (fun z => ?_)
    · replace hp := gw_t z hp
      cases hp
      exact gw_vret X dX3_clears_26 (fun _ h => ⟨rfl, h⟩) (Nat.le_of_ble_eq_true rfl) (Nat.le_of_ble_eq_true rfl)
    · replace hp := gw_f z hp
      refine gw_aload_n X 15 0 dX3_clears_14 rfl rfl rfl ?_
      refine gw_iload_n X 16 1 dX3_clears_15 rfl rfl rfl ?_
      refine gw_iconst X 17 dX3_clears_16 rfl gw_ci_0 ?_
      obtain ⟨σ1, h2, hp⟩ := gw_b1_some hp
      refine gw_callVv X 20 [.int c1, .int 0] (mt_X3_tells h2) lk_X3_162 ydv_X3_tells gM_cl0 gM_at0 rfl rfl rfl dX3_clears_17 rfl rfl rfl ?_
      refine gw_iinc X 23 1 [(1, .int (c1 + 1)), (0, .ref (a 0))] dX3_clears_20 rfl rfl gw_ci_1 (by decide) rfl ?_
      refine gw_goto X 9 dX3_clears_23 rfl ?_
      refine gw_lv [1, 0] rfl ?_
      exact ih hp
set_option maxHeartbeats 4000000 in
theorem mt_X3_clears {l : Launch} {D : gw_D} {a : Nat → Nat} {Wr : va_W → Prop} {σ : gw_S}  {res : gw_S} (hp : fx_X3_clears σ  = some res) : gw_Ct D l yX3_clears cX3_clears 2 none rm_X3_clears [.ref (a 0)] (gw_st (wM D a σ) Wr) (gw_pV (gw_st (wM D a res) Wr)) := by
  refine gw_ct (own := RX3) [(0, .ref (a 0))] (by decide) rfl (Nat.le_of_ble_eq_true rfl) rfl ?_
  intro E X
  unfold fx_X3_clears at hp
  refine gw_aload_n X 1 0 dX3_clears_0 rfl rfl rfl ?_
  refine gM_g0_16 X 4 q1410 dX3_clears_1 rfl ?_
  refine gw_iconst X 5 dX3_clears_4 rfl gw_ci_4 ?_
  refine gw_iconst X 6 dX3_clears_5 rfl gw_ci_0 ?_
  refine gM_s6 X 7 4 (gw_in rfl) rfl dX3_clears_6 rfl ?_
  refine gw_iconst X 8 dX3_clears_7 rfl gw_ci_0 ?_
  refine gw_istore_n X 9 [(1, .int 0), (0, .ref (a 0))] dX3_clears_8 rfl rfl (by decide) rfl ?_
  refine gw_lv [1, 0] rfl ?_
  exact wk_X3_clears_L9 X hp
abbrev rm_X3_isByte : Room := { frames := 0, cells := 0, slots := 0, locals := 0 }
def fx_X3_isByte (σ : gw_S) (x1 : Int32) (x2 : Int32) (x3 : Int32) : Option (Bool) := (if (σ.1 0 6) ≤ x1 then some false else gw_ck x1 900 ((if (σ.1 5 (Int32.toNatClampNeg x1)) < x2 then some false else gw_ck x1 900 ((if x3 < (σ.1 5 (Int32.toNatClampNeg x1)) then some false else some true)))))
set_option maxHeartbeats 4000000 in
theorem mt_X3_isByte {l : Launch} {D : gw_D} {a : Nat → Nat} {Wr : va_W → Prop} {σ : gw_S} {x1 : Int32} {x2 : Int32} {x3 : Int32} {res : Bool} (hp : fx_X3_isByte σ x1 x2 x3 = some res) : gw_Ct D l yX3_isByte cX3_isByte 4 (some .boolean) rm_X3_isByte [.ref (a 0), .int x1, .int x2, .int x3] (gw_st (wM D a σ) Wr) (gw_pI (gw_b res) (gw_st (wM D a σ) Wr)) := by
  refine gw_ct (own := RX3) [(0, .ref (a 0)), (1, .int x1), (2, .int x2), (3, .int x3)] (by decide) rfl (Nat.le_of_ble_eq_true rfl) rfl ?_
  intro E X
  unfold fx_X3_isByte at hp
  refine gw_iload_n X 1 1 dX3_isByte_0 rfl rfl rfl ?_
  refine gw_aload_n X 2 0 dX3_isByte_1 rfl rfl rfl ?_
  refine gM_g0_6 X 5 q1400 dX3_isByte_2 rfl ?_
  refine gw_icmp_ge X 32 8 dX3_isByte_5 rfl rfl (fun z => ?_) (fun z => ?_)
  · replace hp := gw_t z hp
    refine gw_iconst X 33 dX3_isByte_32 rfl gw_ci_0 ?_
    cases hp
    exact gw_zret0 X dX3_isByte_33 (fun _ h => ⟨rfl, h⟩) (Nat.le_of_ble_eq_true rfl) (Nat.le_of_ble_eq_true rfl)
  · replace hp := gw_f z hp
    refine gw_aload_n X 9 0 dX3_isByte_8 rfl rfl rfl ?_
    refine gM_g0_5 X 12 q1399 dX3_isByte_9 rfl ?_
    refine gw_iload_n X 13 1 dX3_isByte_12 rfl rfl rfl ?_
    obtain ⟨hc, hp⟩ := gw_ck_some hp
    refine gM_l5 X 14 (Int32.toNatClampNeg x1) hc rfl dX3_isByte_13 rfl ?_
    refine gw_iload_n X 15 2 dX3_isByte_14 rfl rfl rfl ?_
    refine gw_icmp_lt X 32 18 dX3_isByte_15 rfl rfl (fun z => ?_) (fun z => ?_)
    · replace hp := gw_t z hp
      refine gw_iconst X 33 dX3_isByte_32 rfl gw_ci_0 ?_
      cases hp
      exact gw_zret0 X dX3_isByte_33 (fun _ h => ⟨rfl, h⟩) (Nat.le_of_ble_eq_true rfl) (Nat.le_of_ble_eq_true rfl)
    · replace hp := gw_f z hp
      refine gw_aload_n X 19 0 dX3_isByte_18 rfl rfl rfl ?_
      refine gM_g0_5 X 22 q1399 dX3_isByte_19 rfl ?_
      refine gw_iload_n X 23 1 dX3_isByte_22 rfl rfl rfl ?_
      obtain ⟨hc, hp⟩ := gw_ck_some hp
      refine gM_l5 X 24 (Int32.toNatClampNeg x1) hc rfl dX3_isByte_23 rfl ?_
      refine gw_iload_n X 25 3 dX3_isByte_24 rfl rfl rfl ?_
      refine gw_icmp_gt X 32 28 dX3_isByte_25 rfl rfl (fun z => ?_) (fun z => ?_)
      · replace hp := gw_t z hp
        refine gw_iconst X 33 dX3_isByte_32 rfl gw_ci_0 ?_
        cases hp
        exact gw_zret0 X dX3_isByte_33 (fun _ h => ⟨rfl, h⟩) (Nat.le_of_ble_eq_true rfl) (Nat.le_of_ble_eq_true rfl)
      · replace hp := gw_f z hp
        refine gw_iconst X 29 dX3_isByte_28 rfl gw_ci_1 ?_
        refine gw_goto X 33 dX3_isByte_29 rfl ?_
        cases hp
        exact gw_zret1 X dX3_isByte_33 (fun _ h => ⟨rfl, h⟩) (Nat.le_of_ble_eq_true rfl) (Nat.le_of_ble_eq_true rfl)
abbrev rm_X3_next : Room := { frames := 1, cells := 0, slots := 0, locals := 23 }
def fx_X3_next_L0 {τ : Type} (k : gw_S → Option (τ))  : Nat → gw_S → Option (τ)
  | 0, _ => none
  | n + 1, σ => gw_b1 (fx_X3_isByte σ (σ.1 0 7) (32 : Int32) (32 : Int32)) (fun r1 => (if r1 = true then fx_X3_next_L0 k  n (gw_u σ 0 7 ((σ.1 0 7) + (1 : Int32))) else gw_b1 (fx_X3_isByte σ (σ.1 0 7) (10 : Int32) (10 : Int32)) (fun r3 => (if r3 = true then fx_X3_next_L0 k  n (gw_u σ 0 7 ((σ.1 0 7) + (1 : Int32))) else k σ))))
def fx_X3_next_L208  : Nat → gw_S → Option (gw_S)
  | 0, _ => none
  | n + 1, σ => gw_b1 (fx_X3_isByte σ (σ.1 0 7) (48 : Int32) (57 : Int32)) (fun r20 => (if r20 = true then gw_b1 (if (σ.1 0 10) ≤ (100000 : Int32) then gw_ck (σ.1 0 7) 900 (some ((((10 : Int32) * (σ.1 0 10)) + (σ.1 5 (Int32.toNatClampNeg (σ.1 0 7)))) - (48 : Int32))) else some (1000000 : Int32)) (fun (y22 : Int32) => gw_let (gw_u σ 0 10 y22) (fun σ23 => fx_X3_next_L208  n (gw_u σ23 0 7 ((σ23.1 0 7) + (1 : Int32))))) else some σ))
def fx_X3_next_L102  : Nat → Int32 → gw_S → Option (gw_S)
  | 0, _, _ => none
  | n + 1, c1, σ => gw_b1 (fx_X3_isByte σ (σ.1 0 7) (97 : Int32) (122 : Int32)) (fun r26 => (if r26 = true then gw_b1 (if c1 ≤ (11 : Int32) then gw_ck (σ.1 0 7) 900 (some ((((27 : Int64) * (σ.2 0 11)) + (Int32.toInt64 (σ.1 5 (Int32.toNatClampNeg (σ.1 0 7))))) - (96 : Int64))) else some (-1 : Int64)) (fun (y28 : Int64) => gw_let (gw_ul σ 0 11 y28) (fun σ29 => gw_b1 (if c1 ≤ (11 : Int32) then some σ29 else some (gw_ul σ29 0 11 (-1))) (fun (σ31 : gw_S) => fx_X3_next_L102  n (c1 + 1) (gw_u σ31 0 7 ((σ31.1 0 7) + (1 : Int32)))))) else some σ))
def fx_X3_next (σ : gw_S)  : Option (gw_S) := fx_X3_next_L0 (fun (σ5 : gw_S) => gw_let (gw_u σ5 0 9 (σ5.1 0 7)) (fun σ6 => gw_let (gw_u σ6 0 10 0) (fun σ8 => gw_let (gw_ul σ8 0 11 0) (fun σ10 => (if (σ10.1 0 7) = (σ10.1 0 6) then some (gw_u σ10 0 8 0) else gw_b1 (fx_X3_isByte σ10 (σ10.1 0 7) (97 : Int32) (122 : Int32)) (fun r12 => (if r12 = true then fx_X3_next_L102  1000 (0 : Int32) (gw_u σ10 0 8 1) else gw_b1 (fx_X3_isByte σ10 (σ10.1 0 7) (48 : Int32) (57 : Int32)) (fun r14 => (if r14 = true then fx_X3_next_L208  1000 (gw_u σ10 0 8 2) else gw_ck (σ10.1 0 7) 900 (gw_b1 (if (σ10.1 5 (Int32.toNatClampNeg (σ10.1 0 7))) = (59 : Int32) then some (3 : Int32) else some (4 : Int32)) (fun (y16 : Int32) => gw_let (gw_u σ10 0 8 y16) (fun σ17 => some (gw_u σ17 0 7 ((σ17.1 0 7) + (1 : Int32)))))))))))))))  1000 σ
set_option maxHeartbeats 4000000 in
theorem wk_X3_next_L0 {E : gw_E} {l : Launch} {D : gw_D} {a : Nat → Nat} {Wr : va_W → Prop} {τ : Type} {res : τ} {post : Option (Option Value → va_W → Prop)} (X : gw_X E cX3_next 2 RX3 none l D rm_X3_next post) {k : gw_S → Option (τ)}  : ∀ {n : Nat}  {σ : gw_S}, fx_X3_next_L0 k  n σ = some res → (∀  (σ : gw_S), k σ = some res → gw_W E 43 [(0, .ref (a 0))] [] (gw_st (wM D a σ) Wr) 0 0) → gw_W E 0 [(0, .ref (a 0))] [] (gw_st (wM D a σ) Wr) 0 0 := by
  intro n
  induction n with
  | zero =>
    intro σ hp hk
    cases (show none = some res from hp)
  | succ n ih =>
    intro σ hp hk
    rw [fx_X3_next_L0] at hp
    refine gw_aload_n X 1 0 dX3_next_0 rfl rfl rfl ?_
    refine gw_aload_n X 2 0 dX3_next_1 rfl rfl rfl ?_
    refine gM_g0_7 X 5 q1401 dX3_next_2 rfl ?_
    refine gw_bipush X 7 dX3_next_5 rfl gw_cb_32 ?_
    refine gw_bipush X 9 dX3_next_7 rfl gw_cb_32 ?_
    obtain ⟨r1, h2, hp⟩ := gw_b1_some hp
    refine gw_callVi X 12 [.int (σ.1 0 7), .int 32, .int 32] (mt_X3_isByte h2) lk_X3_86 ydv_X3_isByte gM_cl0 gM_at0 rfl rfl rfl dX3_next_9 rfl rfl rfl ?_
    refine gw_if_neB X 30 15 dX3_next_12 rfl rfl (fun z => ?_) (fun z => ?_)
    · replace hp := gw_t z hp
      refine gw_aload_n X 31 0 dX3_next_30 rfl rfl rfl ?_
      refine gw_dup X 32 dX3_next_31 rfl rfl ?_
      refine gM_g0_7 X 35 q1401 dX3_next_32 rfl ?_
      refine gw_iconst X 36 dX3_next_35 rfl gw_ci_1 ?_
      refine gw_iadd X 37 dX3_next_36 rfl ?_
      refine gM_p0_7 X 40 q1401 dX3_next_37 rfl ?_
      refine gw_goto X 0 dX3_next_40 rfl ?_
      refine gw_lv [0] rfl ?_
      exact ih hp hk
    · replace hp := gw_f z hp
      refine gw_aload_n X 16 0 dX3_next_15 rfl rfl rfl ?_
      refine gw_aload_n X 17 0 dX3_next_16 rfl rfl rfl ?_
      refine gM_g0_7 X 20 q1401 dX3_next_17 rfl ?_
      refine gw_bipush X 22 dX3_next_20 rfl gw_cb_10 ?_
      refine gw_bipush X 24 dX3_next_22 rfl gw_cb_10 ?_
      obtain ⟨r3, h4, hp⟩ := gw_b1_some hp
      refine gw_callVi X 27 [.int (σ.1 0 7), .int 10, .int 10] (mt_X3_isByte h4) lk_X3_86 ydv_X3_isByte gM_cl0 gM_at0 rfl rfl rfl dX3_next_24 rfl rfl rfl ?_
      refine gw_if_eqB X 43 30 dX3_next_27 rfl rfl (fun z => ?_) (fun z => ?_)
      · replace hp := gw_f z hp
        refine gw_lv [0] rfl ?_
        exact hk _ hp
      · replace hp := gw_t z hp
        refine gw_aload_n X 31 0 dX3_next_30 rfl rfl rfl ?_
        refine gw_dup X 32 dX3_next_31 rfl rfl ?_
        refine gM_g0_7 X 35 q1401 dX3_next_32 rfl ?_
        refine gw_iconst X 36 dX3_next_35 rfl gw_ci_1 ?_
        refine gw_iadd X 37 dX3_next_36 rfl ?_
        refine gM_p0_7 X 40 q1401 dX3_next_37 rfl ?_
        refine gw_goto X 0 dX3_next_40 rfl ?_
        refine gw_lv [0] rfl ?_
        exact ih hp hk
set_option maxHeartbeats 4000000 in
theorem wk_X3_next_L208 {E : gw_E} {l : Launch} {D : gw_D} {a : Nat → Nat} {Wr : va_W → Prop} {res : gw_S} (X : gw_X E cX3_next 2 RX3 none l D rm_X3_next (some (gw_pV (gw_st (wM D a res) Wr))))  : ∀ {n : Nat}  {σ : gw_S}, fx_X3_next_L208  n σ = some res → gw_W E 208 [(0, .ref (a 0))] [] (gw_st (wM D a σ) Wr) 0 0 := by
  intro n
  induction n with
  | zero =>
    intro σ hp
    cases (show none = some res from hp)
  | succ n ih =>
    intro σ hp
    rw [fx_X3_next_L208] at hp
    refine gw_aload_n X 209 0 dX3_next_208 rfl rfl rfl ?_
    refine gw_aload_n X 210 0 dX3_next_209 rfl rfl rfl ?_
    refine gM_g0_7 X 213 q1401 dX3_next_210 rfl ?_
    refine gw_bipush X 215 dX3_next_213 rfl gw_cb_48 ?_
    refine gw_bipush X 217 dX3_next_215 rfl gw_cb_57 ?_
    obtain ⟨r20, h21, hp⟩ := gw_b1_some hp
    refine gw_callVi X 220 [.int (σ.1 0 7), .int 48, .int 57] (mt_X3_isByte h21) lk_X3_86 ydv_X3_isByte gM_cl0 gM_at0 rfl rfl rfl dX3_next_217 rfl rfl rfl ?_
    refine gw_if_eqB X 307 223 dX3_next_220 rfl rfl (fun z => ?_) (fun z => ?_)
    · replace hp := gw_f z hp
      cases hp
      exact gw_vret X dX3_next_307 (fun _ h => ⟨rfl, h⟩) (Nat.le_of_ble_eq_true rfl) (Nat.le_of_ble_eq_true rfl)
    · replace hp := gw_t z hp
      refine gw_aload_n X 224 0 dX3_next_223 rfl rfl rfl ?_
      refine gw_aload_n X 225 0 dX3_next_224 rfl rfl rfl ?_
      refine gM_g0_10 X 228 q1404 dX3_next_225 rfl ?_
      refine gw_ldc X 230 dX3_next_228 rfl q1554 ?_
      obtain ⟨y22, h25, hp⟩ := gw_b1_some hp
      have kJ : gw_W E 258 [(0, .ref (a 0))] [.int y22, .ref (a 0)] (gw_st (wM D a σ) Wr) 0 0 := by
        refine gM_p0_10 X 261 q1404 dX3_next_258 rfl ?_
        refine gw_aload_n X 262 0 dX3_next_261 rfl rfl rfl ?_
        refine gw_dup X 263 dX3_next_262 rfl rfl ?_
        obtain ⟨σ23, h24, hp⟩ := gw_let_some hp
        rw [← h24]
        clear h24
        refine gM_g0_7 X 266 q1401 dX3_next_263 rfl ?_
        refine gw_iconst X 267 dX3_next_266 rfl gw_ci_1 ?_
        refine gw_iadd X 268 dX3_next_267 rfl ?_
        refine gM_p0_7 X 271 q1401 dX3_next_268 rfl ?_
        refine gw_goto X 208 dX3_next_271 rfl ?_
        refine gw_lv [0] rfl ?_
        exact ih hp
      clear hp
      have hp := h25
      clear h25
      refine gw_icmp_le X 238 233 dX3_next_230 rfl rfl (fun z => ?_) (fun z => ?_)
      · replace hp := gw_t z hp
        refine gw_bipush X 240 dX3_next_238 rfl gw_cb_10 ?_
        refine gw_aload_n X 241 0 dX3_next_240 rfl rfl rfl ?_
        refine gM_g0_10 X 244 q1404 dX3_next_241 rfl ?_
        refine gw_imul X 245 dX3_next_244 rfl ?_
        refine gw_aload_n X 246 0 dX3_next_245 rfl rfl rfl ?_
        refine gM_g0_5 X 249 q1399 dX3_next_246 rfl ?_
        refine gw_aload_n X 250 0 dX3_next_249 rfl rfl rfl ?_
        refine gM_g0_7 X 253 q1401 dX3_next_250 rfl ?_
        obtain ⟨hc, hp⟩ := gw_ck_some hp
        refine gM_l5 X 254 (Int32.toNatClampNeg (σ.1 0 7)) hc rfl dX3_next_253 rfl ?_
        refine gw_iadd X 255 dX3_next_254 rfl ?_
        refine gw_bipush X 257 dX3_next_255 rfl gw_cb_48 ?_
        refine gw_isub X 258 dX3_next_257 rfl ?_
        cases hp
        exact gw_lv [0] rfl kJ
      · replace hp := gw_f z hp
        refine gw_ldc X 235 dX3_next_233 rfl q1555 ?_
        refine gw_goto X 258 dX3_next_235 rfl ?_
        cases hp
        exact gw_lv [0] rfl kJ
set_option maxHeartbeats 4000000 in
theorem wk_X3_next_L102 {E : gw_E} {l : Launch} {D : gw_D} {a : Nat → Nat} {Wr : va_W → Prop} {res : gw_S} (X : gw_X E cX3_next 2 RX3 none l D rm_X3_next (some (gw_pV (gw_st (wM D a res) Wr))))  : ∀ {n : Nat} {c1 : Int32} {σ : gw_S}, fx_X3_next_L102  n c1 σ = some res → gw_W E 102 [(0, .ref (a 0)), (1, .int c1)] [] (gw_st (wM D a σ) Wr) 0 0 := by
  intro n
  induction n with
  | zero =>
    intro c1 σ hp
    cases (show none = some res from hp)
  | succ n ih =>
    intro c1 σ hp
    rw [fx_X3_next_L102] at hp
    refine gw_aload_n X 103 0 dX3_next_102 rfl rfl rfl ?_
    refine gw_aload_n X 104 0 dX3_next_103 rfl rfl rfl ?_
    refine gM_g0_7 X 107 q1401 dX3_next_104 rfl ?_
    refine gw_bipush X 109 dX3_next_107 rfl gw_cb_97 ?_
    refine gw_bipush X 111 dX3_next_109 rfl gw_cb_122 ?_
    obtain ⟨r26, h27, hp⟩ := gw_b1_some hp
    refine gw_callVi X 114 [.int (σ.1 0 7), .int 97, .int 122] (mt_X3_isByte h27) lk_X3_86 ydv_X3_isByte gM_cl0 gM_at0 rfl rfl rfl dX3_next_111 rfl rfl rfl ?_
    refine gw_if_eqB X 185 117 dX3_next_114 rfl rfl (fun z => ?_) (fun z => ?_)
    · replace hp := gw_f z hp
      refine gw_goto X 307 dX3_next_185 rfl ?_
      cases hp
      exact gw_vret X dX3_next_307 (fun _ h => ⟨rfl, h⟩) (Nat.le_of_ble_eq_true rfl) (Nat.le_of_ble_eq_true rfl)
    · replace hp := gw_t z hp
      refine gw_aload_n X 118 0 dX3_next_117 rfl rfl rfl ?_
      refine gw_iload_n X 119 1 dX3_next_118 rfl rfl rfl ?_
      refine gw_bipush X 121 dX3_next_119 rfl gw_cb_11 ?_
      obtain ⟨y28, h33, hp⟩ := gw_b1_some hp
      have kJ : gw_W E 153 [(0, .ref (a 0)), (1, .int c1)] [.long y28, .ref (a 0)] (gw_st (wM D a σ) Wr) 0 0 := by
        refine gM_p0_11 X 156 q1405 dX3_next_153 rfl ?_
        refine gw_iload_n X 157 1 dX3_next_156 rfl rfl rfl ?_
        refine gw_bipush X 159 dX3_next_157 rfl gw_cb_11 ?_
        obtain ⟨σ29, h30, hp⟩ := gw_let_some hp
        rw [← h30]
        clear h30
        obtain ⟨σ31, h32, hp⟩ := gw_b1_some hp
        have kJ : gw_W E 169 [(0, .ref (a 0)), (1, .int c1)] [] (gw_st (wM D a σ31) Wr) 0 0 := by
          refine gw_aload_n X 170 0 dX3_next_169 rfl rfl rfl ?_
          refine gw_dup X 171 dX3_next_170 rfl rfl ?_
          refine gM_g0_7 X 174 q1401 dX3_next_171 rfl ?_
          refine gw_iconst X 175 dX3_next_174 rfl gw_ci_1 ?_
          refine gw_iadd X 176 dX3_next_175 rfl ?_
          refine gM_p0_7 X 179 q1401 dX3_next_176 rfl ?_
          refine gw_iinc X 182 1 [(1, .int (c1 + 1)), (0, .ref (a 0))] dX3_next_179 rfl rfl gw_ci_1 (by decide) rfl ?_
          refine gw_goto X 102 dX3_next_182 rfl ?_
          refine gw_lv [1, 0] rfl ?_
          exact ih hp
        clear hp
        have hp := h32
        clear h32
        refine gw_icmp_le X 169 162 dX3_next_159 rfl rfl (fun z => ?_) (fun z => ?_)
        · replace hp := gw_t z hp
          cases hp
          exact gw_lv [0, 1] rfl kJ
        · replace hp := gw_f z hp
          refine gw_aload_n X 163 0 dX3_next_162 rfl rfl rfl ?_
          refine gw_ldc2 X 166 dX3_next_163 rfl q1551 ?_
          refine gM_p0_11 X 169 q1405 dX3_next_166 rfl ?_
          cases hp
          exact gw_lv [0, 1] rfl kJ
      clear hp
      have hp := h33
      clear h33
      refine gw_icmp_le X 130 124 dX3_next_121 rfl rfl (fun z => ?_) (fun z => ?_)
      · replace hp := gw_t z hp
        refine gw_ldc2 X 133 dX3_next_130 rfl q1552 ?_
        refine gw_aload_n X 134 0 dX3_next_133 rfl rfl rfl ?_
        refine gM_g0_11 X 137 q1405 dX3_next_134 rfl ?_
        refine gw_lmul X 138 dX3_next_137 rfl ?_
        refine gw_aload_n X 139 0 dX3_next_138 rfl rfl rfl ?_
        refine gM_g0_5 X 142 q1399 dX3_next_139 rfl ?_
        refine gw_aload_n X 143 0 dX3_next_142 rfl rfl rfl ?_
        refine gM_g0_7 X 146 q1401 dX3_next_143 rfl ?_
        obtain ⟨hc, hp⟩ := gw_ck_some hp
        refine gM_l5 X 147 (Int32.toNatClampNeg (σ.1 0 7)) hc rfl dX3_next_146 rfl ?_
        refine gw_i2l X 148 dX3_next_147 rfl ?_
        refine gw_ladd X 149 dX3_next_148 rfl ?_
        refine gw_ldc2 X 152 dX3_next_149 rfl q1553 ?_
        refine gw_lsub X 153 dX3_next_152 rfl ?_
        cases hp
        exact gw_lv [0, 1] rfl kJ
      · replace hp := gw_f z hp
        refine gw_ldc2 X 127 dX3_next_124 rfl q1551 ?_
        refine gw_goto X 153 dX3_next_127 rfl ?_
        cases hp
        exact gw_lv [0, 1] rfl kJ
set_option maxHeartbeats 4000000 in
theorem mt_X3_next {l : Launch} {D : gw_D} {a : Nat → Nat} {Wr : va_W → Prop} {σ : gw_S}  {res : gw_S} (hp : fx_X3_next σ  = some res) : gw_Ct D l yX3_next cX3_next 2 none rm_X3_next [.ref (a 0)] (gw_st (wM D a σ) Wr) (gw_pV (gw_st (wM D a res) Wr)) := by
  refine gw_ct (own := RX3) [(0, .ref (a 0))] (by decide) rfl (Nat.le_of_ble_eq_true rfl) rfl ?_
  intro E X
  unfold fx_X3_next at hp
  refine gw_lv [0] rfl ?_
  refine wk_X3_next_L0 X hp ?_
  clear hp
  intro σ5 hp
  refine gw_aload_n X 44 0 dX3_next_43 rfl rfl rfl ?_
  refine gw_aload_n X 45 0 dX3_next_44 rfl rfl rfl ?_
  refine gM_g0_7 X 48 q1401 dX3_next_45 rfl ?_
  refine gM_p0_9 X 51 q1403 dX3_next_48 rfl ?_
  refine gw_aload_n X 52 0 dX3_next_51 rfl rfl rfl ?_
  refine gw_iconst X 53 dX3_next_52 rfl gw_ci_0 ?_
  obtain ⟨σ6, h7, hp⟩ := gw_let_some hp
  rw [← h7]
  clear h7
  refine gM_p0_10 X 56 q1404 dX3_next_53 rfl ?_
  refine gw_aload_n X 57 0 dX3_next_56 rfl rfl rfl ?_
  refine gw_lconst X 58 dX3_next_57 rfl gw_cl_0 ?_
  obtain ⟨σ8, h9, hp⟩ := gw_let_some hp
  rw [← h9]
  clear h9
  refine gM_p0_11 X 61 q1405 dX3_next_58 rfl ?_
  refine gw_aload_n X 62 0 dX3_next_61 rfl rfl rfl ?_
  obtain ⟨σ10, h11, hp⟩ := gw_let_some hp
  rw [← h11]
  clear h11
  refine gM_g0_7 X 65 q1401 dX3_next_62 rfl ?_
  refine gw_aload_n X 66 0 dX3_next_65 rfl rfl rfl ?_
  refine gM_g0_6 X 69 q1400 dX3_next_66 rfl ?_
  refine gw_icmp_ne X 80 72 dX3_next_69 rfl rfl (fun z => ?_) (fun z => ?_)
  · replace hp := gw_f z hp
    refine gw_aload_n X 81 0 dX3_next_80 rfl rfl rfl ?_
    refine gw_aload_n X 82 0 dX3_next_81 rfl rfl rfl ?_
    refine gM_g0_7 X 85 q1401 dX3_next_82 rfl ?_
    refine gw_bipush X 87 dX3_next_85 rfl gw_cb_97 ?_
    refine gw_bipush X 89 dX3_next_87 rfl gw_cb_122 ?_
    obtain ⟨r12, h13, hp⟩ := gw_b1_some hp
    refine gw_callVi X 92 [.int (σ10.1 0 7), .int 97, .int 122] (mt_X3_isByte h13) lk_X3_86 ydv_X3_isByte gM_cl0 gM_at0 rfl rfl rfl dX3_next_89 rfl rfl rfl ?_
    refine gw_if_eqB X 188 95 dX3_next_92 rfl rfl (fun z => ?_) (fun z => ?_)
    · replace hp := gw_f z hp
      refine gw_aload_n X 189 0 dX3_next_188 rfl rfl rfl ?_
      refine gw_aload_n X 190 0 dX3_next_189 rfl rfl rfl ?_
      refine gM_g0_7 X 193 q1401 dX3_next_190 rfl ?_
      refine gw_bipush X 195 dX3_next_193 rfl gw_cb_48 ?_
      refine gw_bipush X 197 dX3_next_195 rfl gw_cb_57 ?_
      obtain ⟨r14, h15, hp⟩ := gw_b1_some hp
      refine gw_callVi X 200 [.int (σ10.1 0 7), .int 48, .int 57] (mt_X3_isByte h15) lk_X3_86 ydv_X3_isByte gM_cl0 gM_at0 rfl rfl rfl dX3_next_197 rfl rfl rfl ?_
      refine gw_if_eqB X 274 203 dX3_next_200 rfl rfl (fun z => ?_) (fun z => ?_)
      · replace hp := gw_f z hp
        refine gw_aload_n X 275 0 dX3_next_274 rfl rfl rfl ?_
        refine gw_aload_n X 276 0 dX3_next_275 rfl rfl rfl ?_
        refine gM_g0_5 X 279 q1399 dX3_next_276 rfl ?_
        refine gw_aload_n X 280 0 dX3_next_279 rfl rfl rfl ?_
        refine gM_g0_7 X 283 q1401 dX3_next_280 rfl ?_
        obtain ⟨hc, hp⟩ := gw_ck_some hp
        refine gM_l5 X 284 (Int32.toNatClampNeg (σ10.1 0 7)) hc rfl dX3_next_283 rfl ?_
        refine gw_bipush X 286 dX3_next_284 rfl gw_cb_59 ?_
        obtain ⟨y16, h19, hp⟩ := gw_b1_some hp
        have kJ : gw_W E 294 [(0, .ref (a 0))] [.int y16, .ref (a 0)] (gw_st (wM D a σ10) Wr) 0 0 := by
          refine gM_p0_8 X 297 q1402 dX3_next_294 rfl ?_
          refine gw_aload_n X 298 0 dX3_next_297 rfl rfl rfl ?_
          refine gw_dup X 299 dX3_next_298 rfl rfl ?_
          obtain ⟨σ17, h18, hp⟩ := gw_let_some hp
          rw [← h18]
          clear h18
          refine gM_g0_7 X 302 q1401 dX3_next_299 rfl ?_
          refine gw_iconst X 303 dX3_next_302 rfl gw_ci_1 ?_
          refine gw_iadd X 304 dX3_next_303 rfl ?_
          refine gM_p0_7 X 307 q1401 dX3_next_304 rfl ?_
          cases hp
          exact gw_vret X dX3_next_307 (fun _ h => ⟨rfl, h⟩) (Nat.le_of_ble_eq_true rfl) (Nat.le_of_ble_eq_true rfl)
        clear hp
        have hp := h19
        clear h19
        refine gw_icmp_ne X 293 289 dX3_next_286 rfl rfl (fun z => ?_) (fun z => ?_)
        · replace hp := gw_f z hp
          refine gw_iconst X 294 dX3_next_293 rfl gw_ci_4 ?_
          cases hp
          exact gw_lv [0] rfl kJ
        · replace hp := gw_t z hp
          refine gw_iconst X 290 dX3_next_289 rfl gw_ci_3 ?_
          refine gw_goto X 294 dX3_next_290 rfl ?_
          cases hp
          exact gw_lv [0] rfl kJ
      · replace hp := gw_t z hp
        refine gw_aload_n X 204 0 dX3_next_203 rfl rfl rfl ?_
        refine gw_iconst X 205 dX3_next_204 rfl gw_ci_2 ?_
        refine gM_p0_8 X 208 q1402 dX3_next_205 rfl ?_
        refine gw_lv [0] rfl ?_
        exact wk_X3_next_L208 X hp
    · replace hp := gw_t z hp
      refine gw_aload_n X 96 0 dX3_next_95 rfl rfl rfl ?_
      refine gw_iconst X 97 dX3_next_96 rfl gw_ci_1 ?_
      refine gM_p0_8 X 100 q1402 dX3_next_97 rfl ?_
      refine gw_iconst X 101 dX3_next_100 rfl gw_ci_0 ?_
      refine gw_istore_n X 102 [(1, .int 0), (0, .ref (a 0))] dX3_next_101 rfl rfl (by decide) rfl ?_
      refine gw_lv [1, 0] rfl ?_
      exact wk_X3_next_L102 X hp
  · replace hp := gw_t z hp
    refine gw_aload_n X 73 0 dX3_next_72 rfl rfl rfl ?_
    refine gw_iconst X 74 dX3_next_73 rfl gw_ci_0 ?_
    refine gM_p0_8 X 77 q1402 dX3_next_74 rfl ?_
    refine gw_goto X 307 dX3_next_77 rfl ?_
    cases hp
    exact gw_vret X dX3_next_307 (fun _ h => ⟨rfl, h⟩) (Nat.le_of_ble_eq_true rfl) (Nat.le_of_ble_eq_true rfl)
abbrev rm_X3_begins : Room := { frames := 2, cells := 0, slots := 0, locals := 44 }
def fx_X3_begins (σ : gw_S)  : Option (gw_S) := gw_let (gw_u σ 0 12 0) (fun σ1 => gw_let (gw_u σ1 0 13 (-1)) (fun σ3 => gw_let (gw_u σ3 0 7 0) (fun σ5 => gw_b1 (fx_X3_next σ5) (fun σ7 => some σ7))))
set_option maxHeartbeats 4000000 in
theorem mt_X3_begins {l : Launch} {D : gw_D} {a : Nat → Nat} {Wr : va_W → Prop} {σ : gw_S}  {res : gw_S} (hp : fx_X3_begins σ  = some res) : gw_Ct D l yX3_begins cX3_begins 1 none rm_X3_begins [.ref (a 0)] (gw_st (wM D a σ) Wr) (gw_pV (gw_st (wM D a res) Wr)) := by
  refine gw_ct (own := RX3) [(0, .ref (a 0))] (by decide) rfl (Nat.le_of_ble_eq_true rfl) rfl ?_
  intro E X
  unfold fx_X3_begins at hp
  refine gw_aload_n X 1 0 dX3_begins_0 rfl rfl rfl ?_
  refine gw_iconst X 2 dX3_begins_1 rfl gw_ci_0 ?_
  refine gM_p0_12 X 5 q1406 dX3_begins_2 rfl ?_
  refine gw_aload_n X 6 0 dX3_begins_5 rfl rfl rfl ?_
  refine gw_iconst X 7 dX3_begins_6 rfl gw_ci_m1 ?_
  obtain ⟨σ1, h2, hp⟩ := gw_let_some hp
  rw [← h2]
  clear h2
  refine gM_p0_13 X 10 q1407 dX3_begins_7 rfl ?_
  refine gw_aload_n X 11 0 dX3_begins_10 rfl rfl rfl ?_
  refine gw_iconst X 12 dX3_begins_11 rfl gw_ci_0 ?_
  obtain ⟨σ3, h4, hp⟩ := gw_let_some hp
  rw [← h4]
  clear h4
  refine gM_p0_7 X 15 q1401 dX3_begins_12 rfl ?_
  refine gw_aload_n X 16 0 dX3_begins_15 rfl rfl rfl ?_
  obtain ⟨σ5, h6, hp⟩ := gw_let_some hp
  rw [← h6]
  clear h6
  obtain ⟨σ7, h8, hp⟩ := gw_b1_some hp
  refine gw_callVv X 19 [] (mt_X3_next h8) lk_X3_121 ydv_X3_next gM_cl0 gM_at0 rfl rfl rfl dX3_begins_16 rfl rfl rfl ?_
  cases hp
  exact gw_vret X dX3_begins_19 (fun _ h => ⟨rfl, h⟩) (Nat.le_of_ble_eq_true rfl) (Nat.le_of_ble_eq_true rfl)
abbrev rm_X3_isGood : Room := { frames := 0, cells := 0, slots := 0, locals := 0 }
def fx_X3_isGood (σ : gw_S)  : Bool := (if (σ.1 0 12) = 0 then true else false)
set_option maxHeartbeats 4000000 in
theorem mt_X3_isGood {l : Launch} {D : gw_D} {a : Nat → Nat} {Wr : va_W → Prop} {σ : gw_S}  {res : Bool} (hp : fx_X3_isGood σ  = res) : gw_Ct D l yX3_isGood cX3_isGood 1 (some .boolean) rm_X3_isGood [.ref (a 0)] (gw_st (wM D a σ) Wr) (gw_pI (gw_b res) (gw_st (wM D a σ) Wr)) := by
  refine gw_ct (own := RX3) [(0, .ref (a 0))] (by decide) rfl (Nat.le_of_ble_eq_true rfl) rfl ?_
  intro E X
  unfold fx_X3_isGood at hp
  refine gw_aload_n X 1 0 dX3_isGood_0 rfl rfl rfl ?_
  refine gM_g0_12 X 4 q1406 dX3_isGood_1 rfl ?_
  refine gw_if_ne X 11 7 dX3_isGood_4 rfl rfl (fun z => ?_) (fun z => ?_)
  · replace hp := gw_f z hp
    refine gw_iconst X 12 dX3_isGood_11 rfl gw_ci_0 ?_
    cases hp
    exact gw_zret0 X dX3_isGood_12 (fun _ h => ⟨rfl, h⟩) (Nat.le_of_ble_eq_true rfl) (Nat.le_of_ble_eq_true rfl)
  · replace hp := gw_t z hp
    refine gw_iconst X 8 dX3_isGood_7 rfl gw_ci_1 ?_
    refine gw_goto X 12 dX3_isGood_8 rfl ?_
    cases hp
    exact gw_zret1 X dX3_isGood_12 (fun _ h => ⟨rfl, h⟩) (Nat.le_of_ble_eq_true rfl) (Nat.le_of_ble_eq_true rfl)
abbrev rm_X3_is : Room := { frames := 0, cells := 0, slots := 0, locals := 0 }
def fx_X3_is (σ : gw_S) (x1 : Int64) : Bool := (if (σ.1 0 12) = 0 then (if (σ.1 0 8) = (1 : Int32) then (if (lg_cmp (σ.2 0 11) x1) = 0 then true else false) else false) else false)
set_option maxHeartbeats 4000000 in
theorem mt_X3_is {l : Launch} {D : gw_D} {a : Nat → Nat} {Wr : va_W → Prop} {σ : gw_S} {x1 : Int64} {res : Bool} (hp : fx_X3_is σ x1 = res) : gw_Ct D l yX3_is cX3_is 3 (some .boolean) rm_X3_is [.ref (a 0), .long x1] (gw_st (wM D a σ) Wr) (gw_pI (gw_b res) (gw_st (wM D a σ) Wr)) := by
  refine gw_ct (own := RX3) [(0, .ref (a 0)), (1, .long x1)] (by decide) rfl (Nat.le_of_ble_eq_true rfl) rfl ?_
  intro E X
  unfold fx_X3_is at hp
  refine gw_aload_n X 1 0 dX3_is_0 rfl rfl rfl ?_
  refine gM_g0_12 X 4 q1406 dX3_is_1 rfl ?_
  refine gw_if_ne X 28 7 dX3_is_4 rfl rfl (fun z => ?_) (fun z => ?_)
  · replace hp := gw_f z hp
    refine gw_iconst X 29 dX3_is_28 rfl gw_ci_0 ?_
    cases hp
    exact gw_zret0 X dX3_is_29 (fun _ h => ⟨rfl, h⟩) (Nat.le_of_ble_eq_true rfl) (Nat.le_of_ble_eq_true rfl)
  · replace hp := gw_t z hp
    refine gw_aload_n X 8 0 dX3_is_7 rfl rfl rfl ?_
    refine gM_g0_8 X 11 q1402 dX3_is_8 rfl ?_
    refine gw_iconst X 12 dX3_is_11 rfl gw_ci_1 ?_
    refine gw_icmp_ne X 28 15 dX3_is_12 rfl rfl (fun z => ?_) (fun z => ?_)
    · replace hp := gw_f z hp
      refine gw_iconst X 29 dX3_is_28 rfl gw_ci_0 ?_
      cases hp
      exact gw_zret0 X dX3_is_29 (fun _ h => ⟨rfl, h⟩) (Nat.le_of_ble_eq_true rfl) (Nat.le_of_ble_eq_true rfl)
    · replace hp := gw_t z hp
      refine gw_aload_n X 16 0 dX3_is_15 rfl rfl rfl ?_
      refine gM_g0_11 X 19 q1405 dX3_is_16 rfl ?_
      refine gw_lload_n X 20 1 dX3_is_19 rfl rfl rfl ?_
      refine gw_lcmp X 21 dX3_is_20 rfl ?_
      refine gw_if_ne X 28 24 dX3_is_21 rfl rfl (fun z => ?_) (fun z => ?_)
      · replace hp := gw_f z hp
        refine gw_iconst X 29 dX3_is_28 rfl gw_ci_0 ?_
        cases hp
        exact gw_zret0 X dX3_is_29 (fun _ h => ⟨rfl, h⟩) (Nat.le_of_ble_eq_true rfl) (Nat.le_of_ble_eq_true rfl)
      · replace hp := gw_t z hp
        refine gw_iconst X 25 dX3_is_24 rfl gw_ci_1 ?_
        refine gw_goto X 29 dX3_is_25 rfl ?_
        cases hp
        exact gw_zret1 X dX3_is_29 (fun _ h => ⟨rfl, h⟩) (Nat.le_of_ble_eq_true rfl) (Nat.le_of_ble_eq_true rfl)
abbrev rm_X3_takes : Room := { frames := 2, cells := 0, slots := 0, locals := 44 }
def fx_X3_takes (σ : gw_S) (x1 : Int64) : Option (Bool × gw_S) := (if fx_X3_is σ x1 = true then gw_b1 (fx_X3_next σ) (fun σ1 => some (true, σ1)) else some (false, σ))
set_option maxHeartbeats 4000000 in
theorem mt_X3_takes {l : Launch} {D : gw_D} {a : Nat → Nat} {Wr : va_W → Prop} {σ : gw_S} {x1 : Int64} {res : Bool × gw_S} (hp : fx_X3_takes σ x1 = some res) : gw_Ct D l yX3_takes cX3_takes 3 (some .boolean) rm_X3_takes [.ref (a 0), .long x1] (gw_st (wM D a σ) Wr) (gw_pI (gw_b res.1) (gw_st (wM D a res.2) Wr)) := by
  refine gw_ct (own := RX3) [(0, .ref (a 0)), (1, .long x1)] (by decide) rfl (Nat.le_of_ble_eq_true rfl) rfl ?_
  intro E X
  unfold fx_X3_takes at hp
  refine gw_aload_n X 1 0 dX3_takes_0 rfl rfl rfl ?_
  refine gw_lload_n X 2 1 dX3_takes_1 rfl rfl rfl ?_
  refine gw_callVi X 5 [.long x1] (mt_X3_is rfl) lk_X3_117 ydv_X3_is gM_cl0 gM_at0 rfl rfl rfl dX3_takes_2 rfl rfl rfl ?_
  refine gw_if_neB X 10 8 dX3_takes_5 rfl rfl (fun z => ?_) (fun z => ?_)
  · replace hp := gw_t z hp
    refine gw_aload_n X 11 0 dX3_takes_10 rfl rfl rfl ?_
    obtain ⟨σ1, h2, hp⟩ := gw_b1_some hp
    refine gw_callVv X 14 [] (mt_X3_next h2) lk_X3_121 ydv_X3_next gM_cl0 gM_at0 rfl rfl rfl dX3_takes_11 rfl rfl rfl ?_
    refine gw_iconst X 15 dX3_takes_14 rfl gw_ci_1 ?_
    cases hp
    exact gw_zret1 X dX3_takes_15 (fun _ h => ⟨rfl, h⟩) (Nat.le_of_ble_eq_true rfl) (Nat.le_of_ble_eq_true rfl)
  · replace hp := gw_f z hp
    refine gw_iconst X 9 dX3_takes_8 rfl gw_ci_0 ?_
    cases hp
    exact gw_zret0 X dX3_takes_9 (fun _ h => ⟨rfl, h⟩) (Nat.le_of_ble_eq_true rfl) (Nat.le_of_ble_eq_true rfl)
abbrev rm_X3_fails : Room := { frames := 0, cells := 0, slots := 0, locals := 0 }
def fx_X3_fails (σ : gw_S) (x1 : Int32) : gw_S := (if (σ.1 0 12) = 0 then gw_u (gw_u σ 0 12 x1) 0 13 ((gw_u σ 0 12 x1).1 0 9) else σ)
set_option maxHeartbeats 4000000 in
theorem mt_X3_fails {l : Launch} {D : gw_D} {a : Nat → Nat} {Wr : va_W → Prop} {σ : gw_S} {x1 : Int32} {res : gw_S} (hp : fx_X3_fails σ x1 = res) : gw_Ct D l yX3_fails cX3_fails 2 none rm_X3_fails [.ref (a 0), .int x1] (gw_st (wM D a σ) Wr) (gw_pV (gw_st (wM D a res) Wr)) := by
  refine gw_ct (own := RX3) [(0, .ref (a 0)), (1, .int x1)] (by decide) rfl (Nat.le_of_ble_eq_true rfl) rfl ?_
  intro E X
  unfold fx_X3_fails at hp
  refine gw_aload_n X 1 0 dX3_fails_0 rfl rfl rfl ?_
  refine gM_g0_12 X 4 q1406 dX3_fails_1 rfl ?_
  refine gw_if_eq X 8 7 dX3_fails_4 rfl rfl (fun z => ?_) (fun z => ?_)
  · replace hp := gw_t z hp
    refine gw_aload_n X 9 0 dX3_fails_8 rfl rfl rfl ?_
    refine gw_iload_n X 10 1 dX3_fails_9 rfl rfl rfl ?_
    refine gM_p0_12 X 13 q1406 dX3_fails_10 rfl ?_
    refine gw_aload_n X 14 0 dX3_fails_13 rfl rfl rfl ?_
    refine gw_aload_n X 15 0 dX3_fails_14 rfl rfl rfl ?_
    refine gM_g0_9 X 18 q1403 dX3_fails_15 rfl ?_
    refine gM_p0_13 X 21 q1407 dX3_fails_18 rfl ?_
    cases hp
    exact gw_vret X dX3_fails_21 (fun _ h => ⟨rfl, h⟩) (Nat.le_of_ble_eq_true rfl) (Nat.le_of_ble_eq_true rfl)
  · replace hp := gw_f z hp
    cases hp
    exact gw_vret X dX3_fails_7 (fun _ h => ⟨rfl, h⟩) (Nat.le_of_ble_eq_true rfl) (Nat.le_of_ble_eq_true rfl)
abbrev rm_X3_asks : Room := { frames := 3, cells := 0, slots := 0, locals := 66 }
def fx_X3_asks (σ : gw_S) (x1 : Int64) : Option (gw_S) := gw_b2 (fx_X3_takes σ x1) (fun r1 σ2 => (if r1 = true then some σ2 else some (fx_X3_fails σ2 (1 : Int32))))
set_option maxHeartbeats 4000000 in
theorem mt_X3_asks {l : Launch} {D : gw_D} {a : Nat → Nat} {Wr : va_W → Prop} {σ : gw_S} {x1 : Int64} {res : gw_S} (hp : fx_X3_asks σ x1 = some res) : gw_Ct D l yX3_asks cX3_asks 3 none rm_X3_asks [.ref (a 0), .long x1] (gw_st (wM D a σ) Wr) (gw_pV (gw_st (wM D a res) Wr)) := by
  refine gw_ct (own := RX3) [(0, .ref (a 0)), (1, .long x1)] (by decide) rfl (Nat.le_of_ble_eq_true rfl) rfl ?_
  intro E X
  unfold fx_X3_asks at hp
  refine gw_aload_n X 1 0 dX3_asks_0 rfl rfl rfl ?_
  refine gw_lload_n X 2 1 dX3_asks_1 rfl rfl rfl ?_
  obtain ⟨r1, σ2, h3, hp⟩ := gw_b2_some hp
  refine gw_callVi X 5 [.long x1] (mt_X3_takes h3) lk_X3_124 ydv_X3_takes gM_cl0 gM_at0 rfl rfl rfl dX3_asks_2 rfl rfl rfl ?_
  refine gw_if_neB X 13 8 dX3_asks_5 rfl rfl (fun z => ?_) (fun z => ?_)
  · replace hp := gw_t z hp
    cases hp
    exact gw_vret X dX3_asks_13 (fun _ h => ⟨rfl, h⟩) (Nat.le_of_ble_eq_true rfl) (Nat.le_of_ble_eq_true rfl)
  · replace hp := gw_f z hp
    refine gw_aload_n X 9 0 dX3_asks_8 rfl rfl rfl ?_
    refine gw_iconst X 10 dX3_asks_9 rfl gw_ci_1 ?_
    refine gw_callVv X 13 [.int 1] (mt_X3_fails rfl) lk_X3_127 ydv_X3_fails gM_cl0 gM_at0 rfl rfl rfl dX3_asks_10 rfl rfl rfl ?_
    cases hp
    exact gw_vret X dX3_asks_13 (fun _ h => ⟨rfl, h⟩) (Nat.le_of_ble_eq_true rfl) (Nat.le_of_ble_eq_true rfl)
abbrev rm_X3_hasRead : Room := { frames := 0, cells := 0, slots := 0, locals := 0 }
def fx_X3_hasRead (σ : gw_S) (x1 : Int32) : Option (Int32) := gw_ck ((12 : Int32) + x1) 15 (some (σ.1 7 (Int32.toNatClampNeg ((12 : Int32) + x1))))
set_option maxHeartbeats 4000000 in
theorem mt_X3_hasRead {l : Launch} {D : gw_D} {a : Nat → Nat} {Wr : va_W → Prop} {σ : gw_S} {x1 : Int32} {res : Int32} (hp : fx_X3_hasRead σ x1 = some res) : gw_Ct D l yX3_hasRead cX3_hasRead 2 (some .int) rm_X3_hasRead [.ref (a 0), .int x1] (gw_st (wM D a σ) Wr) (gw_pI res (gw_st (wM D a σ) Wr)) := by
  refine gw_ct (own := RX3) [(0, .ref (a 0)), (1, .int x1)] (by decide) rfl (Nat.le_of_ble_eq_true rfl) rfl ?_
  intro E X
  unfold fx_X3_hasRead at hp
  refine gw_aload_n X 1 0 dX3_hasRead_0 rfl rfl rfl ?_
  refine gM_g0_17 X 4 q1411 dX3_hasRead_1 rfl ?_
  refine gw_bipush X 6 dX3_hasRead_4 rfl gw_cb_12 ?_
  refine gw_iload_n X 7 1 dX3_hasRead_6 rfl rfl rfl ?_
  refine gw_iadd X 8 dX3_hasRead_7 rfl ?_
  obtain ⟨hc, hp⟩ := gw_ck_some hp
  refine gM_l7 X 9 (Int32.toNatClampNeg ((12 : Int32) + x1)) hc rfl dX3_hasRead_8 rfl ?_
  cases hp
  exact gw_iret X dX3_hasRead_9 (fun _ h => ⟨rfl, h⟩) (Nat.le_of_ble_eq_true rfl) (Nat.le_of_ble_eq_true rfl)
abbrev rm_X3_number_2 : Room := { frames := 2, cells := 0, slots := 0, locals := 44 }
def fx_X3_number_2 (σ : gw_S) (x1 : Int32) (x2 : Int32) : Option (Int32 × gw_S) := (if (σ.1 0 12) = 0 then (if (σ.1 0 8) = (2 : Int32) then (if fx_X3_in (Int32.toInt64 (σ.1 0 10)) (Int32.toInt64 x1) (Int32.toInt64 x2) = true then gw_b1 (fx_X3_next σ) (fun σ1 => some (σ.1 0 10, σ1)) else some (x1, (fx_X3_fails σ (2 : Int32)))) else some (x1, (fx_X3_fails σ (1 : Int32)))) else some (x1, σ))
set_option maxHeartbeats 4000000 in
theorem mt_X3_number_2 {l : Launch} {D : gw_D} {a : Nat → Nat} {Wr : va_W → Prop} {σ : gw_S} {x1 : Int32} {x2 : Int32} {res : Int32 × gw_S} (hp : fx_X3_number_2 σ x1 x2 = some res) : gw_Ct D l yX3_number_2 cX3_number_2 4 (some .int) rm_X3_number_2 [.ref (a 0), .int x1, .int x2] (gw_st (wM D a σ) Wr) (gw_pI res.1 (gw_st (wM D a res.2) Wr)) := by
  refine gw_ct (own := RX3) [(0, .ref (a 0)), (1, .int x1), (2, .int x2)] (by decide) rfl (Nat.le_of_ble_eq_true rfl) rfl ?_
  intro E X
  unfold fx_X3_number_2 at hp
  refine gw_aload_n X 1 0 dX3_number_2_0 rfl rfl rfl ?_
  refine gM_g0_12 X 4 q1406 dX3_number_2_1 rfl ?_
  refine gw_if_eq X 9 7 dX3_number_2_4 rfl rfl (fun z => ?_) (fun z => ?_)
  · replace hp := gw_t z hp
    refine gw_aload_n X 10 0 dX3_number_2_9 rfl rfl rfl ?_
    refine gM_g0_8 X 13 q1402 dX3_number_2_10 rfl ?_
    refine gw_iconst X 14 dX3_number_2_13 rfl gw_ci_2 ?_
    refine gw_icmp_eq X 24 17 dX3_number_2_14 rfl rfl (fun z => ?_) (fun z => ?_)
    · replace hp := gw_t z hp
      refine gw_aload_n X 25 0 dX3_number_2_24 rfl rfl rfl ?_
      refine gM_g0_10 X 28 q1404 dX3_number_2_25 rfl ?_
      refine gw_i2l X 29 dX3_number_2_28 rfl ?_
      refine gw_iload_n X 30 1 dX3_number_2_29 rfl rfl rfl ?_
      refine gw_i2l X 31 dX3_number_2_30 rfl ?_
      refine gw_iload_n X 32 2 dX3_number_2_31 rfl rfl rfl ?_
      refine gw_i2l X 33 dX3_number_2_32 rfl ?_
      refine gw_callSi X 36 [.long (Int32.toInt64 (σ.1 0 10)), .long (Int32.toInt64 x1), .long (Int32.toInt64 x2)] (mt_X3_in rfl) lk_X3_64 yd_X3_in rfl rfl rfl dX3_number_2_33 rfl rfl rfl ?_
      refine gw_if_neB X 46 39 dX3_number_2_36 rfl rfl (fun z => ?_) (fun z => ?_)
      · replace hp := gw_t z hp
        refine gw_aload_n X 47 0 dX3_number_2_46 rfl rfl rfl ?_
        refine gM_g0_10 X 50 q1404 dX3_number_2_47 rfl ?_
        refine gw_istore_n X 51 [(3, .int (σ.1 0 10)), (0, .ref (a 0)), (1, .int x1), (2, .int x2)] dX3_number_2_50 rfl rfl (by decide) rfl ?_
        refine gw_aload_n X 52 1 dX3_number_2_51 rfl rfl rfl ?_
        obtain ⟨σ1, h2, hp⟩ := gw_b1_some hp
        refine gw_callVv X 55 [] (mt_X3_next h2) lk_X3_121 ydv_X3_next gM_cl0 gM_at0 rfl rfl rfl dX3_number_2_52 rfl rfl rfl ?_
        refine gw_iload_n X 56 0 dX3_number_2_55 rfl rfl rfl ?_
        cases hp
        exact gw_iret X dX3_number_2_56 (fun _ h => ⟨rfl, h⟩) (Nat.le_of_ble_eq_true rfl) (Nat.le_of_ble_eq_true rfl)
      · replace hp := gw_f z hp
        refine gw_aload_n X 40 0 dX3_number_2_39 rfl rfl rfl ?_
        refine gw_iconst X 41 dX3_number_2_40 rfl gw_ci_2 ?_
        refine gw_callVv X 44 [.int 2] (mt_X3_fails rfl) lk_X3_127 ydv_X3_fails gM_cl0 gM_at0 rfl rfl rfl dX3_number_2_41 rfl rfl rfl ?_
        refine gw_iload_n X 45 1 dX3_number_2_44 rfl rfl rfl ?_
        cases hp
        exact gw_iret X dX3_number_2_45 (fun _ h => ⟨rfl, h⟩) (Nat.le_of_ble_eq_true rfl) (Nat.le_of_ble_eq_true rfl)
    · replace hp := gw_f z hp
      refine gw_aload_n X 18 0 dX3_number_2_17 rfl rfl rfl ?_
      refine gw_iconst X 19 dX3_number_2_18 rfl gw_ci_1 ?_
      refine gw_callVv X 22 [.int 1] (mt_X3_fails rfl) lk_X3_127 ydv_X3_fails gM_cl0 gM_at0 rfl rfl rfl dX3_number_2_19 rfl rfl rfl ?_
      refine gw_iload_n X 23 1 dX3_number_2_22 rfl rfl rfl ?_
      cases hp
      exact gw_iret X dX3_number_2_23 (fun _ h => ⟨rfl, h⟩) (Nat.le_of_ble_eq_true rfl) (Nat.le_of_ble_eq_true rfl)
  · replace hp := gw_f z hp
    refine gw_iload_n X 8 1 dX3_number_2_7 rfl rfl rfl ?_
    cases hp
    exact gw_iret X dX3_number_2_8 (fun _ h => ⟨rfl, h⟩) (Nat.le_of_ble_eq_true rfl) (Nat.le_of_ble_eq_true rfl)
