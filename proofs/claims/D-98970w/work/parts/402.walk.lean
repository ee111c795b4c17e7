set_option maxRecDepth 100000
abbrev rm_X0_isFreeWish : Room := { frames := 0, cells := 0, slots := 0, locals := 0 }
def fx_X0_isFreeWish_L2 (σ : gw_S) (v1 : Int32) (v2 : Int32) : Nat → Int32 → Option (Bool)
  | 0, _ => none
  | n + 1, c3 => (if v1 ≤ c3 then some true else gw_ck c3 8 (gw_ck v1 8 ((if (σ.1 3 (Int32.toNatClampNeg c3)) = (σ.1 3 (Int32.toNatClampNeg v1)) then gw_ck c3 8 ((if (σ.1 7 (Int32.toNatClampNeg c3)) = v2 then some false else fx_X0_isFreeWish_L2 σ v1 v2 n (c3 + 1))) else fx_X0_isFreeWish_L2 σ v1 v2 n (c3 + 1)))))
def fx_X0_isFreeWish (σ : gw_S) (x1 : Int32) (x2 : Int32) : Option (Bool) := fx_X0_isFreeWish_L2 σ x1 x2 1000 (0 : Int32)
set_option maxHeartbeats 4000000 in
theorem wk_X0_isFreeWish_L2 {E : gw_E} {l : Launch} {D : gw_D} {a : Nat → Nat} {Wr : va_W → Prop} {σ : gw_S} {res : Bool} (X : gw_X E cX0_isFreeWish 4 RX0 (some .boolean) l D rm_X0_isFreeWish (some (gw_pI (gw_b res) (gw_st (wX D a σ) Wr)))) {v1 : Int32} {v2 : Int32} : ∀ {n : Nat} {c3 : Int32}, fx_X0_isFreeWish_L2 σ v1 v2 n c3 = some res → gw_W E 2 [(0, .ref (a 0)), (1, .int v1), (2, .int v2), (3, .int c3)] [] (gw_st (wX D a σ) Wr) 0 0 := by
  intro n
  induction n with
  | zero =>
    intro c3 hp
    cases (show none = some res from hp)
  | succ n ih =>
    intro c3 hp
    rw [fx_X0_isFreeWish_L2] at hp
    refine gw_iload_n X 3 3 dX0_isFreeWish_2 rfl rfl rfl ?_
    refine gw_iload_n X 4 1 dX0_isFreeWish_3 rfl rfl rfl ?_
    refine gw_icmp_ge X 40 7 dX0_isFreeWish_4 rfl rfl (fun z => ?_) (fun z => ?_)
    · replace hp := gw_t z hp
      refine gw_iconst X 41 dX0_isFreeWish_40 rfl gw_ci_1 ?_
      cases hp
      exact gw_zret1 X dX0_isFreeWish_41 (fun _ h => ⟨rfl, h⟩) (Nat.le_of_ble_eq_true rfl) (Nat.le_of_ble_eq_true rfl)
    · replace hp := gw_f z hp
      refine gw_aload_n X 8 0 dX0_isFreeWish_7 rfl rfl rfl ?_
      refine gX_g0_9 X 11 q303 dX0_isFreeWish_8 rfl ?_
      refine gw_iload_n X 12 3 dX0_isFreeWish_11 rfl rfl rfl ?_
      obtain ⟨hc, hp⟩ := gw_ck_some hp
      refine gX_l3 X 13 (Int32.toNatClampNeg c3) hc rfl dX0_isFreeWish_12 rfl ?_
      refine gw_aload_n X 14 0 dX0_isFreeWish_13 rfl rfl rfl ?_
      refine gX_g0_9 X 17 q303 dX0_isFreeWish_14 rfl ?_
      refine gw_iload_n X 18 1 dX0_isFreeWish_17 rfl rfl rfl ?_
      obtain ⟨hc, hp⟩ := gw_ck_some hp
      refine gX_l3 X 19 (Int32.toNatClampNeg v1) hc rfl dX0_isFreeWish_18 rfl ?_
      refine gw_icmp_ne X 34 22 dX0_isFreeWish_19 rfl rfl (fun z => ?_) (fun z => ?_)
      · replace hp := gw_f z hp
        refine gw_iinc X 37 3 [(3, .int (c3 + 1)), (0, .ref (a 0)), (1, .int v1), (2, .int v2)] dX0_isFreeWish_34 rfl rfl gw_ci_1 (by decide) rfl ?_
        refine gw_goto X 2 dX0_isFreeWish_37 rfl ?_
        refine gw_lv [1, 2, 3, 0] rfl ?_
        exact ih hp
      · replace hp := gw_t z hp
        refine gw_aload_n X 23 0 dX0_isFreeWish_22 rfl rfl rfl ?_
        refine gX_g0_14 X 26 q311 dX0_isFreeWish_23 rfl ?_
        refine gw_iload_n X 27 3 dX0_isFreeWish_26 rfl rfl rfl ?_
        obtain ⟨hc, hp⟩ := gw_ck_some hp
        refine gX_l7 X 28 (Int32.toNatClampNeg c3) hc rfl dX0_isFreeWish_27 rfl ?_
        refine gw_iload_n X 29 2 dX0_isFreeWish_28 rfl rfl rfl ?_
        refine gw_icmp_ne X 34 32 dX0_isFreeWish_29 rfl rfl (fun z => ?_) (fun z => ?_)
        · replace hp := gw_f z hp
          refine gw_iinc X 37 3 [(3, .int (c3 + 1)), (0, .ref (a 0)), (1, .int v1), (2, .int v2)] dX0_isFreeWish_34 rfl rfl gw_ci_1 (by decide) rfl ?_
          refine gw_goto X 2 dX0_isFreeWish_37 rfl ?_
          refine gw_lv [1, 2, 3, 0] rfl ?_
          exact ih hp
        · replace hp := gw_t z hp
          refine gw_iconst X 33 dX0_isFreeWish_32 rfl gw_ci_0 ?_
          cases hp
          exact gw_zret0 X dX0_isFreeWish_33 (fun _ h => ⟨rfl, h⟩) (Nat.le_of_ble_eq_true rfl) (Nat.le_of_ble_eq_true rfl)
set_option maxHeartbeats 4000000 in
theorem mt_X0_isFreeWish {l : Launch} {D : gw_D} {a : Nat → Nat} {Wr : va_W → Prop} {σ : gw_S} {x1 : Int32} {x2 : Int32} {res : Bool} (hp : fx_X0_isFreeWish σ x1 x2 = some res) : gw_Ct D l yX0_isFreeWish cX0_isFreeWish 4 (some .boolean) rm_X0_isFreeWish [.ref (a 0), .int x1, .int x2] (gw_st (wX D a σ) Wr) (gw_pI (gw_b res) (gw_st (wX D a σ) Wr)) := by
  refine gw_ct (own := RX0) [(0, .ref (a 0)), (1, .int x1), (2, .int x2)] (by decide) rfl (Nat.le_of_ble_eq_true rfl) rfl ?_
  intro E X
  unfold fx_X0_isFreeWish at hp
  refine gw_iconst X 1 dX0_isFreeWish_0 rfl gw_ci_0 ?_
  refine gw_istore_n X 2 [(3, .int 0), (0, .ref (a 0)), (1, .int x1), (2, .int x2)] dX0_isFreeWish_1 rfl rfl (by decide) rfl ?_
  refine gw_lv [1, 2, 3, 0] rfl ?_
  exact wk_X0_isFreeWish_L2 X hp
abbrev rm_X0_areDeeds : Room := { frames := 1, cells := 0, slots := 0, locals := 25 }
def fx_X0_areDeeds (x0 : Int32) : Bool := fx_X0_isIn (Int32.toInt64 x0) (0 : Int64) (63 : Int64)
set_option maxHeartbeats 4000000 in
theorem mt_X0_areDeeds {l : Launch} {D : gw_D} {Ws : va_W → Prop} {x0 : Int32} {res : Bool} (hp : fx_X0_areDeeds x0 = res) : gw_Ct D l yX0_areDeeds cX0_areDeeds 1 (some .boolean) rm_X0_areDeeds [.int x0] Ws (gw_pI (gw_b res) Ws) := by
  refine gw_ct (own := RX0) [(0, .int x0)] (by decide) rfl (Nat.le_of_ble_eq_true rfl) rfl ?_
  intro E X
  unfold fx_X0_areDeeds at hp
  refine gw_iload_n X 1 0 dX0_areDeeds_0 rfl rfl rfl ?_
  refine gw_i2l X 2 dX0_areDeeds_1 rfl ?_
  refine gw_lconst X 3 dX0_areDeeds_2 rfl gw_cl_0 ?_
  refine gw_ldc2 X 6 dX0_areDeeds_3 rfl q994 ?_
  refine gw_callSi X 9 [.long (Int32.toInt64 x0), .long 0, .long 63] (mt_X0_isIn rfl) lk_X0_67 yd_X0_isIn rfl rfl rfl dX0_areDeeds_6 rfl rfl rfl ?_
  cases hp
  exact gw_zret X dX0_areDeeds_9 (fun _ h => ⟨rfl, h⟩) (Nat.le_of_ble_eq_true rfl) (Nat.le_of_ble_eq_true rfl)
abbrev rm_X0_all : Room := { frames := 0, cells := 0, slots := 0, locals := 0 }
def fx_X0_all (σ : gw_S)  : Int32 := ((1 : Int32) <<< ((σ.1 1 2) &&& 31)) - (1 : Int32)
set_option maxHeartbeats 4000000 in
theorem mt_X0_all {l : Launch} {D : gw_D} {a : Nat → Nat} {Wr : va_W → Prop} {σ : gw_S}  {res : Int32} (hp : fx_X0_all σ  = res) : gw_Ct D l yX0_all cX0_all 1 (some .int) rm_X0_all [.ref (a 0)] (gw_st (wX D a σ) Wr) (gw_pI res (gw_st (wX D a σ) Wr)) := by
  refine gw_ct (own := RX0) [(0, .ref (a 0))] (by decide) rfl (Nat.le_of_ble_eq_true rfl) rfl ?_
  intro E X
  unfold fx_X0_all at hp
  refine gw_iconst X 1 dX0_all_0 rfl gw_ci_1 ?_
  refine gw_aload_n X 2 0 dX0_all_1 rfl rfl rfl ?_
  refine gX_g0_0 X 5 q280 dX0_all_2 rfl ?_
  refine gX_g1_2N X 8 q193 dX0_all_5 rfl ?_
  refine gw_ishl X 9 dX0_all_8 rfl ?_
  refine gw_iconst X 10 dX0_all_9 rfl gw_ci_1 ?_
  refine gw_isub X 11 dX0_all_10 rfl ?_
  cases hp
  exact gw_iret X dX0_all_11 (fun _ h => ⟨rfl, h⟩) (Nat.le_of_ble_eq_true rfl) (Nat.le_of_ble_eq_true rfl)
abbrev rm_X0_handsOf : Room := { frames := 1, cells := 0, slots := 0, locals := 23 }
def fx_X0_handsOf_L4 (σ : gw_S) (v1 : Int32) : Nat → Int32 → Int32 → Option (Int32)
  | 0, _, _ => none
  | n + 1, c2, c3 => (if (σ.1 1 2) ≤ c3 then some c2 else (if fx_X0_isOf v1 c3 = true then gw_b1 (fx_X0_handOf σ c3) (fun r1 => fx_X0_handsOf_L4 σ v1 n (c2 ||| r1) (c3 + 1)) else fx_X0_handsOf_L4 σ v1 n (c2 ||| (0 : Int32)) (c3 + 1)))
def fx_X0_handsOf (σ : gw_S) (x1 : Int32) : Option (Int32) := fx_X0_handsOf_L4 σ x1 1000 (0 : Int32) (0 : Int32)
set_option maxHeartbeats 4000000 in
theorem wk_X0_handsOf_L4 {E : gw_E} {l : Launch} {D : gw_D} {a : Nat → Nat} {Wr : va_W → Prop} {σ : gw_S} {res : Int32} (X : gw_X E cX0_handsOf 4 RX0 (some .int) l D rm_X0_handsOf (some (gw_pI res (gw_st (wX D a σ) Wr)))) {v1 : Int32} : ∀ {n : Nat} {c2 : Int32} {c3 : Int32}, fx_X0_handsOf_L4 σ v1 n c2 c3 = some res → gw_W E 4 [(0, .ref (a 0)), (1, .int v1), (2, .int c2), (3, .int c3)] [] (gw_st (wX D a σ) Wr) 0 0 := by
  intro n
  induction n with
  | zero =>
    intro c2 c3 hp
    cases (show none = some res from hp)
  | succ n ih =>
    intro c2 c3 hp
    rw [fx_X0_handsOf_L4] at hp
    refine gw_iload_n X 5 3 dX0_handsOf_4 rfl rfl rfl ?_
    refine gw_aload_n X 6 0 dX0_handsOf_5 rfl rfl rfl ?_
    refine gX_g0_0 X 9 q280 dX0_handsOf_6 rfl ?_
    refine gX_g1_2N X 12 q193 dX0_handsOf_9 rfl ?_
    refine gw_icmp_ge X 41 15 dX0_handsOf_12 rfl rfl (fun z => ?_) (fun z => ?_)
    · replace hp := gw_t z hp
      refine gw_iload_n X 42 2 dX0_handsOf_41 rfl rfl rfl ?_
      cases hp
      exact gw_iret X dX0_handsOf_42 (fun _ h => ⟨rfl, h⟩) (Nat.le_of_ble_eq_true rfl) (Nat.le_of_ble_eq_true rfl)
    · replace hp := gw_f z hp
      refine gw_iload_n X 16 2 dX0_handsOf_15 rfl rfl rfl ?_
      refine gw_iload_n X 17 1 dX0_handsOf_16 rfl rfl rfl ?_
      refine gw_iload_n X 18 3 dX0_handsOf_17 rfl rfl rfl ?_
      refine gw_callSi X 21 [.int v1, .int c3] (mt_X0_isOf rfl) lk_X0_114 yd_X0_isOf rfl rfl rfl dX0_handsOf_18 rfl rfl rfl ?_
      refine gw_if_eqB X 32 24 dX0_handsOf_21 rfl rfl (fun z => ?_) (fun z => ?_)
      · replace hp := gw_f z hp
        refine gw_iconst X 33 dX0_handsOf_32 rfl gw_ci_0 ?_
        refine gw_ior X 34 dX0_handsOf_33 rfl ?_
        refine gw_istore_n X 35 [(2, .int (c2 ||| (0 : Int32))), (0, .ref (a 0)), (1, .int v1), (3, .int c3)] dX0_handsOf_34 rfl rfl (by decide) rfl ?_
        refine gw_iinc X 38 3 [(3, .int (c3 + 1)), (2, .int (c2 ||| (0 : Int32))), (0, .ref (a 0)), (1, .int v1)] dX0_handsOf_35 rfl rfl gw_ci_1 (by decide) rfl ?_
        refine gw_goto X 4 dX0_handsOf_38 rfl ?_
        refine gw_lv [2, 3, 1, 0] rfl ?_
        exact ih hp
      · replace hp := gw_t z hp
        refine gw_aload_n X 25 0 dX0_handsOf_24 rfl rfl rfl ?_
        refine gw_iload_n X 26 3 dX0_handsOf_25 rfl rfl rfl ?_
        obtain ⟨r1, h2, hp⟩ := gw_b1_some hp
        refine gw_callVi X 29 [.int c3] (mt_X0_handOf h2) lk_X0_198 ydv_X0_handOf gX_cl0 gX_at0 rfl rfl rfl dX0_handsOf_26 rfl rfl rfl ?_
        refine gw_goto X 33 dX0_handsOf_29 rfl ?_
        refine gw_ior X 34 dX0_handsOf_33 rfl ?_
        refine gw_istore_n X 35 [(2, .int (c2 ||| r1)), (0, .ref (a 0)), (1, .int v1), (3, .int c3)] dX0_handsOf_34 rfl rfl (by decide) rfl ?_
        refine gw_iinc X 38 3 [(3, .int (c3 + 1)), (2, .int (c2 ||| r1)), (0, .ref (a 0)), (1, .int v1)] dX0_handsOf_35 rfl rfl gw_ci_1 (by decide) rfl ?_
        refine gw_goto X 4 dX0_handsOf_38 rfl ?_
        refine gw_lv [2, 3, 1, 0] rfl ?_
        exact ih hp
set_option maxHeartbeats 4000000 in
theorem mt_X0_handsOf {l : Launch} {D : gw_D} {a : Nat → Nat} {Wr : va_W → Prop} {σ : gw_S} {x1 : Int32} {res : Int32} (hp : fx_X0_handsOf σ x1 = some res) : gw_Ct D l yX0_handsOf cX0_handsOf 4 (some .int) rm_X0_handsOf [.ref (a 0), .int x1] (gw_st (wX D a σ) Wr) (gw_pI res (gw_st (wX D a σ) Wr)) := by
  refine gw_ct (own := RX0) [(0, .ref (a 0)), (1, .int x1)] (by decide) rfl (Nat.le_of_ble_eq_true rfl) rfl ?_
  intro E X
  unfold fx_X0_handsOf at hp
  refine gw_iconst X 1 dX0_handsOf_0 rfl gw_ci_0 ?_
  refine gw_istore_n X 2 [(2, .int 0), (0, .ref (a 0)), (1, .int x1)] dX0_handsOf_1 rfl rfl (by decide) rfl ?_
  refine gw_iconst X 3 dX0_handsOf_2 rfl gw_ci_0 ?_
  refine gw_istore_n X 4 [(3, .int 0), (2, .int 0), (0, .ref (a 0)), (1, .int x1)] dX0_handsOf_3 rfl rfl (by decide) rfl ?_
  refine gw_lv [2, 3, 1, 0] rfl ?_
  exact wk_X0_handsOf_L4 X hp
abbrev rm_X0_worthOf : Room := { frames := 1, cells := 0, slots := 0, locals := 21 }
def fx_X0_worthOf_L4 (σ : gw_S) (v1 : Int32) : Nat → Int32 → Int32 → Option (Int32)
  | 0, _, _ => none
  | n + 1, c2, c3 => (if (σ.1 1 2) ≤ c3 then some c2 else (if fx_X0_isOf v1 c3 = true then gw_ck c3 8 (fx_X0_worthOf_L4 σ v1 n (c2 + (σ.1 9 (Int32.toNatClampNeg c3))) (c3 + 1)) else fx_X0_worthOf_L4 σ v1 n (c2 + (0 : Int32)) (c3 + 1)))
def fx_X0_worthOf (σ : gw_S) (x1 : Int32) : Option (Int32) := fx_X0_worthOf_L4 σ x1 1000 (0 : Int32) (0 : Int32)
set_option maxHeartbeats 4000000 in
theorem wk_X0_worthOf_L4 {E : gw_E} {l : Launch} {D : gw_D} {a : Nat → Nat} {Wr : va_W → Prop} {σ : gw_S} {res : Int32} (X : gw_X E cX0_worthOf 4 RX0 (some .int) l D rm_X0_worthOf (some (gw_pI res (gw_st (wX D a σ) Wr)))) {v1 : Int32} : ∀ {n : Nat} {c2 : Int32} {c3 : Int32}, fx_X0_worthOf_L4 σ v1 n c2 c3 = some res → gw_W E 4 [(0, .ref (a 0)), (1, .int v1), (2, .int c2), (3, .int c3)] [] (gw_st (wX D a σ) Wr) 0 0 := by
  intro n
  induction n with
  | zero =>
    intro c2 c3 hp
    cases (show none = some res from hp)
  | succ n ih =>
    intro c2 c3 hp
    rw [fx_X0_worthOf_L4] at hp
    refine gw_iload_n X 5 3 dX0_worthOf_4 rfl rfl rfl ?_
    refine gw_aload_n X 6 0 dX0_worthOf_5 rfl rfl rfl ?_
    refine gX_g0_0 X 9 q280 dX0_worthOf_6 rfl ?_
    refine gX_g1_2N X 12 q193 dX0_worthOf_9 rfl ?_
    refine gw_icmp_ge X 45 15 dX0_worthOf_12 rfl rfl (fun z => ?_) (fun z => ?_)
    · replace hp := gw_t z hp
      refine gw_iload_n X 46 2 dX0_worthOf_45 rfl rfl rfl ?_
      cases hp
      exact gw_iret X dX0_worthOf_46 (fun _ h => ⟨rfl, h⟩) (Nat.le_of_ble_eq_true rfl) (Nat.le_of_ble_eq_true rfl)
    · replace hp := gw_f z hp
      refine gw_iload_n X 16 2 dX0_worthOf_15 rfl rfl rfl ?_
      refine gw_iload_n X 17 1 dX0_worthOf_16 rfl rfl rfl ?_
      refine gw_iload_n X 18 3 dX0_worthOf_17 rfl rfl rfl ?_
      refine gw_callSi X 21 [.int v1, .int c3] (mt_X0_isOf rfl) lk_X0_114 yd_X0_isOf rfl rfl rfl dX0_worthOf_18 rfl rfl rfl ?_
      refine gw_if_eqB X 36 24 dX0_worthOf_21 rfl rfl (fun z => ?_) (fun z => ?_)
      · replace hp := gw_f z hp
        refine gw_iconst X 37 dX0_worthOf_36 rfl gw_ci_0 ?_
        refine gw_iadd X 38 dX0_worthOf_37 rfl ?_
        refine gw_istore_n X 39 [(2, .int (c2 + (0 : Int32))), (0, .ref (a 0)), (1, .int v1), (3, .int c3)] dX0_worthOf_38 rfl rfl (by decide) rfl ?_
        refine gw_iinc X 42 3 [(3, .int (c3 + 1)), (2, .int (c2 + (0 : Int32))), (0, .ref (a 0)), (1, .int v1)] dX0_worthOf_39 rfl rfl gw_ci_1 (by decide) rfl ?_
        refine gw_goto X 4 dX0_worthOf_42 rfl ?_
        refine gw_lv [2, 3, 1, 0] rfl ?_
        exact ih hp
      · replace hp := gw_t z hp
        refine gw_aload_n X 25 0 dX0_worthOf_24 rfl rfl rfl ?_
        refine gX_g0_0 X 28 q280 dX0_worthOf_25 rfl ?_
        refine gX_g1_6N X 31 q204 dX0_worthOf_28 rfl ?_
        refine gw_iload_n X 32 3 dX0_worthOf_31 rfl rfl rfl ?_
        obtain ⟨hc, hp⟩ := gw_ck_some hp
        refine gX_l9 X 33 (Int32.toNatClampNeg c3) hc rfl dX0_worthOf_32 rfl ?_
        refine gw_goto X 37 dX0_worthOf_33 rfl ?_
        refine gw_iadd X 38 dX0_worthOf_37 rfl ?_
        refine gw_istore_n X 39 [(2, .int (c2 + (σ.1 9 (Int32.toNatClampNeg c3)))), (0, .ref (a 0)), (1, .int v1), (3, .int c3)] dX0_worthOf_38 rfl rfl (by decide) rfl ?_
        refine gw_iinc X 42 3 [(3, .int (c3 + 1)), (2, .int (c2 + (σ.1 9 (Int32.toNatClampNeg c3)))), (0, .ref (a 0)), (1, .int v1)] dX0_worthOf_39 rfl rfl gw_ci_1 (by decide) rfl ?_
        refine gw_goto X 4 dX0_worthOf_42 rfl ?_
        refine gw_lv [2, 3, 1, 0] rfl ?_
        exact ih hp
set_option maxHeartbeats 4000000 in
theorem mt_X0_worthOf {l : Launch} {D : gw_D} {a : Nat → Nat} {Wr : va_W → Prop} {σ : gw_S} {x1 : Int32} {res : Int32} (hp : fx_X0_worthOf σ x1 = some res) : gw_Ct D l yX0_worthOf cX0_worthOf 4 (some .int) rm_X0_worthOf [.ref (a 0), .int x1] (gw_st (wX D a σ) Wr) (gw_pI res (gw_st (wX D a σ) Wr)) := by
  refine gw_ct (own := RX0) [(0, .ref (a 0)), (1, .int x1)] (by decide) rfl (Nat.le_of_ble_eq_true rfl) rfl ?_
  intro E X
  unfold fx_X0_worthOf at hp
  refine gw_iconst X 1 dX0_worthOf_0 rfl gw_ci_0 ?_
  refine gw_istore_n X 2 [(2, .int 0), (0, .ref (a 0)), (1, .int x1)] dX0_worthOf_1 rfl rfl (by decide) rfl ?_
  refine gw_iconst X 3 dX0_worthOf_2 rfl gw_ci_0 ?_
  refine gw_istore_n X 4 [(3, .int 0), (2, .int 0), (0, .ref (a 0)), (1, .int x1)] dX0_worthOf_3 rfl rfl (by decide) rfl ?_
  refine gw_lv [2, 3, 1, 0] rfl ?_
  exact wk_X0_worthOf_L4 X hp
abbrev rm_X0_buyOf : Room := { frames := 2, cells := 0, slots := 0, locals := 44 }
def fx_X0_buyOf_L4 (σ : gw_S) (v1 : Int32) : Nat → Int32 → Int32 → Option (Int32)
  | 0, _, _ => none
  | n + 1, c2, c3 => (if (fx_X0_all σ) < c3 then some c2 else (if c2 = (-1 : Int32) then gw_b1 (fx_X0_deedsOf σ c3) (fun r1 => (if (v1 &&& (r1 ^^^ (-1 : Int32))) = 0 then fx_X0_buyOf_L4 σ v1 n c3 (c3 + 1) else fx_X0_buyOf_L4 σ v1 n c2 (c3 + 1))) else gw_b1 (fx_X0_worthOf σ c3) (fun r3 => gw_b1 (fx_X0_worthOf σ c2) (fun r5 => (if r5 ≤ r3 then fx_X0_buyOf_L4 σ v1 n c2 (c3 + 1) else gw_b1 (fx_X0_deedsOf σ c3) (fun r7 => (if (v1 &&& (r7 ^^^ (-1 : Int32))) = 0 then fx_X0_buyOf_L4 σ v1 n c3 (c3 + 1) else fx_X0_buyOf_L4 σ v1 n c2 (c3 + 1))))))))
def fx_X0_buyOf (σ : gw_S) (x1 : Int32) : Option (Int32) := fx_X0_buyOf_L4 σ x1 1000 (-1 : Int32) (0 : Int32)
set_option maxHeartbeats 4000000 in
theorem wk_X0_buyOf_L4 {E : gw_E} {l : Launch} {D : gw_D} {a : Nat → Nat} {Wr : va_W → Prop} {σ : gw_S} {res : Int32} (X : gw_X E cX0_buyOf 4 RX0 (some .int) l D rm_X0_buyOf (some (gw_pI res (gw_st (wX D a σ) Wr)))) {v1 : Int32} : ∀ {n : Nat} {c2 : Int32} {c3 : Int32}, fx_X0_buyOf_L4 σ v1 n c2 c3 = some res → gw_W E 4 [(0, .ref (a 0)), (1, .int v1), (2, .int c2), (3, .int c3)] [] (gw_st (wX D a σ) Wr) 0 0 := by
  intro n
  induction n with
  | zero =>
    intro c2 c3 hp
    cases (show none = some res from hp)
  | succ n ih =>
    intro c2 c3 hp
    rw [fx_X0_buyOf_L4] at hp
    refine gw_iload_n X 5 3 dX0_buyOf_4 rfl rfl rfl ?_
    refine gw_aload_n X 6 0 dX0_buyOf_5 rfl rfl rfl ?_
    refine gw_callVi X 9 [] (mt_X0_all rfl) lk_X0_107 ydv_X0_all gX_cl0 gX_at0 rfl rfl rfl dX0_buyOf_6 rfl rfl rfl ?_
    refine gw_icmp_gt X 50 12 dX0_buyOf_9 rfl rfl (fun z => ?_) (fun z => ?_)
    · replace hp := gw_t z hp
      refine gw_iload_n X 51 2 dX0_buyOf_50 rfl rfl rfl ?_
      cases hp
      exact gw_iret X dX0_buyOf_51 (fun _ h => ⟨rfl, h⟩) (Nat.le_of_ble_eq_true rfl) (Nat.le_of_ble_eq_true rfl)
    · replace hp := gw_f z hp
      refine gw_iload_n X 13 2 dX0_buyOf_12 rfl rfl rfl ?_
      refine gw_iconst X 14 dX0_buyOf_13 rfl gw_ci_m1 ?_
      refine gw_icmp_eq X 30 17 dX0_buyOf_14 rfl rfl (fun z => ?_) (fun z => ?_)
      · replace hp := gw_t z hp
        refine gw_iload_n X 31 1 dX0_buyOf_30 rfl rfl rfl ?_
        refine gw_aload_n X 32 0 dX0_buyOf_31 rfl rfl rfl ?_
        refine gw_iload_n X 33 3 dX0_buyOf_32 rfl rfl rfl ?_
        obtain ⟨r1, h2, hp⟩ := gw_b1_some hp
        refine gw_callVi X 36 [.int c3] (mt_X0_deedsOf h2) lk_X0_238 ydv_X0_deedsOf gX_cl0 gX_at0 rfl rfl rfl dX0_buyOf_33 rfl rfl rfl ?_
        refine gw_iconst X 37 dX0_buyOf_36 rfl gw_ci_m1 ?_
        refine gw_ixor X 38 dX0_buyOf_37 rfl ?_
        refine gw_iand X 39 dX0_buyOf_38 rfl ?_
        refine gw_if_ne X 44 42 dX0_buyOf_39 rfl rfl (fun z => ?_) (fun z => ?_)
        · replace hp := gw_f z hp
          refine gw_iinc X 47 3 [(3, .int (c3 + 1)), (0, .ref (a 0)), (1, .int v1), (2, .int c2)] dX0_buyOf_44 rfl rfl gw_ci_1 (by decide) rfl ?_
          refine gw_goto X 4 dX0_buyOf_47 rfl ?_
          refine gw_lv [1, 2, 3, 0] rfl ?_
          exact ih hp
        · replace hp := gw_t z hp
          refine gw_iload_n X 43 3 dX0_buyOf_42 rfl rfl rfl ?_
          refine gw_istore_n X 44 [(2, .int c3), (0, .ref (a 0)), (1, .int v1), (3, .int c3)] dX0_buyOf_43 rfl rfl (by decide) rfl ?_
          refine gw_iinc X 47 3 [(3, .int (c3 + 1)), (2, .int c3), (0, .ref (a 0)), (1, .int v1)] dX0_buyOf_44 rfl rfl gw_ci_1 (by decide) rfl ?_
          refine gw_goto X 4 dX0_buyOf_47 rfl ?_
          refine gw_lv [2, 3, 1, 0] rfl ?_
          exact ih hp
      · replace hp := gw_f z hp
        refine gw_aload_n X 18 0 dX0_buyOf_17 rfl rfl rfl ?_
        refine gw_iload_n X 19 3 dX0_buyOf_18 rfl rfl rfl ?_
        obtain ⟨r3, h4, hp⟩ := gw_b1_some hp
        refine gw_callVi X 22 [.int c3] (mt_X0_worthOf h4) lk_X0_288 ydv_X0_worthOf gX_cl0 gX_at0 rfl rfl rfl dX0_buyOf_19 rfl rfl rfl ?_
        refine gw_aload_n X 23 0 dX0_buyOf_22 rfl rfl rfl ?_
        refine gw_iload_n X 24 2 dX0_buyOf_23 rfl rfl rfl ?_
        obtain ⟨r5, h6, hp⟩ := gw_b1_some hp
        refine gw_callVi X 27 [.int c2] (mt_X0_worthOf h6) lk_X0_288 ydv_X0_worthOf gX_cl0 gX_at0 rfl rfl rfl dX0_buyOf_24 rfl rfl rfl ?_
        refine gw_icmp_ge X 44 30 dX0_buyOf_27 rfl rfl (fun z => ?_) (fun z => ?_)
        · replace hp := gw_t z hp
          refine gw_iinc X 47 3 [(3, .int (c3 + 1)), (0, .ref (a 0)), (1, .int v1), (2, .int c2)] dX0_buyOf_44 rfl rfl gw_ci_1 (by decide) rfl ?_
          refine gw_goto X 4 dX0_buyOf_47 rfl ?_
          refine gw_lv [1, 2, 3, 0] rfl ?_
          exact ih hp
        · replace hp := gw_f z hp
          refine gw_iload_n X 31 1 dX0_buyOf_30 rfl rfl rfl ?_
          refine gw_aload_n X 32 0 dX0_buyOf_31 rfl rfl rfl ?_
          refine gw_iload_n X 33 3 dX0_buyOf_32 rfl rfl rfl ?_
          obtain ⟨r7, h8, hp⟩ := gw_b1_some hp
          refine gw_callVi X 36 [.int c3] (mt_X0_deedsOf h8) lk_X0_238 ydv_X0_deedsOf gX_cl0 gX_at0 rfl rfl rfl dX0_buyOf_33 rfl rfl rfl ?_
          refine gw_iconst X 37 dX0_buyOf_36 rfl gw_ci_m1 ?_
          refine gw_ixor X 38 dX0_buyOf_37 rfl ?_
          refine gw_iand X 39 dX0_buyOf_38 rfl ?_
          refine gw_if_ne X 44 42 dX0_buyOf_39 rfl rfl (fun z => ?_) (fun z => ?_)
          · replace hp := gw_f z hp
            refine gw_iinc X 47 3 [(3, .int (c3 + 1)), (0, .ref (a 0)), (1, .int v1), (2, .int c2)] dX0_buyOf_44 rfl rfl gw_ci_1 (by decide) rfl ?_
            refine gw_goto X 4 dX0_buyOf_47 rfl ?_
            refine gw_lv [1, 2, 3, 0] rfl ?_
            exact ih hp
          · replace hp := gw_t z hp
            refine gw_iload_n X 43 3 dX0_buyOf_42 rfl rfl rfl ?_
            refine gw_istore_n X 44 [(2, .int c3), (0, .ref (a 0)), (1, .int v1), (3, .int c3)] dX0_buyOf_43 rfl rfl (by decide) rfl ?_
            refine gw_iinc X 47 3 [(3, .int (c3 + 1)), (2, .int c3), (0, .ref (a 0)), (1, .int v1)] dX0_buyOf_44 rfl rfl gw_ci_1 (by decide) rfl ?_
            refine gw_goto X 4 dX0_buyOf_47 rfl ?_
            refine gw_lv [2, 3, 1, 0] rfl ?_
            exact ih hp
set_option maxHeartbeats 4000000 in
theorem mt_X0_buyOf {l : Launch} {D : gw_D} {a : Nat → Nat} {Wr : va_W → Prop} {σ : gw_S} {x1 : Int32} {res : Int32} (hp : fx_X0_buyOf σ x1 = some res) : gw_Ct D l yX0_buyOf cX0_buyOf 4 (some .int) rm_X0_buyOf [.ref (a 0), .int x1] (gw_st (wX D a σ) Wr) (gw_pI res (gw_st (wX D a σ) Wr)) := by
  refine gw_ct (own := RX0) [(0, .ref (a 0)), (1, .int x1)] (by decide) rfl (Nat.le_of_ble_eq_true rfl) rfl ?_
  intro E X
  unfold fx_X0_buyOf at hp
  refine gw_iconst X 1 dX0_buyOf_0 rfl gw_ci_m1 ?_
  refine gw_istore_n X 2 [(2, .int (-1)), (0, .ref (a 0)), (1, .int x1)] dX0_buyOf_1 rfl rfl (by decide) rfl ?_
  refine gw_iconst X 3 dX0_buyOf_2 rfl gw_ci_0 ?_
  refine gw_istore_n X 4 [(3, .int 0), (2, .int (-1)), (0, .ref (a 0)), (1, .int x1)] dX0_buyOf_3 rfl rfl (by decide) rfl ?_
  refine gw_lv [2, 3, 1, 0] rfl ?_
  exact wk_X0_buyOf_L4 X hp
abbrev rm_X0_buy : Room := { frames := 3, cells := 0, slots := 0, locals := 67 }
def fx_X0_buy (σ : gw_S) (x1 : Int32) : Option (Int32) := (if fx_X0_isCity σ = true then (if fx_X0_areDeeds x1 = true then gw_b1 (fx_X0_buyOf σ x1) (fun r1 => (if r1 = (-1 : Int32) then some (-1) else gw_b1 (fx_X0_worthOf σ r1) (fun r3 => some r3))) else some (-2)) else some (-2))
set_option maxHeartbeats 4000000 in
theorem mt_X0_buy {l : Launch} {D : gw_D} {a : Nat → Nat} {Wr : va_W → Prop} {σ : gw_S} {x1 : Int32} {res : Int32} (hp : fx_X0_buy σ x1 = some res) : gw_Ct D l yX0_buy cX0_buy 3 (some .int) rm_X0_buy [.ref (a 0), .int x1] (gw_st (wX D a σ) Wr) (gw_pI res (gw_st (wX D a σ) Wr)) := by
  refine gw_ct (own := RX0) [(0, .ref (a 0)), (1, .int x1)] (by decide) rfl (Nat.le_of_ble_eq_true rfl) rfl ?_
  intro E X
  unfold fx_X0_buy at hp
  refine gw_aload_n X 1 0 dX0_buy_0 rfl rfl rfl ?_
  refine gw_callVi X 4 [] (mt_X0_isCity rfl) lk_X0_103 ydv_X0_isCity gX_cl0 gX_at0 rfl rfl rfl dX0_buy_1 rfl rfl rfl ?_
  refine gw_if_eqB X 14 7 dX0_buy_4 rfl rfl (fun z => ?_) (fun z => ?_)
  · replace hp := gw_f z hp
    refine gw_bipush X 16 dX0_buy_14 rfl gw_cb_m2 ?_
    cases hp
    exact gw_iret X dX0_buy_16 (fun _ h => ⟨rfl, h⟩) (Nat.le_of_ble_eq_true rfl) (Nat.le_of_ble_eq_true rfl)
  · replace hp := gw_t z hp
    refine gw_iload_n X 8 1 dX0_buy_7 rfl rfl rfl ?_
    refine gw_callSi X 11 [.int x1] (mt_X0_areDeeds rfl) lk_X0_281 yd_X0_areDeeds rfl rfl rfl dX0_buy_8 rfl rfl rfl ?_
    refine gw_if_neB X 17 14 dX0_buy_11 rfl rfl (fun z => ?_) (fun z => ?_)
    · replace hp := gw_t z hp
      refine gw_aload_n X 18 0 dX0_buy_17 rfl rfl rfl ?_
      refine gw_iload_n X 19 1 dX0_buy_18 rfl rfl rfl ?_
      obtain ⟨r1, h2, hp⟩ := gw_b1_some hp
      refine gw_callVi X 22 [.int x1] (mt_X0_buyOf h2) lk_X0_291 ydv_X0_buyOf gX_cl0 gX_at0 rfl rfl rfl dX0_buy_19 rfl rfl rfl ?_
      refine gw_istore_n X 23 [(2, .int r1), (0, .ref (a 0)), (1, .int x1)] dX0_buy_22 rfl rfl (by decide) rfl ?_
      refine gw_iload_n X 24 0 dX0_buy_23 rfl rfl rfl ?_
      refine gw_iconst X 25 dX0_buy_24 rfl gw_ci_m1 ?_
      refine gw_icmp_ne X 32 28 dX0_buy_25 rfl rfl (fun z => ?_) (fun z => ?_)
      · replace hp := gw_f z hp
        refine gw_aload_n X 33 1 dX0_buy_32 rfl rfl rfl ?_
        refine gw_iload_n X 34 0 dX0_buy_33 rfl rfl rfl ?_
        obtain ⟨r3, h4, hp⟩ := gw_b1_some hp
        refine gw_callVi X 37 [.int r1] (mt_X0_worthOf h4) lk_X0_288 ydv_X0_worthOf gX_cl0 gX_at0 rfl rfl rfl dX0_buy_34 rfl rfl rfl ?_
        cases hp
        exact gw_iret X dX0_buy_37 (fun _ h => ⟨rfl, h⟩) (Nat.le_of_ble_eq_true rfl) (Nat.le_of_ble_eq_true rfl)
      · replace hp := gw_t z hp
        refine gw_iconst X 29 dX0_buy_28 rfl gw_ci_m1 ?_
        refine gw_goto X 37 dX0_buy_29 rfl ?_
        cases hp
        exact gw_iret X dX0_buy_37 (fun _ h => ⟨rfl, h⟩) (Nat.le_of_ble_eq_true rfl) (Nat.le_of_ble_eq_true rfl)
    · replace hp := gw_f z hp
      refine gw_bipush X 16 dX0_buy_14 rfl gw_cb_m2 ?_
      cases hp
      exact gw_iret X dX0_buy_16 (fun _ h => ⟨rfl, h⟩) (Nat.le_of_ble_eq_true rfl) (Nat.le_of_ble_eq_true rfl)
abbrev rm_X0_bought : Room := { frames := 3, cells := 0, slots := 0, locals := 67 }
def fx_X0_bought (σ : gw_S) (x1 : Int32) : Option (Int32) := (if fx_X0_isCity σ = true then (if fx_X0_areDeeds x1 = true then gw_b1 (fx_X0_buyOf σ x1) (fun r1 => some r1) else some (-2)) else some (-2))
set_option maxHeartbeats 4000000 in
theorem mt_X0_bought {l : Launch} {D : gw_D} {a : Nat → Nat} {Wr : va_W → Prop} {σ : gw_S} {x1 : Int32} {res : Int32} (hp : fx_X0_bought σ x1 = some res) : gw_Ct D l yX0_bought cX0_bought 2 (some .int) rm_X0_bought [.ref (a 0), .int x1] (gw_st (wX D a σ) Wr) (gw_pI res (gw_st (wX D a σ) Wr)) := by
  refine gw_ct (own := RX0) [(0, .ref (a 0)), (1, .int x1)] (by decide) rfl (Nat.le_of_ble_eq_true rfl) rfl ?_
  intro E X
  unfold fx_X0_bought at hp
  refine gw_aload_n X 1 0 dX0_bought_0 rfl rfl rfl ?_
  refine gw_callVi X 4 [] (mt_X0_isCity rfl) lk_X0_103 ydv_X0_isCity gX_cl0 gX_at0 rfl rfl rfl dX0_bought_1 rfl rfl rfl ?_
  refine gw_if_eqB X 22 7 dX0_bought_4 rfl rfl (fun z => ?_) (fun z => ?_)
  · replace hp := gw_f z hp
    refine gw_bipush X 24 dX0_bought_22 rfl gw_cb_m2 ?_
    cases hp
    exact gw_iret X dX0_bought_24 (fun _ h => ⟨rfl, h⟩) (Nat.le_of_ble_eq_true rfl) (Nat.le_of_ble_eq_true rfl)
  · replace hp := gw_t z hp
    refine gw_iload_n X 8 1 dX0_bought_7 rfl rfl rfl ?_
    refine gw_callSi X 11 [.int x1] (mt_X0_areDeeds rfl) lk_X0_281 yd_X0_areDeeds rfl rfl rfl dX0_bought_8 rfl rfl rfl ?_
    refine gw_if_eqB X 22 14 dX0_bought_11 rfl rfl (fun z => ?_) (fun z => ?_)
    · replace hp := gw_f z hp
      refine gw_bipush X 24 dX0_bought_22 rfl gw_cb_m2 ?_
      cases hp
      exact gw_iret X dX0_bought_24 (fun _ h => ⟨rfl, h⟩) (Nat.le_of_ble_eq_true rfl) (Nat.le_of_ble_eq_true rfl)
    · replace hp := gw_t z hp
      refine gw_aload_n X 15 0 dX0_bought_14 rfl rfl rfl ?_
      refine gw_iload_n X 16 1 dX0_bought_15 rfl rfl rfl ?_
      obtain ⟨r1, h2, hp⟩ := gw_b1_some hp
      refine gw_callVi X 19 [.int x1] (mt_X0_buyOf h2) lk_X0_291 ydv_X0_buyOf gX_cl0 gX_at0 rfl rfl rfl dX0_bought_16 rfl rfl rfl ?_
      refine gw_goto X 24 dX0_bought_19 rfl ?_
      cases hp
      exact gw_iret X dX0_bought_24 (fun _ h => ⟨rfl, h⟩) (Nat.le_of_ble_eq_true rfl) (Nat.le_of_ble_eq_true rfl)
abbrev rm_X0_isBudget : Room := { frames := 1, cells := 0, slots := 0, locals := 25 }
def fx_X0_isBudget (σ : gw_S) (x1 : Int32) : Bool := (if fx_X0_isCity σ = true then (if fx_X0_isIn (Int32.toInt64 x1) (0 : Int64) (2000 : Int64) = true then true else false) else false)
set_option maxHeartbeats 4000000 in
theorem mt_X0_isBudget {l : Launch} {D : gw_D} {a : Nat → Nat} {Wr : va_W → Prop} {σ : gw_S} {x1 : Int32} {res : Bool} (hp : fx_X0_isBudget σ x1 = res) : gw_Ct D l yX0_isBudget cX0_isBudget 2 (some .boolean) rm_X0_isBudget [.ref (a 0), .int x1] (gw_st (wX D a σ) Wr) (gw_pI (gw_b res) (gw_st (wX D a σ) Wr)) := by
  refine gw_ct (own := RX0) [(0, .ref (a 0)), (1, .int x1)] (by decide) rfl (Nat.le_of_ble_eq_true rfl) rfl ?_
  intro E X
  unfold fx_X0_isBudget at hp
  refine gw_aload_n X 1 0 dX0_isBudget_0 rfl rfl rfl ?_
  refine gw_callVi X 4 [] (mt_X0_isCity rfl) lk_X0_103 ydv_X0_isCity gX_cl0 gX_at0 rfl rfl rfl dX0_isBudget_1 rfl rfl rfl ?_
  refine gw_if_eqB X 23 7 dX0_isBudget_4 rfl rfl (fun z => ?_) (fun z => ?_)
  · replace hp := gw_f z hp
    refine gw_iconst X 24 dX0_isBudget_23 rfl gw_ci_0 ?_
    cases hp
    exact gw_zret0 X dX0_isBudget_24 (fun _ h => ⟨rfl, h⟩) (Nat.le_of_ble_eq_true rfl) (Nat.le_of_ble_eq_true rfl)
  · replace hp := gw_t z hp
    refine gw_iload_n X 8 1 dX0_isBudget_7 rfl rfl rfl ?_
    refine gw_i2l X 9 dX0_isBudget_8 rfl ?_
    refine gw_lconst X 10 dX0_isBudget_9 rfl gw_cl_0 ?_
    refine gw_ldc2 X 13 dX0_isBudget_10 rfl q1041 ?_
    refine gw_callSi X 16 [.long (Int32.toInt64 x1), .long 0, .long 2000] (mt_X0_isIn rfl) lk_X0_67 yd_X0_isIn rfl rfl rfl dX0_isBudget_13 rfl rfl rfl ?_
    refine gw_if_eqB X 23 19 dX0_isBudget_16 rfl rfl (fun z => ?_) (fun z => ?_)
    · replace hp := gw_f z hp
      refine gw_iconst X 24 dX0_isBudget_23 rfl gw_ci_0 ?_
      cases hp
      exact gw_zret0 X dX0_isBudget_24 (fun _ h => ⟨rfl, h⟩) (Nat.le_of_ble_eq_true rfl) (Nat.le_of_ble_eq_true rfl)
    · replace hp := gw_t z hp
      refine gw_iconst X 20 dX0_isBudget_19 rfl gw_ci_1 ?_
      refine gw_goto X 24 dX0_isBudget_20 rfl ?_
      cases hp
      exact gw_zret1 X dX0_isBudget_24 (fun _ h => ⟨rfl, h⟩) (Nat.le_of_ble_eq_true rfl) (Nat.le_of_ble_eq_true rfl)
abbrev rm_X0_hireOf : Room := { frames := 2, cells := 0, slots := 0, locals := 44 }
def fx_X0_hireOf_L4 (σ : gw_S) (v1 : Int32) : Nat → Int32 → Int32 → Option (Int32)
  | 0, _, _ => none
  | n + 1, c2, c3 => (if (fx_X0_all σ) < c3 then some c2 else gw_b1 (fx_X0_worthOf σ c3) (fun r1 => (if v1 < r1 then fx_X0_hireOf_L4 σ v1 n c2 (c3 + 1) else gw_b1 (fx_X0_deedsOf σ c3) (fun r3 => gw_b1 (fx_X0_deedsOf σ c2) (fun r5 => (if (fx_J13_bitCount r3) ≤ (fx_J13_bitCount r5) then fx_X0_hireOf_L4 σ v1 n c2 (c3 + 1) else fx_X0_hireOf_L4 σ v1 n c3 (c3 + 1)))))))
def fx_X0_hireOf (σ : gw_S) (x1 : Int32) : Option (Int32) := fx_X0_hireOf_L4 σ x1 1000 (0 : Int32) (1 : Int32)
set_option maxHeartbeats 4000000 in
theorem wk_X0_hireOf_L4 {E : gw_E} {l : Launch} {D : gw_D} {a : Nat → Nat} {Wr : va_W → Prop} {σ : gw_S} {res : Int32} (X : gw_X E cX0_hireOf 4 RX0 (some .int) l D rm_X0_hireOf (some (gw_pI res (gw_st (wX D a σ) Wr)))) {v1 : Int32} : ∀ {n : Nat} {c2 : Int32} {c3 : Int32}, fx_X0_hireOf_L4 σ v1 n c2 c3 = some res → gw_W E 4 [(0, .ref (a 0)), (1, .int v1), (2, .int c2), (3, .int c3)] [] (gw_st (wX D a σ) Wr) 0 0 := by
  intro n
  induction n with
  | zero =>
    intro c2 c3 hp
    cases (show none = some res from hp)
  | succ n ih =>
    intro c2 c3 hp
    rw [fx_X0_hireOf_L4] at hp
    refine gw_iload_n X 5 3 dX0_hireOf_4 rfl rfl rfl ?_
    refine gw_aload_n X 6 0 dX0_hireOf_5 rfl rfl rfl ?_
    refine gw_callVi X 9 [] (mt_X0_all rfl) lk_X0_107 ydv_X0_all gX_cl0 gX_at0 rfl rfl rfl dX0_hireOf_6 rfl rfl rfl ?_
    refine gw_icmp_gt X 48 12 dX0_hireOf_9 rfl rfl (fun z => ?_) (fun z => ?_)
    · replace hp := gw_t z hp
      refine gw_iload_n X 49 2 dX0_hireOf_48 rfl rfl rfl ?_
      cases hp
      exact gw_iret X dX0_hireOf_49 (fun _ h => ⟨rfl, h⟩) (Nat.le_of_ble_eq_true rfl) (Nat.le_of_ble_eq_true rfl)
    · replace hp := gw_f z hp
      refine gw_aload_n X 13 0 dX0_hireOf_12 rfl rfl rfl ?_
      refine gw_iload_n X 14 3 dX0_hireOf_13 rfl rfl rfl ?_
      obtain ⟨r1, h2, hp⟩ := gw_b1_some hp
      refine gw_callVi X 17 [.int c3] (mt_X0_worthOf h2) lk_X0_288 ydv_X0_worthOf gX_cl0 gX_at0 rfl rfl rfl dX0_hireOf_14 rfl rfl rfl ?_
      refine gw_iload_n X 18 1 dX0_hireOf_17 rfl rfl rfl ?_
      refine gw_icmp_gt X 42 21 dX0_hireOf_18 rfl rfl (fun z => ?_) (fun z => ?_)
      · replace hp := gw_t z hp
        refine gw_iinc X 45 3 [(3, .int (c3 + 1)), (0, .ref (a 0)), (1, .int v1), (2, .int c2)] dX0_hireOf_42 rfl rfl gw_ci_1 (by decide) rfl ?_
        refine gw_goto X 4 dX0_hireOf_45 rfl ?_
        refine gw_lv [1, 2, 3, 0] rfl ?_
        exact ih hp
      · replace hp := gw_f z hp
        refine gw_aload_n X 22 0 dX0_hireOf_21 rfl rfl rfl ?_
        refine gw_iload_n X 23 3 dX0_hireOf_22 rfl rfl rfl ?_
        obtain ⟨r3, h4, hp⟩ := gw_b1_some hp
        refine gw_callVi X 26 [.int c3] (mt_X0_deedsOf h4) lk_X0_238 ydv_X0_deedsOf gX_cl0 gX_at0 rfl rfl rfl dX0_hireOf_23 rfl rfl rfl ?_
        refine gw_callSi X 29 [.int r3] (mt_J13_bitCount rfl) lk_X0_273 yd_J13_bitCount rfl rfl rfl dX0_hireOf_26 rfl rfl rfl ?_
        refine gw_aload_n X 30 0 dX0_hireOf_29 rfl rfl rfl ?_
        refine gw_iload_n X 31 2 dX0_hireOf_30 rfl rfl rfl ?_
        obtain ⟨r5, h6, hp⟩ := gw_b1_some hp
        refine gw_callVi X 34 [.int c2] (mt_X0_deedsOf h6) lk_X0_238 ydv_X0_deedsOf gX_cl0 gX_at0 rfl rfl rfl dX0_hireOf_31 rfl rfl rfl ?_
        refine gw_callSi X 37 [.int r5] (mt_J13_bitCount rfl) lk_X0_273 yd_J13_bitCount rfl rfl rfl dX0_hireOf_34 rfl rfl rfl ?_
        refine gw_icmp_le X 42 40 dX0_hireOf_37 rfl rfl (fun z => ?_) (fun z => ?_)
        · replace hp := gw_t z hp
          refine gw_iinc X 45 3 [(3, .int (c3 + 1)), (0, .ref (a 0)), (1, .int v1), (2, .int c2)] dX0_hireOf_42 rfl rfl gw_ci_1 (by decide) rfl ?_
          refine gw_goto X 4 dX0_hireOf_45 rfl ?_
          refine gw_lv [1, 2, 3, 0] rfl ?_
          exact ih hp
        · replace hp := gw_f z hp
          refine gw_iload_n X 41 3 dX0_hireOf_40 rfl rfl rfl ?_
          refine gw_istore_n X 42 [(2, .int c3), (0, .ref (a 0)), (1, .int v1), (3, .int c3)] dX0_hireOf_41 rfl rfl (by decide) rfl ?_
          refine gw_iinc X 45 3 [(3, .int (c3 + 1)), (2, .int c3), (0, .ref (a 0)), (1, .int v1)] dX0_hireOf_42 rfl rfl gw_ci_1 (by decide) rfl ?_
          refine gw_goto X 4 dX0_hireOf_45 rfl ?_
          refine gw_lv [2, 3, 1, 0] rfl ?_
          exact ih hp
set_option maxHeartbeats 4000000 in
theorem mt_X0_hireOf {l : Launch} {D : gw_D} {a : Nat → Nat} {Wr : va_W → Prop} {σ : gw_S} {x1 : Int32} {res : Int32} (hp : fx_X0_hireOf σ x1 = some res) : gw_Ct D l yX0_hireOf cX0_hireOf 4 (some .int) rm_X0_hireOf [.ref (a 0), .int x1] (gw_st (wX D a σ) Wr) (gw_pI res (gw_st (wX D a σ) Wr)) := by
  refine gw_ct (own := RX0) [(0, .ref (a 0)), (1, .int x1)] (by decide) rfl (Nat.le_of_ble_eq_true rfl) rfl ?_
  intro E X
  unfold fx_X0_hireOf at hp
  refine gw_iconst X 1 dX0_hireOf_0 rfl gw_ci_0 ?_
  refine gw_istore_n X 2 [(2, .int 0), (0, .ref (a 0)), (1, .int x1)] dX0_hireOf_1 rfl rfl (by decide) rfl ?_
  refine gw_iconst X 3 dX0_hireOf_2 rfl gw_ci_1 ?_
  refine gw_istore_n X 4 [(3, .int 1), (2, .int 0), (0, .ref (a 0)), (1, .int x1)] dX0_hireOf_3 rfl rfl (by decide) rfl ?_
  refine gw_lv [2, 3, 1, 0] rfl ?_
  exact wk_X0_hireOf_L4 X hp
abbrev rm_X0_deeds : Room := { frames := 3, cells := 0, slots := 0, locals := 67 }
def fx_X0_deeds (σ : gw_S) (x1 : Int32) : Option (Int32) := (if fx_X0_isBudget σ x1 = true then gw_b1 (fx_X0_hireOf σ x1) (fun r1 => gw_b1 (fx_X0_deedsOf σ r1) (fun r3 => some (fx_J13_bitCount r3))) else some (-2))
set_option maxHeartbeats 4000000 in
theorem mt_X0_deeds {l : Launch} {D : gw_D} {a : Nat → Nat} {Wr : va_W → Prop} {σ : gw_S} {x1 : Int32} {res : Int32} (hp : fx_X0_deeds σ x1 = some res) : gw_Ct D l yX0_deeds cX0_deeds 2 (some .int) rm_X0_deeds [.ref (a 0), .int x1] (gw_st (wX D a σ) Wr) (gw_pI res (gw_st (wX D a σ) Wr)) := by
  refine gw_ct (own := RX0) [(0, .ref (a 0)), (1, .int x1)] (by decide) rfl (Nat.le_of_ble_eq_true rfl) rfl ?_
  intro E X
  unfold fx_X0_deeds at hp
  refine gw_aload_n X 1 0 dX0_deeds_0 rfl rfl rfl ?_
  refine gw_iload_n X 2 1 dX0_deeds_1 rfl rfl rfl ?_
  refine gw_callVi X 5 [.int x1] (mt_X0_isBudget rfl) lk_X0_296 ydv_X0_isBudget gX_cl0 gX_at0 rfl rfl rfl dX0_deeds_2 rfl rfl rfl ?_
  refine gw_if_eqB X 23 8 dX0_deeds_5 rfl rfl (fun z => ?_) (fun z => ?_)
  · replace hp := gw_f z hp
    refine gw_bipush X 25 dX0_deeds_23 rfl gw_cb_m2 ?_
    cases hp
    exact gw_iret X dX0_deeds_25 (fun _ h => ⟨rfl, h⟩) (Nat.le_of_ble_eq_true rfl) (Nat.le_of_ble_eq_true rfl)
  · replace hp := gw_t z hp
    refine gw_aload_n X 9 0 dX0_deeds_8 rfl rfl rfl ?_
    refine gw_aload_n X 10 0 dX0_deeds_9 rfl rfl rfl ?_
    refine gw_iload_n X 11 1 dX0_deeds_10 rfl rfl rfl ?_
    obtain ⟨r1, h2, hp⟩ := gw_b1_some hp
    refine gw_callVi X 14 [.int x1] (mt_X0_hireOf h2) lk_X0_299 ydv_X0_hireOf gX_cl0 gX_at0 rfl rfl rfl dX0_deeds_11 rfl rfl rfl ?_
    obtain ⟨r3, h4, hp⟩ := gw_b1_some hp
    refine gw_callVi X 17 [.int r1] (mt_X0_deedsOf h4) lk_X0_238 ydv_X0_deedsOf gX_cl0 gX_at0 rfl rfl rfl dX0_deeds_14 rfl rfl rfl ?_
    refine gw_callSi X 20 [.int r3] (mt_J13_bitCount rfl) lk_X0_273 yd_J13_bitCount rfl rfl rfl dX0_deeds_17 rfl rfl rfl ?_
    refine gw_goto X 25 dX0_deeds_20 rfl ?_
    cases hp
    exact gw_iret X dX0_deeds_25 (fun _ h => ⟨rfl, h⟩) (Nat.le_of_ble_eq_true rfl) (Nat.le_of_ble_eq_true rfl)
abbrev rm_X0_hired : Room := { frames := 3, cells := 0, slots := 0, locals := 67 }
def fx_X0_hired (σ : gw_S) (x1 : Int32) : Option (Int32) := (if fx_X0_isBudget σ x1 = true then gw_b1 (fx_X0_hireOf σ x1) (fun r1 => some r1) else some (-2))
set_option maxHeartbeats 4000000 in
theorem mt_X0_hired {l : Launch} {D : gw_D} {a : Nat → Nat} {Wr : va_W → Prop} {σ : gw_S} {x1 : Int32} {res : Int32} (hp : fx_X0_hired σ x1 = some res) : gw_Ct D l yX0_hired cX0_hired 2 (some .int) rm_X0_hired [.ref (a 0), .int x1] (gw_st (wX D a σ) Wr) (gw_pI res (gw_st (wX D a σ) Wr)) := by
  refine gw_ct (own := RX0) [(0, .ref (a 0)), (1, .int x1)] (by decide) rfl (Nat.le_of_ble_eq_true rfl) rfl ?_
  intro E X
  unfold fx_X0_hired at hp
  refine gw_aload_n X 1 0 dX0_hired_0 rfl rfl rfl ?_
  refine gw_iload_n X 2 1 dX0_hired_1 rfl rfl rfl ?_
  refine gw_callVi X 5 [.int x1] (mt_X0_isBudget rfl) lk_X0_296 ydv_X0_isBudget gX_cl0 gX_at0 rfl rfl rfl dX0_hired_2 rfl rfl rfl ?_
  refine gw_if_eqB X 16 8 dX0_hired_5 rfl rfl (fun z => ?_) (fun z => ?_)
  · replace hp := gw_f z hp
    refine gw_bipush X 18 dX0_hired_16 rfl gw_cb_m2 ?_
    cases hp
    exact gw_iret X dX0_hired_18 (fun _ h => ⟨rfl, h⟩) (Nat.le_of_ble_eq_true rfl) (Nat.le_of_ble_eq_true rfl)
  · replace hp := gw_t z hp
    refine gw_aload_n X 9 0 dX0_hired_8 rfl rfl rfl ?_
    refine gw_iload_n X 10 1 dX0_hired_9 rfl rfl rfl ?_
    obtain ⟨r1, h2, hp⟩ := gw_b1_some hp
    refine gw_callVi X 13 [.int x1] (mt_X0_hireOf h2) lk_X0_299 ydv_X0_hireOf gX_cl0 gX_at0 rfl rfl rfl dX0_hired_10 rfl rfl rfl ?_
    refine gw_goto X 18 dX0_hired_13 rfl ?_
    cases hp
    exact gw_iret X dX0_hired_18 (fun _ h => ⟨rfl, h⟩) (Nat.le_of_ble_eq_true rfl) (Nat.le_of_ble_eq_true rfl)
abbrev rm_X0_isSlot : Room := { frames := 1, cells := 0, slots := 0, locals := 25 }
def fx_X0_isSlot (x0 : Int32) : Bool := fx_X0_isIn (Int32.toInt64 x0) (0 : Int64) (3 : Int64)
set_option maxHeartbeats 4000000 in
theorem mt_X0_isSlot {l : Launch} {D : gw_D} {Ws : va_W → Prop} {x0 : Int32} {res : Bool} (hp : fx_X0_isSlot x0 = res) : gw_Ct D l yX0_isSlot cX0_isSlot 1 (some .boolean) rm_X0_isSlot [.int x0] Ws (gw_pI (gw_b res) Ws) := by
  refine gw_ct (own := RX0) [(0, .int x0)] (by decide) rfl (Nat.le_of_ble_eq_true rfl) rfl ?_
  intro E X
  unfold fx_X0_isSlot at hp
  refine gw_iload_n X 1 0 dX0_isSlot_0 rfl rfl rfl ?_
  refine gw_i2l X 2 dX0_isSlot_1 rfl ?_
  refine gw_lconst X 3 dX0_isSlot_2 rfl gw_cl_0 ?_
  refine gw_ldc2 X 6 dX0_isSlot_3 rfl q1088 ?_
  refine gw_callSi X 9 [.long (Int32.toInt64 x0), .long 0, .long 3] (mt_X0_isIn rfl) lk_X0_67 yd_X0_isIn rfl rfl rfl dX0_isSlot_6 rfl rfl rfl ?_
  cases hp
  exact gw_zret X dX0_isSlot_9 (fun _ h => ⟨rfl, h⟩) (Nat.le_of_ble_eq_true rfl) (Nat.le_of_ble_eq_true rfl)
abbrev rm_X0_asksDeeds : Room := { frames := 9, cells := 1, slots := 8, locals := 10268 }
def fx_X0_asksDeeds_L29 (ρ : gw_R) (σ : gw_S) (v1 : Int32) (v2 : Int32) : Nat → Int32 → Option (Int32)
  | 0, _ => none
  | n + 1, c3 => (if v2 ≤ c3 then some 0 else gw_ck v1 4 (gw_b1 (ρ (Int32.toNatClampNeg v1)) (fun x_5 => gw_ck c3 x_5.2.1 ((if fx_X0_isDeed (gv_at x_5 (Int32.toNatClampNeg c3)) = true then fx_X0_asksDeeds_L29 ρ σ v1 v2 n (c3 + 1) else some (-2))))))
def fx_X0_asksDeeds (σ : gw_S) (ρ : gw_R) (x1 : Int32) : Option (Int32) := (if fx_X0_isSlot x1 = true then (if fx_X0_isCity σ = true then gw_ck x1 4 (gw_m (ρ (Int32.toNatClampNeg x1)) (some (-6)) (fun x_2 => fx_X0_asksDeeds_L29 ρ σ x1 (Int32.ofNat x_2.2.1) 1000 (0 : Int32))) else some (-2)) else some (-2))
set_option maxHeartbeats 4000000 in
theorem wk_X0_asksDeeds_L29 {E : gw_E} {l : Launch} {D : gw_D} {a : Nat → Nat} {Wr : va_W → Prop} {σ : gw_S} {ρ : gw_R} {KP : va_W → Prop} {res : Int32} (X : gw_X E cX0_asksDeeds 4 RX0 (some .int) l D rm_X0_asksDeeds (some (gw_pI res (gw_st (wX D a σ) (gw_sp KP (gw_sp (gS D a ρ) Wr)))))) {v1 : Int32} {v2 : Int32} : ∀ {n : Nat} {c3 : Int32}, fx_X0_asksDeeds_L29 ρ σ v1 v2 n c3 = some res → gw_W E 29 [(0, .ref (a 0)), (1, .int v1), (2, .int v2), (3, .int c3)] [] (gw_st (wX D a σ) (gw_sp KP (gw_sp (gS D a ρ) Wr))) 0 0 := by
  intro n
  induction n with
  | zero =>
    intro c3 hp
    cases (show none = some res from hp)
  | succ n ih =>
    intro c3 hp
    rw [fx_X0_asksDeeds_L29] at hp
    refine gw_iload_n X 30 3 dX0_asksDeeds_29 rfl rfl rfl ?_
    refine gw_iload_n X 31 2 dX0_asksDeeds_30 rfl rfl rfl ?_
    refine gw_icmp_ge X 59 34 dX0_asksDeeds_31 rfl rfl (fun z => ?_) (fun z => ?_)
    · replace hp := gw_t z hp
      refine gw_iconst X 60 dX0_asksDeeds_59 rfl gw_ci_0 ?_
      cases hp
      exact gw_iret X dX0_asksDeeds_60 (fun _ h => ⟨rfl, h⟩) (Nat.le_of_ble_eq_true rfl) (Nat.le_of_ble_eq_true rfl)
    · replace hp := gw_f z hp
      refine gw_aload_n X 35 0 dX0_asksDeeds_34 rfl rfl rfl ?_
      refine gX_g0_21 X 38 q318 dX0_asksDeeds_35 rfl ?_
      refine gw_iload_n X 39 1 dX0_asksDeeds_38 rfl rfl rfl ?_
      obtain ⟨hc, hp⟩ := gw_ck_some hp
      refine gS_ald X 40 hc dX0_asksDeeds_39 rfl ?_
      have hj4 := gS_in4 hc
      refine gw_iload_n X 41 3 dX0_asksDeeds_40 rfl rfl rfl ?_
      obtain ⟨x_5, h6, hp⟩ := gw_b1_some hp
      obtain ⟨hc, hp⟩ := gw_ck_some hp
      refine gS_at X 44 hj4 h6 hc lk_X0_302 rfl rfl dX0_asksDeeds_41 rfl ?_
      refine gw_callSi X 47 [.long (gv_at x_5 (Int32.toNatClampNeg c3))] (mt_X0_isDeed rfl) lk_X0_232 yd_X0_isDeed rfl rfl rfl dX0_asksDeeds_44 rfl rfl rfl ?_
      refine gw_if_neB X 53 50 dX0_asksDeeds_47 rfl rfl (fun z => ?_) (fun z => ?_)
      · replace hp := gw_t z hp
        refine gw_iinc X 56 3 [(3, .int (c3 + 1)), (0, .ref (a 0)), (1, .int v1), (2, .int v2)] dX0_asksDeeds_53 rfl rfl gw_ci_1 (by decide) rfl ?_
        refine gw_goto X 29 dX0_asksDeeds_56 rfl ?_
        refine gw_lv [1, 2, 3, 0] rfl ?_
        exact ih hp
      · replace hp := gw_f z hp
        refine gw_bipush X 52 dX0_asksDeeds_50 rfl gw_cb_m2 ?_
        cases hp
        exact gw_iret X dX0_asksDeeds_52 (fun _ h => ⟨rfl, h⟩) (Nat.le_of_ble_eq_true rfl) (Nat.le_of_ble_eq_true rfl)
set_option maxHeartbeats 4000000 in
theorem mt_X0_asksDeeds {l : Launch} {D : gw_D} {a : Nat → Nat} {Wr : va_W → Prop} {σ : gw_S} {ρ : gw_R} {KP : va_W → Prop} {x1 : Int32} {res : Int32} (hp : fx_X0_asksDeeds σ ρ x1 = some res) : gw_CtH D l yX0_asksDeeds cX0_asksDeeds 4 (some .int) [(17, 52, 61, 312), (53, 60, 61, 312)] rm_X0_asksDeeds [.ref (a 0), .int x1] (gw_st (wX D a σ) (gw_sp KP (gw_sp (gS D a ρ) Wr))) (gw_pI res (gw_st (wX D a σ) (gw_sp KP (gw_sp (gS D a ρ) Wr)))) := by
  refine gw_ctH (own := RX0) [(0, .ref (a 0)), (1, .int x1)] (by decide) rfl (Nat.le_of_ble_eq_true rfl) rfl ?_
  intro E X Y
  unfold fx_X0_asksDeeds at hp
  refine gw_iload_n X 1 1 dX0_asksDeeds_0 rfl rfl rfl ?_
  refine gw_callSi X 4 [.int x1] (mt_X0_isSlot rfl) lk_X0_306 yd_X0_isSlot rfl rfl rfl dX0_asksDeeds_1 rfl rfl rfl ?_
  refine gw_if_eqB X 14 7 dX0_asksDeeds_4 rfl rfl (fun z => ?_) (fun z => ?_)
  · replace hp := gw_f z hp
    refine gw_bipush X 16 dX0_asksDeeds_14 rfl gw_cb_m2 ?_
    cases hp
    exact gw_iret X dX0_asksDeeds_16 (fun _ h => ⟨rfl, h⟩) (Nat.le_of_ble_eq_true rfl) (Nat.le_of_ble_eq_true rfl)
  · replace hp := gw_t z hp
    refine gw_aload_n X 8 0 dX0_asksDeeds_7 rfl rfl rfl ?_
    refine gw_callVi X 11 [] (mt_X0_isCity rfl) lk_X0_103 ydv_X0_isCity gX_cl0 gX_at0 rfl rfl rfl dX0_asksDeeds_8 rfl rfl rfl ?_
    refine gw_if_neB X 17 14 dX0_asksDeeds_11 rfl rfl (fun z => ?_) (fun z => ?_)
    · replace hp := gw_t z hp
      refine gw_aload_n X 18 0 dX0_asksDeeds_17 rfl rfl rfl ?_
      refine gX_g0_21 X 21 q318 dX0_asksDeeds_18 rfl ?_
      refine gw_iload_n X 22 1 dX0_asksDeeds_21 rfl rfl rfl ?_
      obtain ⟨hc, hp⟩ := gw_ck_some hp
      refine gS_ald X 23 hc dX0_asksDeeds_22 rfl ?_
      have hj1 := gS_in4 hc
      rcases h3 : ρ (Int32.toNatClampNeg x1) with _ | x_2
      · replace hp := gw_m_none h3 hp
        refine gS_sizeN X hj1 h3 lk_X0_309 rfl rfl dX0_asksDeeds_23 (fun q => ?_)
        refine gx_catch X Y 61 [] _ _ rfl (fun _ h => nomatch h) rfl (by decide) q1058 q1080 rfl ?_
        refine gl_perm (gS_back hj1) ?_
        refine gw_astore_n X 62 [(2, .ref (q)), (0, .ref (a 0)), (1, .int x1)] dX0_asksDeeds_61 rfl rfl (by decide) rfl ?_
        refine gw_bipush X 64 dX0_asksDeeds_62 rfl gw_cb_m6 ?_
        cases hp
        exact gw_iret X dX0_asksDeeds_64 (fun _ h => ⟨rfl, h⟩) (Nat.le_of_ble_eq_true rfl) (Nat.le_of_ble_eq_true rfl)
      · replace hp := gw_m_some h3 hp
        refine gS_size X 26 hj1 h3 lk_X0_309 rfl rfl dX0_asksDeeds_23 rfl ?_
        refine gw_istore_n X 27 [(2, .int (Int32.ofNat x_2.2.1)), (0, .ref (a 0)), (1, .int x1)] dX0_asksDeeds_26 rfl rfl (by decide) rfl ?_
        refine gw_iconst X 28 dX0_asksDeeds_27 rfl gw_ci_0 ?_
        refine gw_istore_n X 29 [(3, .int 0), (2, .int (Int32.ofNat x_2.2.1)), (0, .ref (a 0)), (1, .int x1)] dX0_asksDeeds_28 rfl rfl (by decide) rfl ?_
        refine gw_lv [2, 3, 1, 0] rfl ?_
        exact wk_X0_asksDeeds_L29 X hp
    · replace hp := gw_f z hp
      refine gw_bipush X 16 dX0_asksDeeds_14 rfl gw_cb_m2 ?_
      cases hp
      exact gw_iret X dX0_asksDeeds_16 (fun _ h => ⟨rfl, h⟩) (Nat.le_of_ble_eq_true rfl) (Nat.le_of_ble_eq_true rfl)
abbrev rm_X0_number : Room := { frames := 1, cells := 0, slots := 0, locals := 21 }
def fx_X0_number (σ : gw_S) (ρ : gw_R) (x1 : Int32) (x2 : Int32) : Option (Int32) := gw_ck x1 4 (gw_b1 (ρ (Int32.toNatClampNeg x1)) (fun x_2 => gw_ck x2 x_2.2.1 (some (Int64.toInt32 (gv_at x_2 (Int32.toNatClampNeg x2))))))
set_option maxHeartbeats 4000000 in
theorem mt_X0_number {l : Launch} {D : gw_D} {a : Nat → Nat} {Wr : va_W → Prop} {σ : gw_S} {ρ : gw_R} {KP : va_W → Prop} {x1 : Int32} {x2 : Int32} {res : Int32} (hp : fx_X0_number σ ρ x1 x2 = some res) : gw_Ct D l yX0_number cX0_number 3 (some .int) rm_X0_number [.ref (a 0), .int x1, .int x2] (gw_st (wX D a σ) (gw_sp KP (gw_sp (gS D a ρ) Wr))) (gw_pI res (gw_st (wX D a σ) (gw_sp KP (gw_sp (gS D a ρ) Wr)))) := by
  refine gw_ct (own := RX0) [(0, .ref (a 0)), (1, .int x1), (2, .int x2)] (by decide) rfl (Nat.le_of_ble_eq_true rfl) rfl ?_
  intro E X
  unfold fx_X0_number at hp
  refine gw_aload_n X 1 0 dX0_number_0 rfl rfl rfl ?_
  refine gX_g0_21 X 4 q318 dX0_number_1 rfl ?_
  refine gw_iload_n X 5 1 dX0_number_4 rfl rfl rfl ?_
  obtain ⟨hc, hp⟩ := gw_ck_some hp
  refine gS_ald X 6 hc dX0_number_5 rfl ?_
  have hj1 := gS_in4 hc
  refine gw_iload_n X 7 2 dX0_number_6 rfl rfl rfl ?_
  obtain ⟨x_2, h3, hp⟩ := gw_b1_some hp
  obtain ⟨hc, hp⟩ := gw_ck_some hp
  refine gS_at X 10 hj1 h3 hc lk_X0_302 rfl rfl dX0_number_7 rfl ?_
  refine gw_l2i X 11 dX0_number_10 rfl ?_
  cases hp
  exact gw_iret X dX0_number_11 (fun _ h => ⟨rfl, h⟩) (Nat.le_of_ble_eq_true rfl) (Nat.le_of_ble_eq_true rfl)
abbrev rm_X0_deedsIn : Room := { frames := 2, cells := 0, slots := 0, locals := 43 }
def fx_X0_deedsIn_L4 (ρ : gw_R) (σ : gw_S) (v1 : Int32) : Nat → Int32 → Int32 → Option (Int32)
  | 0, _, _ => none
  | n + 1, c2, c3 => gw_ck v1 4 (gw_b1 (ρ (Int32.toNatClampNeg v1)) (fun x_2 => (if (Int32.ofNat x_2.2.1) ≤ c3 then some c2 else gw_b1 (fx_X0_number σ ρ v1 c3) (fun r4 => fx_X0_deedsIn_L4 ρ σ v1 n (c2 ||| ((1 : Int32) <<< (r4 &&& 31))) (c3 + 1)))))
def fx_X0_deedsIn (σ : gw_S) (ρ : gw_R) (x1 : Int32) : Option (Int32) := fx_X0_deedsIn_L4 ρ σ x1 1000 (0 : Int32) (0 : Int32)
set_option maxHeartbeats 4000000 in
theorem wk_X0_deedsIn_L4 {E : gw_E} {l : Launch} {D : gw_D} {a : Nat → Nat} {Wr : va_W → Prop} {σ : gw_S} {ρ : gw_R} {KP : va_W → Prop} {res : Int32} (X : gw_X E cX0_deedsIn 4 RX0 (some .int) l D rm_X0_deedsIn (some (gw_pI res (gw_st (wX D a σ) (gw_sp KP (gw_sp (gS D a ρ) Wr)))))) {v1 : Int32} : ∀ {n : Nat} {c2 : Int32} {c3 : Int32}, fx_X0_deedsIn_L4 ρ σ v1 n c2 c3 = some res → gw_W E 4 [(0, .ref (a 0)), (1, .int v1), (2, .int c2), (3, .int c3)] [] (gw_st (wX D a σ) (gw_sp KP (gw_sp (gS D a ρ) Wr))) 0 0 := by
  intro n
  induction n with
  | zero =>
    intro c2 c3 hp
    cases (show none = some res from hp)
  | succ n ih =>
    intro c2 c3 hp
    rw [fx_X0_deedsIn_L4] at hp
    refine gw_iload_n X 5 3 dX0_deedsIn_4 rfl rfl rfl ?_
    refine gw_aload_n X 6 0 dX0_deedsIn_5 rfl rfl rfl ?_
    refine gX_g0_21 X 9 q318 dX0_deedsIn_6 rfl ?_
    refine gw_iload_n X 10 1 dX0_deedsIn_9 rfl rfl rfl ?_
    obtain ⟨hc, hp⟩ := gw_ck_some hp
    refine gS_ald X 11 hc dX0_deedsIn_10 rfl ?_
    have hj1 := gS_in4 hc
    obtain ⟨x_2, h3, hp⟩ := gw_b1_some hp
    refine gS_size X 14 hj1 h3 lk_X0_309 rfl rfl dX0_deedsIn_11 rfl ?_
    refine gw_icmp_ge X 34 17 dX0_deedsIn_14 rfl rfl (fun z => ?_) (fun z => ?_)
    · replace hp := gw_t z hp
      refine gw_iload_n X 35 2 dX0_deedsIn_34 rfl rfl rfl ?_
      cases hp
      exact gw_iret X dX0_deedsIn_35 (fun _ h => ⟨rfl, h⟩) (Nat.le_of_ble_eq_true rfl) (Nat.le_of_ble_eq_true rfl)
    · replace hp := gw_f z hp
      refine gw_iload_n X 18 2 dX0_deedsIn_17 rfl rfl rfl ?_
      refine gw_iconst X 19 dX0_deedsIn_18 rfl gw_ci_1 ?_
      refine gw_aload_n X 20 0 dX0_deedsIn_19 rfl rfl rfl ?_
      refine gw_iload_n X 21 1 dX0_deedsIn_20 rfl rfl rfl ?_
      refine gw_iload_n X 22 3 dX0_deedsIn_21 rfl rfl rfl ?_
      obtain ⟨r4, h5, hp⟩ := gw_b1_some hp
      refine gw_callVi X 25 [.int v1, .int c3] (mt_X0_number h5) lk_X0_314 ydv_X0_number gX_cl0 gX_at0 rfl rfl rfl dX0_deedsIn_22 rfl rfl rfl ?_
      refine gw_ishl X 26 dX0_deedsIn_25 rfl ?_
      refine gw_ior X 27 dX0_deedsIn_26 rfl ?_
      refine gw_istore_n X 28 [(2, .int (c2 ||| ((1 : Int32) <<< (r4 &&& 31)))), (0, .ref (a 0)), (1, .int v1), (3, .int c3)] dX0_deedsIn_27 rfl rfl (by decide) rfl ?_
      refine gw_iinc X 31 3 [(3, .int (c3 + 1)), (2, .int (c2 ||| ((1 : Int32) <<< (r4 &&& 31)))), (0, .ref (a 0)), (1, .int v1)] dX0_deedsIn_28 rfl rfl gw_ci_1 (by decide) rfl ?_
      refine gw_goto X 4 dX0_deedsIn_31 rfl ?_
      refine gw_lv [2, 3, 1, 0] rfl ?_
      exact ih hp
set_option maxHeartbeats 4000000 in
theorem mt_X0_deedsIn {l : Launch} {D : gw_D} {a : Nat → Nat} {Wr : va_W → Prop} {σ : gw_S} {ρ : gw_R} {KP : va_W → Prop} {x1 : Int32} {res : Int32} (hp : fx_X0_deedsIn σ ρ x1 = some res) : gw_Ct D l yX0_deedsIn cX0_deedsIn 4 (some .int) rm_X0_deedsIn [.ref (a 0), .int x1] (gw_st (wX D a σ) (gw_sp KP (gw_sp (gS D a ρ) Wr))) (gw_pI res (gw_st (wX D a σ) (gw_sp KP (gw_sp (gS D a ρ) Wr)))) := by
  refine gw_ct (own := RX0) [(0, .ref (a 0)), (1, .int x1)] (by decide) rfl (Nat.le_of_ble_eq_true rfl) rfl ?_
  intro E X
  unfold fx_X0_deedsIn at hp
  refine gw_iconst X 1 dX0_deedsIn_0 rfl gw_ci_0 ?_
  refine gw_istore_n X 2 [(2, .int 0), (0, .ref (a 0)), (1, .int x1)] dX0_deedsIn_1 rfl rfl (by decide) rfl ?_
  refine gw_iconst X 3 dX0_deedsIn_2 rfl gw_ci_0 ?_
  refine gw_istore_n X 4 [(3, .int 0), (2, .int 0), (0, .ref (a 0)), (1, .int x1)] dX0_deedsIn_3 rfl rfl (by decide) rfl ?_
  refine gw_lv [2, 3, 1, 0] rfl ?_
  exact wk_X0_deedsIn_L4 X hp
abbrev rm_X0_wishing : Room := { frames := 0, cells := 0, slots := 0, locals := 0 }
def fx_X0_wishing_L4 (σ : gw_S) (v1 : Int32) : Nat → Int32 → Int32 → Option (Int32)
  | 0, _, _ => none
  | n + 1, c2, c3 => (if (σ.1 1 2) ≤ c3 then some c2 else gw_ck c3 8 ((if (v1 &&& ((σ.1 11 (Int32.toNatClampNeg c3)) ^^^ (-1 : Int32))) = 0 then fx_X0_wishing_L4 σ v1 n (c2 ||| ((1 : Int32) <<< (c3 &&& 31))) (c3 + 1) else fx_X0_wishing_L4 σ v1 n (c2 ||| (0 : Int32)) (c3 + 1))))
def fx_X0_wishing (σ : gw_S) (x1 : Int32) : Option (Int32) := fx_X0_wishing_L4 σ x1 1000 (0 : Int32) (0 : Int32)
set_option maxHeartbeats 4000000 in
theorem wk_X0_wishing_L4 {E : gw_E} {l : Launch} {D : gw_D} {a : Nat → Nat} {Wr : va_W → Prop} {σ : gw_S} {res : Int32} (X : gw_X E cX0_wishing 4 RX0 (some .int) l D rm_X0_wishing (some (gw_pI res (gw_st (wX D a σ) Wr)))) {v1 : Int32} : ∀ {n : Nat} {c2 : Int32} {c3 : Int32}, fx_X0_wishing_L4 σ v1 n c2 c3 = some res → gw_W E 4 [(0, .ref (a 0)), (1, .int v1), (2, .int c2), (3, .int c3)] [] (gw_st (wX D a σ) Wr) 0 0 := by
  intro n
  induction n with
  | zero =>
    intro c2 c3 hp
    cases (show none = some res from hp)
  | succ n ih =>
    intro c2 c3 hp
    rw [fx_X0_wishing_L4] at hp
    refine gw_iload_n X 5 3 dX0_wishing_4 rfl rfl rfl ?_
    refine gw_aload_n X 6 0 dX0_wishing_5 rfl rfl rfl ?_
    refine gX_g0_0 X 9 q280 dX0_wishing_6 rfl ?_
    refine gX_g1_2N X 12 q193 dX0_wishing_9 rfl ?_
    refine gw_icmp_ge X 47 15 dX0_wishing_12 rfl rfl (fun z => ?_) (fun z => ?_)
    · replace hp := gw_t z hp
      refine gw_iload_n X 48 2 dX0_wishing_47 rfl rfl rfl ?_
      cases hp
      exact gw_iret X dX0_wishing_48 (fun _ h => ⟨rfl, h⟩) (Nat.le_of_ble_eq_true rfl) (Nat.le_of_ble_eq_true rfl)
    · replace hp := gw_f z hp
      refine gw_iload_n X 16 2 dX0_wishing_15 rfl rfl rfl ?_
      refine gw_iload_n X 17 1 dX0_wishing_16 rfl rfl rfl ?_
      refine gw_aload_n X 18 0 dX0_wishing_17 rfl rfl rfl ?_
      refine gX_g0_0 X 21 q280 dX0_wishing_18 rfl ?_
      refine gX_g1_8N X 24 q210 dX0_wishing_21 rfl ?_
      refine gw_iload_n X 25 3 dX0_wishing_24 rfl rfl rfl ?_
      obtain ⟨hc, hp⟩ := gw_ck_some hp
      refine gX_l11 X 26 (Int32.toNatClampNeg c3) hc rfl dX0_wishing_25 rfl ?_
      refine gw_iconst X 27 dX0_wishing_26 rfl gw_ci_m1 ?_
      refine gw_ixor X 28 dX0_wishing_27 rfl ?_
      refine gw_iand X 29 dX0_wishing_28 rfl ?_
      refine gw_if_ne X 38 32 dX0_wishing_29 rfl rfl (fun z => ?_) (fun z => ?_)
      · replace hp := gw_f z hp
        refine gw_iconst X 39 dX0_wishing_38 rfl gw_ci_0 ?_
        refine gw_ior X 40 dX0_wishing_39 rfl ?_
        refine gw_istore_n X 41 [(2, .int (c2 ||| (0 : Int32))), (0, .ref (a 0)), (1, .int v1), (3, .int c3)] dX0_wishing_40 rfl rfl (by decide) rfl ?_
        refine gw_iinc X 44 3 [(3, .int (c3 + 1)), (2, .int (c2 ||| (0 : Int32))), (0, .ref (a 0)), (1, .int v1)] dX0_wishing_41 rfl rfl gw_ci_1 (by decide) rfl ?_
        refine gw_goto X 4 dX0_wishing_44 rfl ?_
        refine gw_lv [2, 3, 1, 0] rfl ?_
        exact ih hp
      · replace hp := gw_t z hp
        refine gw_iconst X 33 dX0_wishing_32 rfl gw_ci_1 ?_
        refine gw_iload_n X 34 3 dX0_wishing_33 rfl rfl rfl ?_
        refine gw_ishl X 35 dX0_wishing_34 rfl ?_
        refine gw_goto X 39 dX0_wishing_35 rfl ?_
        refine gw_ior X 40 dX0_wishing_39 rfl ?_
        refine gw_istore_n X 41 [(2, .int (c2 ||| ((1 : Int32) <<< (c3 &&& 31)))), (0, .ref (a 0)), (1, .int v1), (3, .int c3)] dX0_wishing_40 rfl rfl (by decide) rfl ?_
        refine gw_iinc X 44 3 [(3, .int (c3 + 1)), (2, .int (c2 ||| ((1 : Int32) <<< (c3 &&& 31)))), (0, .ref (a 0)), (1, .int v1)] dX0_wishing_41 rfl rfl gw_ci_1 (by decide) rfl ?_
        refine gw_goto X 4 dX0_wishing_44 rfl ?_
        refine gw_lv [2, 3, 1, 0] rfl ?_
        exact ih hp
set_option maxHeartbeats 4000000 in
theorem mt_X0_wishing {l : Launch} {D : gw_D} {a : Nat → Nat} {Wr : va_W → Prop} {σ : gw_S} {x1 : Int32} {res : Int32} (hp : fx_X0_wishing σ x1 = some res) : gw_Ct D l yX0_wishing cX0_wishing 4 (some .int) rm_X0_wishing [.ref (a 0), .int x1] (gw_st (wX D a σ) Wr) (gw_pI res (gw_st (wX D a σ) Wr)) := by
  refine gw_ct (own := RX0) [(0, .ref (a 0)), (1, .int x1)] (by decide) rfl (Nat.le_of_ble_eq_true rfl) rfl ?_
  intro E X
  unfold fx_X0_wishing at hp
  refine gw_iconst X 1 dX0_wishing_0 rfl gw_ci_0 ?_
  refine gw_istore_n X 2 [(2, .int 0), (0, .ref (a 0)), (1, .int x1)] dX0_wishing_1 rfl rfl (by decide) rfl ?_
  refine gw_iconst X 3 dX0_wishing_2 rfl gw_ci_0 ?_
  refine gw_istore_n X 4 [(3, .int 0), (2, .int 0), (0, .ref (a 0)), (1, .int x1)] dX0_wishing_3 rfl rfl (by decide) rfl ?_
  refine gw_lv [2, 3, 1, 0] rfl ?_
  exact wk_X0_wishing_L4 X hp
abbrev rm_X0_suspects : Room := { frames := 10, cells := 1, slots := 8, locals := 10291 }
def fx_X0_suspects (σ : gw_S) (ρ : gw_R) (x1 : Int32) : Option (Int32) := gw_b1 (fx_X0_asksDeeds σ ρ x1) (fun r1 => (if 0 ≤ r1 then gw_b1 (fx_X0_deedsIn σ ρ x1) (fun r3 => gw_b1 (fx_X0_wishing σ r3) (fun r5 => some r5)) else some r1))
set_option maxHeartbeats 4000000 in
theorem mt_X0_suspects {l : Launch} {D : gw_D} {a : Nat → Nat} {Wr : va_W → Prop} {σ : gw_S} {ρ : gw_R} {KP : va_W → Prop} {x1 : Int32} {res : Int32} (hp : fx_X0_suspects σ ρ x1 = some res) : gw_Ct D l yX0_suspects cX0_suspects 3 (some .int) rm_X0_suspects [.ref (a 0), .int x1] (gw_st (wX D a σ) (gw_sp KP (gw_sp (gS D a ρ) Wr))) (gw_pI res (gw_st (wX D a σ) (gw_sp KP (gw_sp (gS D a ρ) Wr)))) := by
  refine gw_ct (own := RX0) [(0, .ref (a 0)), (1, .int x1)] (by decide) rfl (Nat.le_of_ble_eq_true rfl) rfl ?_
  intro E X
  unfold fx_X0_suspects at hp
  refine gw_aload_n X 1 0 dX0_suspects_0 rfl rfl rfl ?_
  refine gw_iload_n X 2 1 dX0_suspects_1 rfl rfl rfl ?_
  obtain ⟨r1, h2, hp⟩ := gw_b1_some hp
  refine gw_callWi X 5 [.int x1] (mt_X0_asksDeeds h2) lk_X0_317 ydv_X0_asksDeeds gX_cl0 gX_at0 rfl rfl rfl dX0_suspects_2 rfl rfl rfl ?_
  refine gw_istore_n X 6 [(2, .int r1), (0, .ref (a 0)), (1, .int x1)] dX0_suspects_5 rfl rfl (by decide) rfl ?_
  refine gw_iload_n X 7 0 dX0_suspects_6 rfl rfl rfl ?_
  refine gw_if_ge X 14 10 dX0_suspects_7 rfl rfl (fun z => ?_) (fun z => ?_)
  · replace hp := gw_t z hp
    refine gw_aload_n X 15 1 dX0_suspects_14 rfl rfl rfl ?_
    refine gw_aload_n X 16 1 dX0_suspects_15 rfl rfl rfl ?_
    refine gw_iload_n X 17 2 dX0_suspects_16 rfl rfl rfl ?_
    obtain ⟨r3, h4, hp⟩ := gw_b1_some hp
    refine gw_callVi X 20 [.int x1] (mt_X0_deedsIn h4) lk_X0_320 ydv_X0_deedsIn gX_cl0 gX_at0 rfl rfl rfl dX0_suspects_17 rfl rfl rfl ?_
    obtain ⟨r5, h6, hp⟩ := gw_b1_some hp
    refine gw_callVi X 23 [.int r3] (mt_X0_wishing h6) lk_X0_323 ydv_X0_wishing gX_cl0 gX_at0 rfl rfl rfl dX0_suspects_20 rfl rfl rfl ?_
    cases hp
    exact gw_iret X dX0_suspects_23 (fun _ h => ⟨rfl, h⟩) (Nat.le_of_ble_eq_true rfl) (Nat.le_of_ble_eq_true rfl)
  · replace hp := gw_f z hp
    refine gw_iload_n X 11 0 dX0_suspects_10 rfl rfl rfl ?_
    refine gw_goto X 23 dX0_suspects_11 rfl ?_
    cases hp
    exact gw_iret X dX0_suspects_23 (fun _ h => ⟨rfl, h⟩) (Nat.le_of_ble_eq_true rfl) (Nat.le_of_ble_eq_true rfl)
abbrev rm_X0_watchOf : Room := { frames := 3, cells := 0, slots := 0, locals := 66 }
def fx_X0_watchOf_L23 (ρ : gw_R) (v2 : Int32) : Nat → Int32 → Int32 → gw_S → Option (Int32 × gw_S)
  | 0, _, _, _ => none
  | n + 1, c3, c4, σ => (if (6 : Int32) ≤ c4 then some (c3, σ) else gw_b1 (fx_X0_wishing σ ((1 : Int32) <<< (c4 &&& 31))) (fun r5 => (if (if (fx_J13_bitCount (v2 &&& r5)) < ((fx_J13_bitCount v2) - (fx_J13_bitCount (v2 &&& r5))) then ((fx_J13_bitCount v2) - (fx_J13_bitCount (v2 &&& r5))) else (fx_J13_bitCount (v2 &&& r5))) < (σ.1 0 16) then fx_X0_watchOf_L23 ρ v2 n c4 (c4 + 1) (gw_u σ 0 16 (if (fx_J13_bitCount (v2 &&& r5)) < ((fx_J13_bitCount v2) - (fx_J13_bitCount (v2 &&& r5))) then ((fx_J13_bitCount v2) - (fx_J13_bitCount (v2 &&& r5))) else (fx_J13_bitCount (v2 &&& r5)))) else fx_X0_watchOf_L23 ρ v2 n c3 (c4 + 1) σ)))
def fx_X0_watchOf (σ : gw_S) (ρ : gw_R) (x1 : Int32) : Option (Int32 × gw_S) := gw_b1 (fx_X0_deedsIn σ ρ x1) (fun r1 => gw_b1 (fx_X0_wishing σ r1) (fun r3 => fx_X0_watchOf_L23 ρ r3 1000 (-1 : Int32) (0 : Int32) (gw_u σ 0 16 (fx_J13_bitCount r3))))
set_option maxHeartbeats 4000000 in
theorem wk_X0_watchOf_L23 {E : gw_E} {l : Launch} {D : gw_D} {a : Nat → Nat} {Wr : va_W → Prop} {ρ : gw_R} {KP : va_W → Prop} {res : Int32 × gw_S} (X : gw_X E cX0_watchOf 7 RX0 (some .int) l D rm_X0_watchOf (some (gw_pI res.1 (gw_st (wX D a res.2) (gw_sp KP (gw_sp (gS D a ρ) Wr)))))) {v2 : Int32} : ∀ {n : Nat} {c3 : Int32} {c4 : Int32} {σ : gw_S}, fx_X0_watchOf_L23 ρ v2 n c3 c4 σ = some res → gw_W E 23 [(0, .ref (a 0)), (2, .int v2), (3, .int c3), (4, .int c4)] [] (gw_st (wX D a σ) (gw_sp KP (gw_sp (gS D a ρ) Wr))) 0 0 := by
  intro n
  induction n with
  | zero =>
    intro c3 c4 σ hp
    cases (show none = some res from hp)
  | succ n ih =>
    intro c3 c4 σ hp
    rw [fx_X0_watchOf_L23] at hp
    refine gw_iload X 25 3 dX0_watchOf_23 rfl rfl ?_
    refine gw_bipush X 27 dX0_watchOf_25 rfl gw_cb_6 ?_
    refine gw_icmp_ge X 86 30 dX0_watchOf_27 rfl rfl (fun z => ?_) (fun z => ?_)
    · replace hp := gw_t z hp
      refine gw_iload_n X 87 2 dX0_watchOf_86 rfl rfl rfl ?_
      cases hp
      exact gw_iret X dX0_watchOf_87 (fun _ h => ⟨rfl, h⟩) (Nat.le_of_ble_eq_true rfl) (Nat.le_of_ble_eq_true rfl)
    · replace hp := gw_f z hp
      refine gw_iload_n X 31 1 dX0_watchOf_30 rfl rfl rfl ?_
      refine gw_aload_n X 32 0 dX0_watchOf_31 rfl rfl rfl ?_
      refine gw_iconst X 33 dX0_watchOf_32 rfl gw_ci_1 ?_
      refine gw_iload X 35 3 dX0_watchOf_33 rfl rfl ?_
      refine gw_ishl X 36 dX0_watchOf_35 rfl ?_
      obtain ⟨r5, h6, hp⟩ := gw_b1_some hp
      refine gw_callVi X 39 [.int ((1 : Int32) <<< (c4 &&& 31))] (mt_X0_wishing h6) lk_X0_323 ydv_X0_wishing gX_cl0 gX_at0 rfl rfl rfl dX0_watchOf_36 rfl rfl rfl ?_
      refine gw_iand X 40 dX0_watchOf_39 rfl ?_
      refine gw_callSi X 43 [.int (v2 &&& r5)] (mt_J13_bitCount rfl) lk_X0_273 yd_J13_bitCount rfl rfl rfl dX0_watchOf_40 rfl rfl rfl ?_
      refine gw_istore X 45 [(5, .int (fx_J13_bitCount (v2 &&& r5))), (0, .ref (a 0)), (2, .int v2), (3, .int c3), (4, .int c4)] dX0_watchOf_43 rfl (by decide) rfl ?_
      refine gw_iload X 47 0 dX0_watchOf_45 rfl rfl ?_
      refine gw_iload_n X 48 2 dX0_watchOf_47 rfl rfl rfl ?_
      refine gw_callSi X 51 [.int v2] (mt_J13_bitCount rfl) lk_X0_273 yd_J13_bitCount rfl rfl rfl dX0_watchOf_48 rfl rfl rfl ?_
      refine gw_iload X 53 0 dX0_watchOf_51 rfl rfl ?_
      refine gw_isub X 54 dX0_watchOf_53 rfl ?_
      refine gw_mmax X 57 q1121 dX0_watchOf_54 rfl rfl rfl ?_
      refine gw_istore X 59 [(6, .int (if (fx_J13_bitCount (v2 &&& r5)) < ((fx_J13_bitCount v2) - (fx_J13_bitCount (v2 &&& r5))) then ((fx_J13_bitCount v2) - (fx_J13_bitCount (v2 &&& r5))) else (fx_J13_bitCount (v2 &&& r5)))), (5, .int (fx_J13_bitCount (v2 &&& r5))), (0, .ref (a 0)), (2, .int v2), (3, .int c3), (4, .int c4)] dX0_watchOf_57 rfl (by decide) rfl ?_
      refine gw_iload X 61 0 dX0_watchOf_59 rfl rfl ?_
      refine gw_aload_n X 62 2 dX0_watchOf_61 rfl rfl rfl ?_
      refine gX_g0_16 X 65 q313 dX0_watchOf_62 rfl ?_
      refine gw_icmp_lt X 71 68 dX0_watchOf_65 rfl rfl (fun z => ?_) (fun z => ?_)
      · replace hp := gw_t z hp
        refine gw_aload_n X 72 2 dX0_watchOf_71 rfl rfl rfl ?_
        refine gw_iload X 74 0 dX0_watchOf_72 rfl rfl ?_
        refine gX_p0_16 X 77 q313 dX0_watchOf_74 rfl ?_
        refine gw_iload X 79 5 dX0_watchOf_77 rfl rfl ?_
        refine gw_istore_n X 80 [(3, .int c4), (6, .int (if (fx_J13_bitCount (v2 &&& r5)) < ((fx_J13_bitCount v2) - (fx_J13_bitCount (v2 &&& r5))) then ((fx_J13_bitCount v2) - (fx_J13_bitCount (v2 &&& r5))) else (fx_J13_bitCount (v2 &&& r5)))), (5, .int (fx_J13_bitCount (v2 &&& r5))), (0, .ref (a 0)), (2, .int v2), (4, .int c4)] dX0_watchOf_79 rfl rfl (by decide) rfl ?_
        refine gw_iinc X 83 5 [(4, .int (c4 + 1)), (3, .int c4), (6, .int (if (fx_J13_bitCount (v2 &&& r5)) < ((fx_J13_bitCount v2) - (fx_J13_bitCount (v2 &&& r5))) then ((fx_J13_bitCount v2) - (fx_J13_bitCount (v2 &&& r5))) else (fx_J13_bitCount (v2 &&& r5)))), (5, .int (fx_J13_bitCount (v2 &&& r5))), (0, .ref (a 0)), (2, .int v2)] dX0_watchOf_80 rfl rfl gw_ci_1 (by decide) rfl ?_
        refine gw_goto X 23 dX0_watchOf_83 rfl ?_
        refine gw_lv [4, 5, 1, 0] rfl ?_
        exact ih hp
      · replace hp := gw_f z hp
        refine gw_goto X 80 dX0_watchOf_68 rfl ?_
        refine gw_iinc X 83 5 [(4, .int (c4 + 1)), (6, .int (if (fx_J13_bitCount (v2 &&& r5)) < ((fx_J13_bitCount v2) - (fx_J13_bitCount (v2 &&& r5))) then ((fx_J13_bitCount v2) - (fx_J13_bitCount (v2 &&& r5))) else (fx_J13_bitCount (v2 &&& r5)))), (5, .int (fx_J13_bitCount (v2 &&& r5))), (0, .ref (a 0)), (2, .int v2), (3, .int c3)] dX0_watchOf_80 rfl rfl gw_ci_1 (by decide) rfl ?_
        refine gw_goto X 23 dX0_watchOf_83 rfl ?_
        refine gw_lv [3, 4, 5, 0] rfl ?_
        exact ih hp
set_option maxHeartbeats 4000000 in
theorem mt_X0_watchOf {l : Launch} {D : gw_D} {a : Nat → Nat} {Wr : va_W → Prop} {σ : gw_S} {ρ : gw_R} {KP : va_W → Prop} {x1 : Int32} {res : Int32 × gw_S} (hp : fx_X0_watchOf σ ρ x1 = some res) : gw_Ct D l yX0_watchOf cX0_watchOf 7 (some .int) rm_X0_watchOf [.ref (a 0), .int x1] (gw_st (wX D a σ) (gw_sp KP (gw_sp (gS D a ρ) Wr))) (gw_pI res.1 (gw_st (wX D a res.2) (gw_sp KP (gw_sp (gS D a ρ) Wr)))) := by
  refine gw_ct (own := RX0) [(0, .ref (a 0)), (1, .int x1)] (by decide) rfl (Nat.le_of_ble_eq_true rfl) rfl ?_
  intro E X
  unfold fx_X0_watchOf at hp
  refine gw_aload_n X 1 0 dX0_watchOf_0 rfl rfl rfl ?_
  refine gw_aload_n X 2 0 dX0_watchOf_1 rfl rfl rfl ?_
  refine gw_iload_n X 3 1 dX0_watchOf_2 rfl rfl rfl ?_
  obtain ⟨r1, h2, hp⟩ := gw_b1_some hp
  refine gw_callVi X 6 [.int x1] (mt_X0_deedsIn h2) lk_X0_320 ydv_X0_deedsIn gX_cl0 gX_at0 rfl rfl rfl dX0_watchOf_3 rfl rfl rfl ?_
  obtain ⟨r3, h4, hp⟩ := gw_b1_some hp
  refine gw_callVi X 9 [.int r1] (mt_X0_wishing h4) lk_X0_323 ydv_X0_wishing gX_cl0 gX_at0 rfl rfl rfl dX0_watchOf_6 rfl rfl rfl ?_
  refine gw_istore_n X 10 [(2, .int r3), (0, .ref (a 0)), (1, .int x1)] dX0_watchOf_9 rfl rfl (by decide) rfl ?_
  refine gw_aload_n X 11 1 dX0_watchOf_10 rfl rfl rfl ?_
  refine gw_iload_n X 12 0 dX0_watchOf_11 rfl rfl rfl ?_
  refine gw_callSi X 15 [.int r3] (mt_J13_bitCount rfl) lk_X0_273 yd_J13_bitCount rfl rfl rfl dX0_watchOf_12 rfl rfl rfl ?_
  refine gX_p0_16 X 18 q313 dX0_watchOf_15 rfl ?_
  refine gw_iconst X 19 dX0_watchOf_18 rfl gw_ci_m1 ?_
  refine gw_istore_n X 20 [(3, .int (-1)), (2, .int r3), (0, .ref (a 0)), (1, .int x1)] dX0_watchOf_19 rfl rfl (by decide) rfl ?_
  refine gw_iconst X 21 dX0_watchOf_20 rfl gw_ci_0 ?_
  refine gw_istore X 23 [(4, .int 0), (3, .int (-1)), (2, .int r3), (0, .ref (a 0)), (1, .int x1)] dX0_watchOf_21 rfl (by decide) rfl ?_
  refine gw_lv [3, 2, 1, 0] rfl ?_
  exact wk_X0_watchOf_L23 X hp
abbrev rm_X0_watch : Room := { frames := 10, cells := 1, slots := 8, locals := 10291 }
def fx_X0_watch (σ : gw_S) (ρ : gw_R) (x1 : Int32) : Option (Int32 × gw_S) := gw_b1 (fx_X0_asksDeeds σ ρ x1) (fun r1 => (if 0 ≤ r1 then gw_b2 (fx_X0_watchOf σ ρ x1) (fun r3 σ4 => some (r3, σ4)) else some (r1, σ)))
set_option maxHeartbeats 4000000 in
theorem mt_X0_watch {l : Launch} {D : gw_D} {a : Nat → Nat} {Wr : va_W → Prop} {σ : gw_S} {ρ : gw_R} {KP : va_W → Prop} {x1 : Int32} {res : Int32 × gw_S} (hp : fx_X0_watch σ ρ x1 = some res) : gw_Ct D l yX0_watch cX0_watch 3 (some .int) rm_X0_watch [.ref (a 0), .int x1] (gw_st (wX D a σ) (gw_sp KP (gw_sp (gS D a ρ) Wr))) (gw_pI res.1 (gw_st (wX D a res.2) (gw_sp KP (gw_sp (gS D a ρ) Wr)))) := by
  refine gw_ct (own := RX0) [(0, .ref (a 0)), (1, .int x1)] (by decide) rfl (Nat.le_of_ble_eq_true rfl) rfl ?_
  intro E X
  unfold fx_X0_watch at hp
  refine gw_aload_n X 1 0 dX0_watch_0 rfl rfl rfl ?_
  refine gw_iload_n X 2 1 dX0_watch_1 rfl rfl rfl ?_
  obtain ⟨r1, h2, hp⟩ := gw_b1_some hp
  refine gw_callWi X 5 [.int x1] (mt_X0_asksDeeds h2) lk_X0_317 ydv_X0_asksDeeds gX_cl0 gX_at0 rfl rfl rfl dX0_watch_2 rfl rfl rfl ?_
  refine gw_istore_n X 6 [(2, .int r1), (0, .ref (a 0)), (1, .int x1)] dX0_watch_5 rfl rfl (by decide) rfl ?_
  refine gw_iload_n X 7 0 dX0_watch_6 rfl rfl rfl ?_
  refine gw_if_ge X 14 10 dX0_watch_7 rfl rfl (fun z => ?_) (fun z => ?_)
  · replace hp := gw_t z hp
    refine gw_aload_n X 15 1 dX0_watch_14 rfl rfl rfl ?_
    refine gw_iload_n X 16 2 dX0_watch_15 rfl rfl rfl ?_
    obtain ⟨r3, σ4, h5, hp⟩ := gw_b2_some hp
    refine gw_callVi X 19 [.int x1] (mt_X0_watchOf h5) lk_X0_332 ydv_X0_watchOf gX_cl0 gX_at0 rfl rfl rfl dX0_watch_16 rfl rfl rfl ?_
    cases hp
    exact gw_iret X dX0_watch_19 (fun _ h => ⟨rfl, h⟩) (Nat.le_of_ble_eq_true rfl) (Nat.le_of_ble_eq_true rfl)
  · replace hp := gw_f z hp
    refine gw_iload_n X 11 0 dX0_watch_10 rfl rfl rfl ?_
    refine gw_goto X 19 dX0_watch_11 rfl ?_
    cases hp
    exact gw_iret X dX0_watch_19 (fun _ h => ⟨rfl, h⟩) (Nat.le_of_ble_eq_true rfl) (Nat.le_of_ble_eq_true rfl)
abbrev rm_X0_leaves : Room := { frames := 10, cells := 1, slots := 8, locals := 10291 }
def fx_X0_leaves (σ : gw_S) (ρ : gw_R) (x1 : Int32) : Option (Int32 × gw_S) := gw_b1 (fx_X0_asksDeeds σ ρ x1) (fun r1 => (if 0 ≤ r1 then gw_b2 (fx_X0_watchOf σ ρ x1) (fun r3 σ4 => some (σ4.1 0 16, σ4)) else some (r1, σ)))
set_option maxHeartbeats 4000000 in
theorem mt_X0_leaves {l : Launch} {D : gw_D} {a : Nat → Nat} {Wr : va_W → Prop} {σ : gw_S} {ρ : gw_R} {KP : va_W → Prop} {x1 : Int32} {res : Int32 × gw_S} (hp : fx_X0_leaves σ ρ x1 = some res) : gw_Ct D l yX0_leaves cX0_leaves 3 (some .int) rm_X0_leaves [.ref (a 0), .int x1] (gw_st (wX D a σ) (gw_sp KP (gw_sp (gS D a ρ) Wr))) (gw_pI res.1 (gw_st (wX D a res.2) (gw_sp KP (gw_sp (gS D a ρ) Wr)))) := by
  refine gw_ct (own := RX0) [(0, .ref (a 0)), (1, .int x1)] (by decide) rfl (Nat.le_of_ble_eq_true rfl) rfl ?_
  intro E X
  unfold fx_X0_leaves at hp
  refine gw_aload_n X 1 0 dX0_leaves_0 rfl rfl rfl ?_
  refine gw_iload_n X 2 1 dX0_leaves_1 rfl rfl rfl ?_
  obtain ⟨r1, h2, hp⟩ := gw_b1_some hp
  refine gw_callWi X 5 [.int x1] (mt_X0_asksDeeds h2) lk_X0_317 ydv_X0_asksDeeds gX_cl0 gX_at0 rfl rfl rfl dX0_leaves_2 rfl rfl rfl ?_
  refine gw_istore_n X 6 [(2, .int r1), (0, .ref (a 0)), (1, .int x1)] dX0_leaves_5 rfl rfl (by decide) rfl ?_
  refine gw_iload_n X 7 0 dX0_leaves_6 rfl rfl rfl ?_
  refine gw_if_ge X 12 10 dX0_leaves_7 rfl rfl (fun z => ?_) (fun z => ?_)
  · replace hp := gw_t z hp
    refine gw_aload_n X 13 1 dX0_leaves_12 rfl rfl rfl ?_
    refine gw_iload_n X 14 2 dX0_leaves_13 rfl rfl rfl ?_
    obtain ⟨r3, σ4, h5, hp⟩ := gw_b2_some hp
    refine gw_callVi X 17 [.int x1] (mt_X0_watchOf h5) lk_X0_332 ydv_X0_watchOf gX_cl0 gX_at0 rfl rfl rfl dX0_leaves_14 rfl rfl rfl ?_
    refine gw_pop X 18 dX0_leaves_17 rfl rfl ?_
    refine gw_aload_n X 19 1 dX0_leaves_18 rfl rfl rfl ?_
    refine gX_g0_16 X 22 q313 dX0_leaves_19 rfl ?_
    cases hp
    exact gw_iret X dX0_leaves_22 (fun _ h => ⟨rfl, h⟩) (Nat.le_of_ble_eq_true rfl) (Nat.le_of_ble_eq_true rfl)
  · replace hp := gw_f z hp
    refine gw_iload_n X 11 0 dX0_leaves_10 rfl rfl rfl ?_
    cases hp
    exact gw_iret X dX0_leaves_11 (fun _ h => ⟨rfl, h⟩) (Nat.le_of_ble_eq_true rfl) (Nat.le_of_ble_eq_true rfl)
abbrev rm_X0_proof : Room := { frames := 10, cells := 1, slots := 8, locals := 10291 }
def fx_X0_proof_L25 (ρ : gw_R) (σ : gw_S) (v3 : Int32) : Nat → Int32 → Int32 → Option (Int32)
  | 0, _, _ => none
  | n + 1, c4, c5 => (if v3 < c5 then some c4 else (if (c5 &&& (v3 ^^^ (-1 : Int32))) = 0 then gw_b1 (fx_X0_wishing σ c5) (fun r5 => gw_b1 (fx_X0_wishing σ v3) (fun r7 => (if r5 = r7 then fx_X0_proof_L25 ρ σ v3 n (if (fx_J13_bitCount c5) < c4 then (fx_J13_bitCount c5) else c4) (c5 + 1) else fx_X0_proof_L25 ρ σ v3 n c4 (c5 + 1)))) else fx_X0_proof_L25 ρ σ v3 n c4 (c5 + 1)))
def fx_X0_proof (σ : gw_S) (ρ : gw_R) (x1 : Int32) : Option (Int32) := gw_b1 (fx_X0_asksDeeds σ ρ x1) (fun r1 => (if 0 ≤ r1 then gw_b1 (fx_X0_deedsIn σ ρ x1) (fun r3 => fx_X0_proof_L25 ρ σ r3 1000 (6 : Int32) (0 : Int32)) else some r1))
set_option maxHeartbeats 4000000 in
theorem wk_X0_proof_L25 {E : gw_E} {l : Launch} {D : gw_D} {a : Nat → Nat} {Wr : va_W → Prop} {σ : gw_S} {ρ : gw_R} {KP : va_W → Prop} {res : Int32} (X : gw_X E cX0_proof 6 RX0 (some .int) l D rm_X0_proof (some (gw_pI res (gw_st (wX D a σ) (gw_sp KP (gw_sp (gS D a ρ) Wr)))))) {v3 : Int32} : ∀ {n : Nat} {c4 : Int32} {c5 : Int32}, fx_X0_proof_L25 ρ σ v3 n c4 c5 = some res → gw_W E 25 [(0, .ref (a 0)), (3, .int v3), (4, .int c4), (5, .int c5)] [] (gw_st (wX D a σ) (gw_sp KP (gw_sp (gS D a ρ) Wr))) 1 8 := by
  intro n
  induction n with
  | zero =>
    intro c4 c5 hp
    cases (show none = some res from hp)
  | succ n ih =>
    intro c4 c5 hp
    rw [fx_X0_proof_L25] at hp
    refine gw_iload X 27 3 dX0_proof_25 rfl rfl ?_
    refine gw_iload_n X 28 1 dX0_proof_27 rfl rfl rfl ?_
    refine gw_icmp_gt X 72 31 dX0_proof_28 rfl rfl (fun z => ?_) (fun z => ?_)
    · replace hp := gw_t z hp
      refine gw_iload X 74 2 dX0_proof_72 rfl rfl ?_
      cases hp
      exact gw_iret X dX0_proof_74 (fun _ h => ⟨rfl, h⟩) (Nat.le_of_ble_eq_true rfl) (Nat.le_of_ble_eq_true rfl)
    · replace hp := gw_f z hp
      refine gw_iload X 33 3 dX0_proof_31 rfl rfl ?_
      refine gw_iload_n X 34 1 dX0_proof_33 rfl rfl rfl ?_
      refine gw_iconst X 35 dX0_proof_34 rfl gw_ci_m1 ?_
      refine gw_ixor X 36 dX0_proof_35 rfl ?_
      refine gw_iand X 37 dX0_proof_36 rfl ?_
      refine gw_if_ne X 66 40 dX0_proof_37 rfl rfl (fun z => ?_) (fun z => ?_)
      · replace hp := gw_f z hp
        refine gw_iinc X 69 3 [(5, .int (c5 + 1)), (0, .ref (a 0)), (3, .int v3), (4, .int c4)] dX0_proof_66 rfl rfl gw_ci_1 (by decide) rfl ?_
        refine gw_goto X 25 dX0_proof_69 rfl ?_
        refine gw_lv [1, 2, 3, 0] rfl ?_
        exact ih hp
      · replace hp := gw_t z hp
        refine gw_aload_n X 41 0 dX0_proof_40 rfl rfl rfl ?_
        refine gw_iload X 43 3 dX0_proof_41 rfl rfl ?_
        obtain ⟨r5, h6, hp⟩ := gw_b1_some hp
        refine gw_callVi X 46 [.int c5] (mt_X0_wishing h6) lk_X0_323 ydv_X0_wishing gX_cl0 gX_at0 rfl rfl rfl dX0_proof_43 rfl rfl rfl ?_
        refine gw_aload_n X 47 0 dX0_proof_46 rfl rfl rfl ?_
        refine gw_iload_n X 48 1 dX0_proof_47 rfl rfl rfl ?_
        obtain ⟨r7, h8, hp⟩ := gw_b1_some hp
        refine gw_callVi X 51 [.int v3] (mt_X0_wishing h8) lk_X0_323 ydv_X0_wishing gX_cl0 gX_at0 rfl rfl rfl dX0_proof_48 rfl rfl rfl ?_
        refine gw_icmp_ne X 66 54 dX0_proof_51 rfl rfl (fun z => ?_) (fun z => ?_)
        · replace hp := gw_f z hp
          refine gw_iinc X 69 3 [(5, .int (c5 + 1)), (0, .ref (a 0)), (3, .int v3), (4, .int c4)] dX0_proof_66 rfl rfl gw_ci_1 (by decide) rfl ?_
          refine gw_goto X 25 dX0_proof_69 rfl ?_
          refine gw_lv [1, 2, 3, 0] rfl ?_
          exact ih hp
        · replace hp := gw_t z hp
          refine gw_iload X 56 2 dX0_proof_54 rfl rfl ?_
          refine gw_iload X 58 3 dX0_proof_56 rfl rfl ?_
          refine gw_callSi X 61 [.int c5] (mt_J13_bitCount rfl) lk_X0_273 yd_J13_bitCount rfl rfl rfl dX0_proof_58 rfl rfl rfl ?_
          refine gw_mmin X 64 q875 dX0_proof_61 rfl rfl rfl ?_
          refine gw_istore X 66 [(4, .int (if (fx_J13_bitCount c5) < c4 then (fx_J13_bitCount c5) else c4)), (0, .ref (a 0)), (3, .int v3), (5, .int c5)] dX0_proof_64 rfl (by decide) rfl ?_
          refine gw_iinc X 69 3 [(5, .int (c5 + 1)), (4, .int (if (fx_J13_bitCount c5) < c4 then (fx_J13_bitCount c5) else c4)), (0, .ref (a 0)), (3, .int v3)] dX0_proof_66 rfl rfl gw_ci_1 (by decide) rfl ?_
          refine gw_goto X 25 dX0_proof_69 rfl ?_
          refine gw_lv [2, 3, 1, 0] rfl ?_
          exact ih hp
set_option maxHeartbeats 4000000 in
theorem mt_X0_proof {l : Launch} {D : gw_D} {a : Nat → Nat} {Wr : va_W → Prop} {σ : gw_S} {ρ : gw_R} {KP : va_W → Prop} {x1 : Int32} {res : Int32} (hp : fx_X0_proof σ ρ x1 = some res) : gw_Ct D l yX0_proof cX0_proof 6 (some .int) rm_X0_proof [.ref (a 0), .int x1] (gw_st (wX D a σ) (gw_sp KP (gw_sp (gS D a ρ) Wr))) (gw_pI res (gw_st (wX D a σ) (gw_sp KP (gw_sp (gS D a ρ) Wr)))) := by
  refine gw_ct (own := RX0) [(0, .ref (a 0)), (1, .int x1)] (by decide) rfl (Nat.le_of_ble_eq_true rfl) rfl ?_
  intro E X
  unfold fx_X0_proof at hp
  refine gw_aload_n X 1 0 dX0_proof_0 rfl rfl rfl ?_
  refine gw_iload_n X 2 1 dX0_proof_1 rfl rfl rfl ?_
  obtain ⟨r1, h2, hp⟩ := gw_b1_some hp
  refine gw_callWi X 5 [.int x1] (mt_X0_asksDeeds h2) lk_X0_317 ydv_X0_asksDeeds gX_cl0 gX_at0 rfl rfl rfl dX0_proof_2 rfl rfl rfl ?_
  refine gw_istore_n X 6 [(2, .int r1), (0, .ref (a 0)), (1, .int x1)] dX0_proof_5 rfl rfl (by decide) rfl ?_
  refine gw_iload_n X 7 0 dX0_proof_6 rfl rfl rfl ?_
  refine gw_if_ge X 12 10 dX0_proof_7 rfl rfl (fun z => ?_) (fun z => ?_)
  · replace hp := gw_t z hp
    refine gw_aload_n X 13 1 dX0_proof_12 rfl rfl rfl ?_
    refine gw_iload_n X 14 2 dX0_proof_13 rfl rfl rfl ?_
    obtain ⟨r3, h4, hp⟩ := gw_b1_some hp
    refine gw_callVi X 17 [.int x1] (mt_X0_deedsIn h4) lk_X0_320 ydv_X0_deedsIn gX_cl0 gX_at0 rfl rfl rfl dX0_proof_14 rfl rfl rfl ?_
    refine gw_istore_n X 18 [(3, .int r3), (2, .int r1), (0, .ref (a 0)), (1, .int x1)] dX0_proof_17 rfl rfl (by decide) rfl ?_
    refine gw_bipush X 20 dX0_proof_18 rfl gw_cb_6 ?_
    refine gw_istore X 22 [(4, .int 6), (3, .int r3), (2, .int r1), (0, .ref (a 0)), (1, .int x1)] dX0_proof_20 rfl (by decide) rfl ?_
    refine gw_iconst X 23 dX0_proof_22 rfl gw_ci_0 ?_
    refine gw_istore X 25 [(5, .int 0), (4, .int 6), (3, .int r3), (2, .int r1), (0, .ref (a 0)), (1, .int x1)] dX0_proof_23 rfl (by decide) rfl ?_
    refine gw_lv [4, 2, 1, 0] rfl ?_
    exact wk_X0_proof_L25 X hp
  · replace hp := gw_f z hp
    refine gw_iload_n X 11 0 dX0_proof_10 rfl rfl rfl ?_
    cases hp
    exact gw_iret X dX0_proof_11 (fun _ h => ⟨rfl, h⟩) (Nat.le_of_ble_eq_true rfl) (Nat.le_of_ble_eq_true rfl)
abbrev rm_X0_divisor : Room := { frames := 0, cells := 0, slots := 0, locals := 0 }
def fx_X0_divisor_L4  : Nat → Int32 → Int32 → Option (Int32)
  | 0, _, _ => none
  | n + 1, c2, c3 => (if c3 = 0 then some c2 else gw_cz c3 (fx_X0_divisor_L4  n c3 (c2 - c2 / c3 * c3)))
def fx_X0_divisor (x0 : Int32) (x1 : Int32) : Option (Int32) := fx_X0_divisor_L4  1000 x0 x1
set_option maxHeartbeats 4000000 in
theorem wk_X0_divisor_L4 {E : gw_E} {l : Launch} {D : gw_D} {Ws : va_W → Prop} {res : Int32} (X : gw_X E cX0_divisor 5 RX0 (some .int) l D rm_X0_divisor (some (gw_pI res Ws)))  : ∀ {n : Nat} {c2 : Int32} {c3 : Int32}, fx_X0_divisor_L4  n c2 c3 = some res → gw_W E 4 [(2, .int c2), (3, .int c3)] [] Ws 0 0 := by
  intro n
  induction n with
  | zero =>
    intro c2 c3 hp
    cases (show none = some res from hp)
  | succ n ih =>
    intro c2 c3 hp
    rw [fx_X0_divisor_L4] at hp
    refine gw_iload_n X 5 1 dX0_divisor_4 rfl rfl rfl ?_
    refine gw_if_eq X 21 8 dX0_divisor_5 rfl rfl (fun z => ?_) (fun z => ?_)
    · replace hp := gw_t z hp
      refine gw_iload_n X 22 0 dX0_divisor_21 rfl rfl rfl ?_
      cases hp
      exact gw_iret X dX0_divisor_22 (fun _ h => ⟨rfl, h⟩) (Nat.le_of_ble_eq_true rfl) (Nat.le_of_ble_eq_true rfl)
    · replace hp := gw_f z hp
      refine gw_iload_n X 9 0 dX0_divisor_8 rfl rfl rfl ?_
      refine gw_iload_n X 10 1 dX0_divisor_9 rfl rfl rfl ?_
      obtain ⟨hz, hp⟩ := gw_cz_some hp
      refine gw_irem X 11 dX0_divisor_10 rfl hz ?_
      refine gw_istore X 13 [(4, .int (c2 - c2 / c3 * c3)), (2, .int c2), (3, .int c3)] dX0_divisor_11 rfl (by decide) rfl ?_
      refine gw_iload_n X 14 2 dX0_divisor_13 rfl rfl rfl ?_
      refine gw_istore_n X 15 [(2, .int c3), (4, .int (c2 - c2 / c3 * c3)), (3, .int c3)] dX0_divisor_14 rfl rfl (by decide) rfl ?_
      refine gw_iload X 17 1 dX0_divisor_15 rfl rfl ?_
      refine gw_istore_n X 18 [(3, .int (c2 - c2 / c3 * c3)), (2, .int c3), (4, .int (c2 - c2 / c3 * c3))] dX0_divisor_17 rfl rfl (by decide) rfl ?_
      refine gw_goto X 4 dX0_divisor_18 rfl ?_
      refine gw_lv [1, 0] rfl ?_
      exact ih hp
set_option maxHeartbeats 4000000 in
theorem mt_X0_divisor {l : Launch} {D : gw_D} {Ws : va_W → Prop} {x0 : Int32} {x1 : Int32} {res : Int32} (hp : fx_X0_divisor x0 x1 = some res) : gw_Ct D l yX0_divisor cX0_divisor 5 (some .int) rm_X0_divisor [.int x0, .int x1] Ws (gw_pI res Ws) := by
  refine gw_ct (own := RX0) [(0, .int x0), (1, .int x1)] (by decide) rfl (Nat.le_of_ble_eq_true rfl) rfl ?_
  intro E X
  unfold fx_X0_divisor at hp
  refine gw_iload_n X 1 0 dX0_divisor_0 rfl rfl rfl ?_
  refine gw_istore_n X 2 [(2, .int x0), (0, .int x0), (1, .int x1)] dX0_divisor_1 rfl rfl (by decide) rfl ?_
  refine gw_iload_n X 3 2 dX0_divisor_2 rfl rfl rfl ?_
  refine gw_istore_n X 4 [(3, .int x1), (2, .int x0), (0, .int x0), (1, .int x1)] dX0_divisor_3 rfl rfl (by decide) rfl ?_
  refine gw_lv [1, 0] rfl ?_
  exact wk_X0_divisor_L4 X hp
abbrev rm_X0_won : Room := { frames := 0, cells := 0, slots := 0, locals := 0 }
def fx_X0_won (σ : gw_S) (x1 : Int32) (x2 : Int32) : Option (Int32) := gw_ck x1 8 (gw_ck x2 8 ((if (σ.1 9 (Int32.toNatClampNeg x1)) ≤ (σ.1 9 (Int32.toNatClampNeg x2)) then gw_ck x1 8 (gw_ck x2 8 ((if (σ.1 9 (Int32.toNatClampNeg x2)) ≤ (σ.1 9 (Int32.toNatClampNeg x1)) then some 0 else gw_ck x1 8 (some (-(σ.1 9 (Int32.toNatClampNeg x1))))))) else gw_ck x2 8 (some (σ.1 9 (Int32.toNatClampNeg x2))))))
set_option maxHeartbeats 4000000 in
theorem mt_X0_won {l : Launch} {D : gw_D} {a : Nat → Nat} {Wr : va_W → Prop} {σ : gw_S} {x1 : Int32} {x2 : Int32} {res : Int32} (hp : fx_X0_won σ x1 x2 = some res) : gw_Ct D l yX0_won cX0_won 3 (some .int) rm_X0_won [.ref (a 0), .int x1, .int x2] (gw_st (wX D a σ) Wr) (gw_pI res (gw_st (wX D a σ) Wr)) := by
  refine gw_ct (own := RX0) [(0, .ref (a 0)), (1, .int x1), (2, .int x2)] (by decide) rfl (Nat.le_of_ble_eq_true rfl) rfl ?_
  intro E X
  unfold fx_X0_won at hp
  refine gw_aload_n X 1 0 dX0_won_0 rfl rfl rfl ?_
  refine gX_g0_0 X 4 q280 dX0_won_1 rfl ?_
  refine gX_g1_6N X 7 q204 dX0_won_4 rfl ?_
  refine gw_iload_n X 8 1 dX0_won_7 rfl rfl rfl ?_
  obtain ⟨hc, hp⟩ := gw_ck_some hp
  refine gX_l9 X 9 (Int32.toNatClampNeg x1) hc rfl dX0_won_8 rfl ?_
  refine gw_aload_n X 10 0 dX0_won_9 rfl rfl rfl ?_
  refine gX_g0_0 X 13 q280 dX0_won_10 rfl ?_
  refine gX_g1_6N X 16 q204 dX0_won_13 rfl ?_
  refine gw_iload_n X 17 2 dX0_won_16 rfl rfl rfl ?_
  obtain ⟨hc, hp⟩ := gw_ck_some hp
  refine gX_l9 X 18 (Int32.toNatClampNeg x2) hc rfl dX0_won_17 rfl ?_
  refine gw_icmp_le X 33 21 dX0_won_18 rfl rfl (fun z => ?_) (fun z => ?_)
  · replace hp := gw_t z hp
    refine gw_aload_n X 34 0 dX0_won_33 rfl rfl rfl ?_
    refine gX_g0_0 X 37 q280 dX0_won_34 rfl ?_
    refine gX_g1_6N X 40 q204 dX0_won_37 rfl ?_
    refine gw_iload_n X 41 1 dX0_won_40 rfl rfl rfl ?_
    obtain ⟨hc, hp⟩ := gw_ck_some hp
    refine gX_l9 X 42 (Int32.toNatClampNeg x1) hc rfl dX0_won_41 rfl ?_
    refine gw_aload_n X 43 0 dX0_won_42 rfl rfl rfl ?_
    refine gX_g0_0 X 46 q280 dX0_won_43 rfl ?_
    refine gX_g1_6N X 49 q204 dX0_won_46 rfl ?_
    refine gw_iload_n X 50 2 dX0_won_49 rfl rfl rfl ?_
    obtain ⟨hc, hp⟩ := gw_ck_some hp
    refine gX_l9 X 51 (Int32.toNatClampNeg x2) hc rfl dX0_won_50 rfl ?_
    refine gw_icmp_ge X 67 54 dX0_won_51 rfl rfl (fun z => ?_) (fun z => ?_)
    · replace hp := gw_t z hp
      refine gw_iconst X 68 dX0_won_67 rfl gw_ci_0 ?_
      cases hp
      exact gw_iret X dX0_won_68 (fun _ h => ⟨rfl, h⟩) (Nat.le_of_ble_eq_true rfl) (Nat.le_of_ble_eq_true rfl)
    · replace hp := gw_f z hp
      refine gw_aload_n X 55 0 dX0_won_54 rfl rfl rfl ?_
      refine gX_g0_0 X 58 q280 dX0_won_55 rfl ?_
      refine gX_g1_6N X 61 q204 dX0_won_58 rfl ?_
      refine gw_iload_n X 62 1 dX0_won_61 rfl rfl rfl ?_
      obtain ⟨hc, hp⟩ := gw_ck_some hp
      refine gX_l9 X 63 (Int32.toNatClampNeg x1) hc rfl dX0_won_62 rfl ?_
      refine gw_ineg X 64 dX0_won_63 rfl ?_
      refine gw_goto X 68 dX0_won_64 rfl ?_
      cases hp
      exact gw_iret X dX0_won_68 (fun _ h => ⟨rfl, h⟩) (Nat.le_of_ble_eq_true rfl) (Nat.le_of_ble_eq_true rfl)
  · replace hp := gw_f z hp
    refine gw_aload_n X 22 0 dX0_won_21 rfl rfl rfl ?_
    refine gX_g0_0 X 25 q280 dX0_won_22 rfl ?_
    refine gX_g1_6N X 28 q204 dX0_won_25 rfl ?_
    refine gw_iload_n X 29 2 dX0_won_28 rfl rfl rfl ?_
    obtain ⟨hc, hp⟩ := gw_ck_some hp
    refine gX_l9 X 30 (Int32.toNatClampNeg x2) hc rfl dX0_won_29 rfl ?_
    refine gw_goto X 68 dX0_won_30 rfl ?_
    cases hp
    exact gw_iret X dX0_won_68 (fun _ h => ⟨rfl, h⟩) (Nat.le_of_ble_eq_true rfl) (Nat.le_of_ble_eq_true rfl)
