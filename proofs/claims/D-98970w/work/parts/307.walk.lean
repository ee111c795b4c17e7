set_option maxRecDepth 100000
abbrev rm_X3_leaveOf : Room := { frames := 3, cells := 0, slots := 0, locals := 68 }
def fx_X3_leaveOf_L4 (σ : gw_S) (v1 : Int32) : Nat → Int32 → Int32 → Option (Int32)
  | 0, _, _ => none
  | n + 1, c2, c3 => (if (σ.1 7 1) ≤ c3 then some c2 else (if fx_X3_isBit v1 c3 = true then gw_b1 (fx_X3_winsOf σ v1 c3) (fun r1 => (if 0 ≤ r1 then fx_X3_leaveOf_L4 σ v1 n (c2 ||| (0 : Int32)) (c3 + 1) else fx_X3_leaveOf_L4 σ v1 n (c2 ||| ((1 : Int32) <<< (c3 &&& 31))) (c3 + 1))) else fx_X3_leaveOf_L4 σ v1 n (c2 ||| (0 : Int32)) (c3 + 1)))
def fx_X3_leaveOf (σ : gw_S) (x1 : Int32) : Option (Int32) := fx_X3_leaveOf_L4 σ x1 1000 (0 : Int32) (0 : Int32)
set_option maxHeartbeats 4000000 in
theorem wk_X3_leaveOf_L4 {E : gw_E} {l : Launch} {D : gw_D} {a : Nat → Nat} {Wr : va_W → Prop} {σ : gw_S} {res : Int32} (X : gw_X E cX3_leaveOf 4 RX3 (some .int) l D rm_X3_leaveOf (some (gw_pI res (gw_st (wM D a σ) Wr)))) {v1 : Int32} : ∀ {n : Nat} {c2 : Int32} {c3 : Int32}, fx_X3_leaveOf_L4 σ v1 n c2 c3 = some res → gw_W E 4 [(0, .ref (a 0)), (1, .int v1), (2, .int c2), (3, .int c3)] [] (gw_st (wM D a σ) Wr) 0 0 := by
  intro n
  induction n with
  | zero =>
    intro c2 c3 hp
    cases (show none = some res from hp)
  | succ n ih =>
    intro c2 c3 hp
    rw [fx_X3_leaveOf_L4] at hp
    refine gw_iload_n X 5 3 dX3_leaveOf_4 rfl rfl rfl ?_
    refine gw_aload_n X 6 0 dX3_leaveOf_5 rfl rfl rfl ?_
    refine gM_g0_17 X 9 q1411 dX3_leaveOf_6 rfl ?_
    refine gw_iconst X 10 dX3_leaveOf_9 rfl gw_ci_1 ?_
    refine gM_l7 X 11 1 (gw_in rfl) rfl dX3_leaveOf_10 rfl ?_
    refine gw_icmp_ge X 47 14 dX3_leaveOf_11 rfl rfl (fun z => ?_) (fun z => ?_)
    · replace hp := gw_t z hp
      refine gw_iload_n X 48 2 dX3_leaveOf_47 rfl rfl rfl ?_
      cases hp
      exact gw_iret X dX3_leaveOf_48 (fun _ h => ⟨rfl, h⟩) (Nat.le_of_ble_eq_true rfl) (Nat.le_of_ble_eq_true rfl)
    · replace hp := gw_f z hp
      refine gw_iload_n X 15 2 dX3_leaveOf_14 rfl rfl rfl ?_
      refine gw_iload_n X 16 1 dX3_leaveOf_15 rfl rfl rfl ?_
      refine gw_iload_n X 17 3 dX3_leaveOf_16 rfl rfl rfl ?_
      refine gw_callSi X 20 [.int v1, .int c3] (mt_X3_isBit rfl) lk_X3_239 yd_X3_isBit rfl rfl rfl dX3_leaveOf_17 rfl rfl rfl ?_
      refine gw_if_eqB X 38 23 dX3_leaveOf_20 rfl rfl (fun z => ?_) (fun z => ?_)
      · replace hp := gw_f z hp
        refine gw_iconst X 39 dX3_leaveOf_38 rfl gw_ci_0 ?_
        refine gw_ior X 40 dX3_leaveOf_39 rfl ?_
        refine gw_istore_n X 41 [(2, .int (c2 ||| (0 : Int32))), (0, .ref (a 0)), (1, .int v1), (3, .int c3)] dX3_leaveOf_40 rfl rfl (by decide) rfl ?_
        refine gw_iinc X 44 3 [(3, .int (c3 + 1)), (2, .int (c2 ||| (0 : Int32))), (0, .ref (a 0)), (1, .int v1)] dX3_leaveOf_41 rfl rfl gw_ci_1 (by decide) rfl ?_
        refine gw_goto X 4 dX3_leaveOf_44 rfl ?_
        refine gw_lv [2, 3, 1, 0] rfl ?_
        exact ih hp
      · replace hp := gw_t z hp
        refine gw_aload_n X 24 0 dX3_leaveOf_23 rfl rfl rfl ?_
        refine gw_iload_n X 25 1 dX3_leaveOf_24 rfl rfl rfl ?_
        refine gw_iload_n X 26 3 dX3_leaveOf_25 rfl rfl rfl ?_
        obtain ⟨r1, h2, hp⟩ := gw_b1_some hp
        refine gw_callVi X 29 [.int v1, .int c3] (mt_X3_winsOf h2) lk_X3_367 ydv_X3_winsOf gM_cl0 gM_at0 rfl rfl rfl dX3_leaveOf_26 rfl rfl rfl ?_
        refine gw_if_ge X 38 32 dX3_leaveOf_29 rfl rfl (fun z => ?_) (fun z => ?_)
        · replace hp := gw_t z hp
          refine gw_iconst X 39 dX3_leaveOf_38 rfl gw_ci_0 ?_
          refine gw_ior X 40 dX3_leaveOf_39 rfl ?_
          refine gw_istore_n X 41 [(2, .int (c2 ||| (0 : Int32))), (0, .ref (a 0)), (1, .int v1), (3, .int c3)] dX3_leaveOf_40 rfl rfl (by decide) rfl ?_
          refine gw_iinc X 44 3 [(3, .int (c3 + 1)), (2, .int (c2 ||| (0 : Int32))), (0, .ref (a 0)), (1, .int v1)] dX3_leaveOf_41 rfl rfl gw_ci_1 (by decide) rfl ?_
          refine gw_goto X 4 dX3_leaveOf_44 rfl ?_
          refine gw_lv [2, 3, 1, 0] rfl ?_
          exact ih hp
        · replace hp := gw_f z hp
          refine gw_iconst X 33 dX3_leaveOf_32 rfl gw_ci_1 ?_
          refine gw_iload_n X 34 3 dX3_leaveOf_33 rfl rfl rfl ?_
          refine gw_ishl X 35 dX3_leaveOf_34 rfl ?_
          refine gw_goto X 39 dX3_leaveOf_35 rfl ?_
          refine gw_ior X 40 dX3_leaveOf_39 rfl ?_
          refine gw_istore_n X 41 [(2, .int (c2 ||| ((1 : Int32) <<< (c3 &&& 31)))), (0, .ref (a 0)), (1, .int v1), (3, .int c3)] dX3_leaveOf_40 rfl rfl (by decide) rfl ?_
          refine gw_iinc X 44 3 [(3, .int (c3 + 1)), (2, .int (c2 ||| ((1 : Int32) <<< (c3 &&& 31)))), (0, .ref (a 0)), (1, .int v1)] dX3_leaveOf_41 rfl rfl gw_ci_1 (by decide) rfl ?_
          refine gw_goto X 4 dX3_leaveOf_44 rfl ?_
          refine gw_lv [2, 3, 1, 0] rfl ?_
          exact ih hp
set_option maxHeartbeats 4000000 in
theorem mt_X3_leaveOf {l : Launch} {D : gw_D} {a : Nat → Nat} {Wr : va_W → Prop} {σ : gw_S} {x1 : Int32} {res : Int32} (hp : fx_X3_leaveOf σ x1 = some res) : gw_Ct D l yX3_leaveOf cX3_leaveOf 4 (some .int) rm_X3_leaveOf [.ref (a 0), .int x1] (gw_st (wM D a σ) Wr) (gw_pI res (gw_st (wM D a σ) Wr)) := by
  refine gw_ct (own := RX3) [(0, .ref (a 0)), (1, .int x1)] (by decide) rfl (Nat.le_of_ble_eq_true rfl) rfl ?_
  intro E X
  unfold fx_X3_leaveOf at hp
  refine gw_iconst X 1 dX3_leaveOf_0 rfl gw_ci_0 ?_
  refine gw_istore_n X 2 [(2, .int 0), (0, .ref (a 0)), (1, .int x1)] dX3_leaveOf_1 rfl rfl (by decide) rfl ?_
  refine gw_iconst X 3 dX3_leaveOf_2 rfl gw_ci_0 ?_
  refine gw_istore_n X 4 [(3, .int 0), (2, .int 0), (0, .ref (a 0)), (1, .int x1)] dX3_leaveOf_3 rfl rfl (by decide) rfl ?_
  refine gw_lv [2, 3, 1, 0] rfl ?_
  exact wk_X3_leaveOf_L4 X hp
abbrev rm_X3_firm : Room := { frames := 5, cells := 0, slots := 0, locals := 111 }
def fx_X3_firm (σ : gw_S) (x1 : Int32) : Option (Int32 × gw_S) := gw_let (gw_u σ 0 0 0) (fun σ1 => (if fx_X3_isSet σ1 x1 = true then gw_b1 (fx_X3_laysNow σ1) (fun σ3 => gw_b1 (fx_X3_leaveOf σ3 x1) (fun r5 => (if r5 = 0 then some (1, σ3) else some (0, σ3)))) else some ((-2), σ1)))
set_option maxHeartbeats 4000000 in
theorem mt_X3_firm {l : Launch} {D : gw_D} {a : Nat → Nat} {Wr : va_W → Prop} {σ : gw_S} {x1 : Int32} {res : Int32 × gw_S} (hp : fx_X3_firm σ x1 = some res) : gw_Ct D l yX3_firm cX3_firm 2 (some .int) rm_X3_firm [.ref (a 0), .int x1] (gw_st (wM D a σ) Wr) (gw_pI res.1 (gw_st (wM D a res.2) Wr)) := by
  refine gw_ct (own := RX3) [(0, .ref (a 0)), (1, .int x1)] (by decide) rfl (Nat.le_of_ble_eq_true rfl) rfl ?_
  intro E X
  unfold fx_X3_firm at hp
  refine gw_aload_n X 1 0 dX3_firm_0 rfl rfl rfl ?_
  refine gw_iconst X 2 dX3_firm_1 rfl gw_ci_0 ?_
  refine gM_p0_0 X 5 q1394 dX3_firm_2 rfl ?_
  refine gw_aload_n X 6 0 dX3_firm_5 rfl rfl rfl ?_
  refine gw_iload_n X 7 1 dX3_firm_6 rfl rfl rfl ?_
  obtain ⟨σ1, h2, hp⟩ := gw_let_some hp
  rw [← h2]
  clear h2
  refine gw_callVi X 10 [.int x1] (mt_X3_isSet rfl) lk_X3_370 ydv_X3_isSet gM_cl0 gM_at0 rfl rfl rfl dX3_firm_7 rfl rfl rfl ?_
  refine gw_if_neB X 16 13 dX3_firm_10 rfl rfl (fun z => ?_) (fun z => ?_)
  · replace hp := gw_t z hp
    refine gw_aload_n X 17 0 dX3_firm_16 rfl rfl rfl ?_
    obtain ⟨σ3, h4, hp⟩ := gw_b1_some hp
    refine gw_callVv X 20 [] (mt_X3_laysNow h4) lk_X3_251 ydv_X3_laysNow gM_cl0 gM_at0 rfl rfl rfl dX3_firm_17 rfl rfl rfl ?_
    refine gw_aload_n X 21 0 dX3_firm_20 rfl rfl rfl ?_
    refine gw_iload_n X 22 1 dX3_firm_21 rfl rfl rfl ?_
    obtain ⟨r5, h6, hp⟩ := gw_b1_some hp
    refine gw_callVi X 25 [.int x1] (mt_X3_leaveOf h6) lk_X3_373 ydv_X3_leaveOf gM_cl0 gM_at0 rfl rfl rfl dX3_firm_22 rfl rfl rfl ?_
    refine gw_if_ne X 32 28 dX3_firm_25 rfl rfl (fun z => ?_) (fun z => ?_)
    · replace hp := gw_f z hp
      refine gw_iconst X 33 dX3_firm_32 rfl gw_ci_0 ?_
      cases hp
      exact gw_iret X dX3_firm_33 (fun _ h => ⟨rfl, h⟩) (Nat.le_of_ble_eq_true rfl) (Nat.le_of_ble_eq_true rfl)
    · replace hp := gw_t z hp
      refine gw_iconst X 29 dX3_firm_28 rfl gw_ci_1 ?_
      refine gw_goto X 33 dX3_firm_29 rfl ?_
      cases hp
      exact gw_iret X dX3_firm_33 (fun _ h => ⟨rfl, h⟩) (Nat.le_of_ble_eq_true rfl) (Nat.le_of_ble_eq_true rfl)
  · replace hp := gw_f z hp
    refine gw_bipush X 15 dX3_firm_13 rfl gw_cb_m2 ?_
    cases hp
    exact gw_iret X dX3_firm_15 (fun _ h => ⟨rfl, h⟩) (Nat.le_of_ble_eq_true rfl) (Nat.le_of_ble_eq_true rfl)
abbrev rm_X3_firms : Room := { frames := 5, cells := 0, slots := 0, locals := 111 }
def fx_X3_firms_L23 (σ : gw_S)  : Nat → Int32 → Int32 → Option (Int32 × gw_S)
  | 0, _, _ => none
  | n + 1, c1, c2 => (if ((1 : Int32) <<< ((σ.1 7 1) &&& 31)) ≤ c2 then some (c1, σ) else gw_b1 (fx_X3_leaveOf σ c2) (fun r5 => (if r5 = 0 then fx_X3_firms_L23 σ n (c1 + (1 : Int32)) (c2 + 1) else fx_X3_firms_L23 σ n (c1 + (0 : Int32)) (c2 + 1))))
def fx_X3_firms (σ : gw_S)  : Option (Int32 × gw_S) := gw_let (gw_u σ 0 0 0) (fun σ1 => (if fx_X3_isCity σ1 = true then gw_b1 (fx_X3_laysNow σ1) (fun σ3 => fx_X3_firms_L23 σ3 1000 (0 : Int32) (0 : Int32)) else some ((-2), σ1)))
set_option maxHeartbeats 4000000 in
theorem wk_X3_firms_L23 {E : gw_E} {l : Launch} {D : gw_D} {a : Nat → Nat} {Wr : va_W → Prop} {σ : gw_S} {res : Int32 × gw_S} (X : gw_X E cX3_firms 3 RX3 (some .int) l D rm_X3_firms (some (gw_pI res.1 (gw_st (wM D a res.2) Wr))))  : ∀ {n : Nat} {c1 : Int32} {c2 : Int32}, fx_X3_firms_L23 σ n c1 c2 = some res → gw_W E 23 [(0, .ref (a 0)), (1, .int c1), (2, .int c2)] [] (gw_st (wM D a σ) Wr) 0 0 := by
  intro n
  induction n with
  | zero =>
    intro c1 c2 hp
    cases (show none = some res from hp)
  | succ n ih =>
    intro c1 c2 hp
    rw [fx_X3_firms_L23] at hp
    refine gw_iload_n X 24 2 dX3_firms_23 rfl rfl rfl ?_
    refine gw_iconst X 25 dX3_firms_24 rfl gw_ci_1 ?_
    refine gw_aload_n X 26 0 dX3_firms_25 rfl rfl rfl ?_
    refine gM_g0_17 X 29 q1411 dX3_firms_26 rfl ?_
    refine gw_iconst X 30 dX3_firms_29 rfl gw_ci_1 ?_
    refine gM_l7 X 31 1 (gw_in rfl) rfl dX3_firms_30 rfl ?_
    refine gw_ishl X 32 dX3_firms_31 rfl ?_
    refine gw_icmp_ge X 57 35 dX3_firms_32 rfl rfl (fun z => ?_) (fun z => ?_)
    · replace hp := gw_t z hp
      refine gw_iload_n X 58 1 dX3_firms_57 rfl rfl rfl ?_
      cases hp
      exact gw_iret X dX3_firms_58 (fun _ h => ⟨rfl, h⟩) (Nat.le_of_ble_eq_true rfl) (Nat.le_of_ble_eq_true rfl)
    · replace hp := gw_f z hp
      refine gw_iload_n X 36 1 dX3_firms_35 rfl rfl rfl ?_
      refine gw_aload_n X 37 0 dX3_firms_36 rfl rfl rfl ?_
      refine gw_iload_n X 38 2 dX3_firms_37 rfl rfl rfl ?_
      obtain ⟨r5, h6, hp⟩ := gw_b1_some hp
      refine gw_callVi X 41 [.int c2] (mt_X3_leaveOf h6) lk_X3_373 ydv_X3_leaveOf gM_cl0 gM_at0 rfl rfl rfl dX3_firms_38 rfl rfl rfl ?_
      refine gw_if_ne X 48 44 dX3_firms_41 rfl rfl (fun z => ?_) (fun z => ?_)
      · replace hp := gw_f z hp
        refine gw_iconst X 49 dX3_firms_48 rfl gw_ci_0 ?_
        refine gw_iadd X 50 dX3_firms_49 rfl ?_
        refine gw_istore_n X 51 [(1, .int (c1 + (0 : Int32))), (0, .ref (a 0)), (2, .int c2)] dX3_firms_50 rfl rfl (by decide) rfl ?_
        refine gw_iinc X 54 2 [(2, .int (c2 + 1)), (1, .int (c1 + (0 : Int32))), (0, .ref (a 0))] dX3_firms_51 rfl rfl gw_ci_1 (by decide) rfl ?_
        refine gw_goto X 23 dX3_firms_54 rfl ?_
        refine gw_lv [2, 1, 0] rfl ?_
        exact ih hp
      · replace hp := gw_t z hp
        refine gw_iconst X 45 dX3_firms_44 rfl gw_ci_1 ?_
        refine gw_goto X 49 dX3_firms_45 rfl ?_
        refine gw_iadd X 50 dX3_firms_49 rfl ?_
        refine gw_istore_n X 51 [(1, .int (c1 + (1 : Int32))), (0, .ref (a 0)), (2, .int c2)] dX3_firms_50 rfl rfl (by decide) rfl ?_
        refine gw_iinc X 54 2 [(2, .int (c2 + 1)), (1, .int (c1 + (1 : Int32))), (0, .ref (a 0))] dX3_firms_51 rfl rfl gw_ci_1 (by decide) rfl ?_
        refine gw_goto X 23 dX3_firms_54 rfl ?_
        refine gw_lv [2, 1, 0] rfl ?_
        exact ih hp
set_option maxHeartbeats 4000000 in
theorem mt_X3_firms {l : Launch} {D : gw_D} {a : Nat → Nat} {Wr : va_W → Prop} {σ : gw_S}  {res : Int32 × gw_S} (hp : fx_X3_firms σ  = some res) : gw_Ct D l yX3_firms cX3_firms 3 (some .int) rm_X3_firms [.ref (a 0)] (gw_st (wM D a σ) Wr) (gw_pI res.1 (gw_st (wM D a res.2) Wr)) := by
  refine gw_ct (own := RX3) [(0, .ref (a 0))] (by decide) rfl (Nat.le_of_ble_eq_true rfl) rfl ?_
  intro E X
  unfold fx_X3_firms at hp
  refine gw_aload_n X 1 0 dX3_firms_0 rfl rfl rfl ?_
  refine gw_iconst X 2 dX3_firms_1 rfl gw_ci_0 ?_
  refine gM_p0_0 X 5 q1394 dX3_firms_2 rfl ?_
  refine gw_aload_n X 6 0 dX3_firms_5 rfl rfl rfl ?_
  obtain ⟨σ1, h2, hp⟩ := gw_let_some hp
  rw [← h2]
  clear h2
  refine gw_callVi X 9 [] (mt_X3_isCity rfl) lk_X3_209 ydv_X3_isCity gM_cl0 gM_at0 rfl rfl rfl dX3_firms_6 rfl rfl rfl ?_
  refine gw_if_neB X 15 12 dX3_firms_9 rfl rfl (fun z => ?_) (fun z => ?_)
  · replace hp := gw_t z hp
    refine gw_aload_n X 16 0 dX3_firms_15 rfl rfl rfl ?_
    obtain ⟨σ3, h4, hp⟩ := gw_b1_some hp
    refine gw_callVv X 19 [] (mt_X3_laysNow h4) lk_X3_251 ydv_X3_laysNow gM_cl0 gM_at0 rfl rfl rfl dX3_firms_16 rfl rfl rfl ?_
    refine gw_iconst X 20 dX3_firms_19 rfl gw_ci_0 ?_
    refine gw_istore_n X 21 [(1, .int 0), (0, .ref (a 0))] dX3_firms_20 rfl rfl (by decide) rfl ?_
    refine gw_iconst X 22 dX3_firms_21 rfl gw_ci_0 ?_
    refine gw_istore_n X 23 [(2, .int 0), (1, .int 0), (0, .ref (a 0))] dX3_firms_22 rfl rfl (by decide) rfl ?_
    refine gw_lv [2, 1, 0] rfl ?_
    exact wk_X3_firms_L23 X hp
  · replace hp := gw_f z hp
    refine gw_bipush X 14 dX3_firms_12 rfl gw_cb_m2 ?_
    cases hp
    exact gw_iret X dX3_firms_14 (fun _ h => ⟨rfl, h⟩) (Nat.le_of_ble_eq_true rfl) (Nat.le_of_ble_eq_true rfl)
abbrev rm_X3_firmest : Room := { frames := 5, cells := 0, slots := 0, locals := 111 }
def fx_X3_firmest_L23 (σ : gw_S)  : Nat → Int32 → Int32 → Option (Int32 × gw_S)
  | 0, _, _ => none
  | n + 1, c1, c2 => (if ((1 : Int32) <<< ((σ.1 7 1) &&& 31)) ≤ c2 then some (c1, σ) else gw_b1 (fx_X3_sizeOf c2) (fun r5 => gw_b1 (fx_X3_sizeOf c1) (fun r7 => (if r5 ≤ r7 then fx_X3_firmest_L23 σ n c1 (c2 + 1) else gw_b1 (fx_X3_leaveOf σ c2) (fun r9 => (if r9 = 0 then fx_X3_firmest_L23 σ n c2 (c2 + 1) else fx_X3_firmest_L23 σ n c1 (c2 + 1)))))))
def fx_X3_firmest (σ : gw_S)  : Option (Int32 × gw_S) := gw_let (gw_u σ 0 0 0) (fun σ1 => (if fx_X3_isCity σ1 = true then gw_b1 (fx_X3_laysNow σ1) (fun σ3 => fx_X3_firmest_L23 σ3 1000 (0 : Int32) (0 : Int32)) else some ((-2), σ1)))
set_option maxHeartbeats 4000000 in
theorem wk_X3_firmest_L23 {E : gw_E} {l : Launch} {D : gw_D} {a : Nat → Nat} {Wr : va_W → Prop} {σ : gw_S} {res : Int32 × gw_S} (X : gw_X E cX3_firmest 3 RX3 (some .int) l D rm_X3_firmest (some (gw_pI res.1 (gw_st (wM D a res.2) Wr))))  : ∀ {n : Nat} {c1 : Int32} {c2 : Int32}, fx_X3_firmest_L23 σ n c1 c2 = some res → gw_W E 23 [(0, .ref (a 0)), (1, .int c1), (2, .int c2)] [] (gw_st (wM D a σ) Wr) 0 0 := by
  intro n
  induction n with
  | zero =>
    intro c1 c2 hp
    cases (show none = some res from hp)
  | succ n ih =>
    intro c1 c2 hp
    rw [fx_X3_firmest_L23] at hp
    refine gw_iload_n X 24 2 dX3_firmest_23 rfl rfl rfl ?_
    refine gw_iconst X 25 dX3_firmest_24 rfl gw_ci_1 ?_
    refine gw_aload_n X 26 0 dX3_firmest_25 rfl rfl rfl ?_
    refine gM_g0_17 X 29 q1411 dX3_firmest_26 rfl ?_
    refine gw_iconst X 30 dX3_firmest_29 rfl gw_ci_1 ?_
    refine gM_l7 X 31 1 (gw_in rfl) rfl dX3_firmest_30 rfl ?_
    refine gw_ishl X 32 dX3_firmest_31 rfl ?_
    refine gw_icmp_ge X 62 35 dX3_firmest_32 rfl rfl (fun z => ?_) (fun z => ?_)
    · replace hp := gw_t z hp
      refine gw_iload_n X 63 1 dX3_firmest_62 rfl rfl rfl ?_
      cases hp
      exact gw_iret X dX3_firmest_63 (fun _ h => ⟨rfl, h⟩) (Nat.le_of_ble_eq_true rfl) (Nat.le_of_ble_eq_true rfl)
    · replace hp := gw_f z hp
      refine gw_iload_n X 36 2 dX3_firmest_35 rfl rfl rfl ?_
      obtain ⟨r5, h6, hp⟩ := gw_b1_some hp
      refine gw_callSi X 39 [.int c2] (mt_X3_sizeOf h6) lk_X3_297 yd_X3_sizeOf rfl rfl rfl dX3_firmest_36 rfl rfl rfl ?_
      refine gw_iload_n X 40 1 dX3_firmest_39 rfl rfl rfl ?_
      obtain ⟨r7, h8, hp⟩ := gw_b1_some hp
      refine gw_callSi X 43 [.int c1] (mt_X3_sizeOf h8) lk_X3_297 yd_X3_sizeOf rfl rfl rfl dX3_firmest_40 rfl rfl rfl ?_
      refine gw_icmp_le X 56 46 dX3_firmest_43 rfl rfl (fun z => ?_) (fun z => ?_)
      · replace hp := gw_t z hp
        refine gw_iinc X 59 2 [(2, .int (c2 + 1)), (0, .ref (a 0)), (1, .int c1)] dX3_firmest_56 rfl rfl gw_ci_1 (by decide) rfl ?_
        refine gw_goto X 23 dX3_firmest_59 rfl ?_
        refine gw_lv [1, 2, 0] rfl ?_
        exact ih hp
      · replace hp := gw_f z hp
        refine gw_aload_n X 47 0 dX3_firmest_46 rfl rfl rfl ?_
        refine gw_iload_n X 48 2 dX3_firmest_47 rfl rfl rfl ?_
        obtain ⟨r9, h10, hp⟩ := gw_b1_some hp
        refine gw_callVi X 51 [.int c2] (mt_X3_leaveOf h10) lk_X3_373 ydv_X3_leaveOf gM_cl0 gM_at0 rfl rfl rfl dX3_firmest_48 rfl rfl rfl ?_
        refine gw_if_ne X 56 54 dX3_firmest_51 rfl rfl (fun z => ?_) (fun z => ?_)
        · replace hp := gw_f z hp
          refine gw_iinc X 59 2 [(2, .int (c2 + 1)), (0, .ref (a 0)), (1, .int c1)] dX3_firmest_56 rfl rfl gw_ci_1 (by decide) rfl ?_
          refine gw_goto X 23 dX3_firmest_59 rfl ?_
          refine gw_lv [1, 2, 0] rfl ?_
          exact ih hp
        · replace hp := gw_t z hp
          refine gw_iload_n X 55 2 dX3_firmest_54 rfl rfl rfl ?_
          refine gw_istore_n X 56 [(1, .int c2), (0, .ref (a 0)), (2, .int c2)] dX3_firmest_55 rfl rfl (by decide) rfl ?_
          refine gw_iinc X 59 2 [(2, .int (c2 + 1)), (1, .int c2), (0, .ref (a 0))] dX3_firmest_56 rfl rfl gw_ci_1 (by decide) rfl ?_
          refine gw_goto X 23 dX3_firmest_59 rfl ?_
          refine gw_lv [2, 1, 0] rfl ?_
          exact ih hp
set_option maxHeartbeats 4000000 in
theorem mt_X3_firmest {l : Launch} {D : gw_D} {a : Nat → Nat} {Wr : va_W → Prop} {σ : gw_S}  {res : Int32 × gw_S} (hp : fx_X3_firmest σ  = some res) : gw_Ct D l yX3_firmest cX3_firmest 3 (some .int) rm_X3_firmest [.ref (a 0)] (gw_st (wM D a σ) Wr) (gw_pI res.1 (gw_st (wM D a res.2) Wr)) := by
  refine gw_ct (own := RX3) [(0, .ref (a 0))] (by decide) rfl (Nat.le_of_ble_eq_true rfl) rfl ?_
  intro E X
  unfold fx_X3_firmest at hp
  refine gw_aload_n X 1 0 dX3_firmest_0 rfl rfl rfl ?_
  refine gw_iconst X 2 dX3_firmest_1 rfl gw_ci_0 ?_
  refine gM_p0_0 X 5 q1394 dX3_firmest_2 rfl ?_
  refine gw_aload_n X 6 0 dX3_firmest_5 rfl rfl rfl ?_
  obtain ⟨σ1, h2, hp⟩ := gw_let_some hp
  rw [← h2]
  clear h2
  refine gw_callVi X 9 [] (mt_X3_isCity rfl) lk_X3_209 ydv_X3_isCity gM_cl0 gM_at0 rfl rfl rfl dX3_firmest_6 rfl rfl rfl ?_
  refine gw_if_neB X 15 12 dX3_firmest_9 rfl rfl (fun z => ?_) (fun z => ?_)
  · replace hp := gw_t z hp
    refine gw_aload_n X 16 0 dX3_firmest_15 rfl rfl rfl ?_
    obtain ⟨σ3, h4, hp⟩ := gw_b1_some hp
    refine gw_callVv X 19 [] (mt_X3_laysNow h4) lk_X3_251 ydv_X3_laysNow gM_cl0 gM_at0 rfl rfl rfl dX3_firmest_16 rfl rfl rfl ?_
    refine gw_iconst X 20 dX3_firmest_19 rfl gw_ci_0 ?_
    refine gw_istore_n X 21 [(1, .int 0), (0, .ref (a 0))] dX3_firmest_20 rfl rfl (by decide) rfl ?_
    refine gw_iconst X 22 dX3_firmest_21 rfl gw_ci_0 ?_
    refine gw_istore_n X 23 [(2, .int 0), (1, .int 0), (0, .ref (a 0))] dX3_firmest_22 rfl rfl (by decide) rfl ?_
    refine gw_lv [2, 1, 0] rfl ?_
    exact wk_X3_firmest_L23 X hp
  · replace hp := gw_f z hp
    refine gw_bipush X 14 dX3_firmest_12 rfl gw_cb_m2 ?_
    cases hp
    exact gw_iret X dX3_firmest_14 (fun _ h => ⟨rfl, h⟩) (Nat.le_of_ble_eq_true rfl) (Nat.le_of_ble_eq_true rfl)
abbrev rm_X3_wins : Room := { frames := 5, cells := 0, slots := 0, locals := 111 }
def fx_X3_wins (σ : gw_S) (x1 : Int32) (x2 : Int32) : Option (Int32 × gw_S) := gw_let (gw_u σ 0 0 0) (fun σ1 => (if fx_X3_isSet σ1 x1 = true then (if fx_X3_isPerson σ1 (Int32.toInt64 x2) = true then (if fx_X3_isBit x1 x2 = true then gw_b1 (fx_X3_laysNow σ1) (fun σ3 => gw_b1 (fx_X3_winsOf σ3 x1 x2) (fun r5 => some (r5, σ3))) else some ((-10000), σ1)) else some ((-10000), σ1)) else some ((-10000), σ1)))
set_option maxHeartbeats 4000000 in
theorem mt_X3_wins {l : Launch} {D : gw_D} {a : Nat → Nat} {Wr : va_W → Prop} {σ : gw_S} {x1 : Int32} {x2 : Int32} {res : Int32 × gw_S} (hp : fx_X3_wins σ x1 x2 = some res) : gw_Ct D l yX3_wins cX3_wins 3 (some .int) rm_X3_wins [.ref (a 0), .int x1, .int x2] (gw_st (wM D a σ) Wr) (gw_pI res.1 (gw_st (wM D a res.2) Wr)) := by
  refine gw_ct (own := RX3) [(0, .ref (a 0)), (1, .int x1), (2, .int x2)] (by decide) rfl (Nat.le_of_ble_eq_true rfl) rfl ?_
  intro E X
  unfold fx_X3_wins at hp
  refine gw_aload_n X 1 0 dX3_wins_0 rfl rfl rfl ?_
  refine gw_iconst X 2 dX3_wins_1 rfl gw_ci_0 ?_
  refine gM_p0_0 X 5 q1394 dX3_wins_2 rfl ?_
  refine gw_aload_n X 6 0 dX3_wins_5 rfl rfl rfl ?_
  refine gw_iload_n X 7 1 dX3_wins_6 rfl rfl rfl ?_
  obtain ⟨σ1, h2, hp⟩ := gw_let_some hp
  rw [← h2]
  clear h2
  refine gw_callVi X 10 [.int x1] (mt_X3_isSet rfl) lk_X3_370 ydv_X3_isSet gM_cl0 gM_at0 rfl rfl rfl dX3_wins_7 rfl rfl rfl ?_
  refine gw_if_eqB X 30 13 dX3_wins_10 rfl rfl (fun z => ?_) (fun z => ?_)
  · replace hp := gw_f z hp
    refine gw_sipush X 33 dX3_wins_30 rfl gw_cs_m10000 ?_
    cases hp
    exact gw_iret X dX3_wins_33 (fun _ h => ⟨rfl, h⟩) (Nat.le_of_ble_eq_true rfl) (Nat.le_of_ble_eq_true rfl)
  · replace hp := gw_t z hp
    refine gw_aload_n X 14 0 dX3_wins_13 rfl rfl rfl ?_
    refine gw_iload_n X 15 2 dX3_wins_14 rfl rfl rfl ?_
    refine gw_i2l X 16 dX3_wins_15 rfl ?_
    refine gw_callVi X 19 [.long (Int32.toInt64 x2)] (mt_X3_isPerson rfl) lk_X3_206 ydv_X3_isPerson gM_cl0 gM_at0 rfl rfl rfl dX3_wins_16 rfl rfl rfl ?_
    refine gw_if_eqB X 30 22 dX3_wins_19 rfl rfl (fun z => ?_) (fun z => ?_)
    · replace hp := gw_f z hp
      refine gw_sipush X 33 dX3_wins_30 rfl gw_cs_m10000 ?_
      cases hp
      exact gw_iret X dX3_wins_33 (fun _ h => ⟨rfl, h⟩) (Nat.le_of_ble_eq_true rfl) (Nat.le_of_ble_eq_true rfl)
    · replace hp := gw_t z hp
      refine gw_iload_n X 23 1 dX3_wins_22 rfl rfl rfl ?_
      refine gw_iload_n X 24 2 dX3_wins_23 rfl rfl rfl ?_
      refine gw_callSi X 27 [.int x1, .int x2] (mt_X3_isBit rfl) lk_X3_239 yd_X3_isBit rfl rfl rfl dX3_wins_24 rfl rfl rfl ?_
      refine gw_if_neB X 34 30 dX3_wins_27 rfl rfl (fun z => ?_) (fun z => ?_)
      · replace hp := gw_t z hp
        refine gw_aload_n X 35 0 dX3_wins_34 rfl rfl rfl ?_
        obtain ⟨σ3, h4, hp⟩ := gw_b1_some hp
        refine gw_callVv X 38 [] (mt_X3_laysNow h4) lk_X3_251 ydv_X3_laysNow gM_cl0 gM_at0 rfl rfl rfl dX3_wins_35 rfl rfl rfl ?_
        refine gw_aload_n X 39 0 dX3_wins_38 rfl rfl rfl ?_
        refine gw_iload_n X 40 1 dX3_wins_39 rfl rfl rfl ?_
        refine gw_iload_n X 41 2 dX3_wins_40 rfl rfl rfl ?_
        obtain ⟨r5, h6, hp⟩ := gw_b1_some hp
        refine gw_callVi X 44 [.int x1, .int x2] (mt_X3_winsOf h6) lk_X3_367 ydv_X3_winsOf gM_cl0 gM_at0 rfl rfl rfl dX3_wins_41 rfl rfl rfl ?_
        cases hp
        exact gw_iret X dX3_wins_44 (fun _ h => ⟨rfl, h⟩) (Nat.le_of_ble_eq_true rfl) (Nat.le_of_ble_eq_true rfl)
      · replace hp := gw_f z hp
        refine gw_sipush X 33 dX3_wins_30 rfl gw_cs_m10000 ?_
        cases hp
        exact gw_iret X dX3_wins_33 (fun _ h => ⟨rfl, h⟩) (Nat.le_of_ble_eq_true rfl) (Nat.le_of_ble_eq_true rfl)
abbrev rm_X3_leave : Room := { frames := 5, cells := 0, slots := 0, locals := 111 }
def fx_X3_leave (σ : gw_S) (x1 : Int32) : Option (Int32 × gw_S) := gw_let (gw_u σ 0 0 0) (fun σ1 => (if fx_X3_isSet σ1 x1 = true then gw_b1 (fx_X3_laysNow σ1) (fun σ3 => gw_b1 (fx_X3_leaveOf σ3 x1) (fun r5 => some (r5, σ3))) else some ((-2), σ1)))
set_option maxHeartbeats 4000000 in
theorem mt_X3_leave {l : Launch} {D : gw_D} {a : Nat → Nat} {Wr : va_W → Prop} {σ : gw_S} {x1 : Int32} {res : Int32 × gw_S} (hp : fx_X3_leave σ x1 = some res) : gw_Ct D l yX3_leave cX3_leave 2 (some .int) rm_X3_leave [.ref (a 0), .int x1] (gw_st (wM D a σ) Wr) (gw_pI res.1 (gw_st (wM D a res.2) Wr)) := by
  refine gw_ct (own := RX3) [(0, .ref (a 0)), (1, .int x1)] (by decide) rfl (Nat.le_of_ble_eq_true rfl) rfl ?_
  intro E X
  unfold fx_X3_leave at hp
  refine gw_aload_n X 1 0 dX3_leave_0 rfl rfl rfl ?_
  refine gw_iconst X 2 dX3_leave_1 rfl gw_ci_0 ?_
  refine gM_p0_0 X 5 q1394 dX3_leave_2 rfl ?_
  refine gw_aload_n X 6 0 dX3_leave_5 rfl rfl rfl ?_
  refine gw_iload_n X 7 1 dX3_leave_6 rfl rfl rfl ?_
  obtain ⟨σ1, h2, hp⟩ := gw_let_some hp
  rw [← h2]
  clear h2
  refine gw_callVi X 10 [.int x1] (mt_X3_isSet rfl) lk_X3_370 ydv_X3_isSet gM_cl0 gM_at0 rfl rfl rfl dX3_leave_7 rfl rfl rfl ?_
  refine gw_if_neB X 16 13 dX3_leave_10 rfl rfl (fun z => ?_) (fun z => ?_)
  · replace hp := gw_t z hp
    refine gw_aload_n X 17 0 dX3_leave_16 rfl rfl rfl ?_
    obtain ⟨σ3, h4, hp⟩ := gw_b1_some hp
    refine gw_callVv X 20 [] (mt_X3_laysNow h4) lk_X3_251 ydv_X3_laysNow gM_cl0 gM_at0 rfl rfl rfl dX3_leave_17 rfl rfl rfl ?_
    refine gw_aload_n X 21 0 dX3_leave_20 rfl rfl rfl ?_
    refine gw_iload_n X 22 1 dX3_leave_21 rfl rfl rfl ?_
    obtain ⟨r5, h6, hp⟩ := gw_b1_some hp
    refine gw_callVi X 25 [.int x1] (mt_X3_leaveOf h6) lk_X3_373 ydv_X3_leaveOf gM_cl0 gM_at0 rfl rfl rfl dX3_leave_22 rfl rfl rfl ?_
    cases hp
    exact gw_iret X dX3_leave_25 (fun _ h => ⟨rfl, h⟩) (Nat.le_of_ble_eq_true rfl) (Nat.le_of_ble_eq_true rfl)
  · replace hp := gw_f z hp
    refine gw_bipush X 15 dX3_leave_13 rfl gw_cb_m2 ?_
    cases hp
    exact gw_iret X dX3_leave_15 (fun _ h => ⟨rfl, h⟩) (Nat.le_of_ble_eq_true rfl) (Nat.le_of_ble_eq_true rfl)
abbrev rm_X3_ransomOf : Room := { frames := 5, cells := 0, slots := 0, locals := 111 }
def fx_X3_ransomOf_L24 (σ : gw_S) (v1 : Int32) : Nat → Int32 → Int32 → Int32 → Option (Int32 × gw_S)
  | 0, _, _, _ => none
  | n + 1, c3, c4, c5 => (if (8 : Int32) ≤ c5 then some (c3, σ) else gw_ck c4 8 ((if (σ.1 11 (Int32.toNatClampNeg c4)) = v1 then some (c3, σ) else gw_ck c4 8 (gw_b1 (fx_X3_of σ (σ.1 11 (Int32.toNatClampNeg c4)) (0 : Int32)) (fun r5 => gw_b1 (fx_X3_of σ c3 (0 : Int32)) (fun r7 => (if r5 < r7 then fx_X3_ransomOf_L24 σ v1 n (σ.1 11 (Int32.toNatClampNeg c4)) (σ.1 11 (Int32.toNatClampNeg c4)) (c5 + 1) else gw_b1 (fx_X3_of σ (σ.1 11 (Int32.toNatClampNeg c4)) (0 : Int32)) (fun r9 => gw_b1 (fx_X3_of σ c3 (0 : Int32)) (fun r11 => (if r9 = r11 then (if c3 ≤ (σ.1 11 (Int32.toNatClampNeg c4)) then fx_X3_ransomOf_L24 σ v1 n c3 (σ.1 11 (Int32.toNatClampNeg c4)) (c5 + 1) else fx_X3_ransomOf_L24 σ v1 n (σ.1 11 (Int32.toNatClampNeg c4)) (σ.1 11 (Int32.toNatClampNeg c4)) (c5 + 1)) else fx_X3_ransomOf_L24 σ v1 n c3 (σ.1 11 (Int32.toNatClampNeg c4)) (c5 + 1)))))))))))
def fx_X3_ransomOf (σ : gw_S) (x1 : Int32) (x2 : Int32) : Option (Int32 × gw_S) := gw_b1 (fx_X3_laysNow σ) (fun σ1 => gw_b1 (fx_X3_timeOf σ1 x1 x2) (fun r3 => (if r3 = (-1 : Int32) then some ((-1), σ1) else fx_X3_ransomOf_L24 σ1 x1 1000 x2 x2 (0 : Int32))))
set_option maxHeartbeats 4000000 in
theorem wk_X3_ransomOf_L24 {E : gw_E} {l : Launch} {D : gw_D} {a : Nat → Nat} {Wr : va_W → Prop} {σ : gw_S} {res : Int32 × gw_S} (X : gw_X E cX3_ransomOf 6 RX3 (some .int) l D rm_X3_ransomOf (some (gw_pI res.1 (gw_st (wM D a res.2) Wr)))) {v1 : Int32} : ∀ {n : Nat} {c3 : Int32} {c4 : Int32} {c5 : Int32}, fx_X3_ransomOf_L24 σ v1 n c3 c4 c5 = some res → gw_W E 24 [(0, .ref (a 0)), (1, .int v1), (3, .int c3), (4, .int c4), (5, .int c5)] [] (gw_st (wM D a σ) Wr) 0 0 := by
  intro n
  induction n with
  | zero =>
    intro c3 c4 c5 hp
    cases (show none = some res from hp)
  | succ n ih =>
    intro c3 c4 c5 hp
    rw [fx_X3_ransomOf_L24] at hp
    refine gw_iload X 26 4 dX3_ransomOf_24 rfl rfl ?_
    refine gw_bipush X 28 dX3_ransomOf_26 rfl gw_cb_8 ?_
    refine gw_icmp_ge X 98 31 dX3_ransomOf_28 rfl rfl (fun z => ?_) (fun z => ?_)
    · replace hp := gw_t z hp
      refine gw_iload_n X 99 2 dX3_ransomOf_98 rfl rfl rfl ?_
      cases hp
      exact gw_iret X dX3_ransomOf_99 (fun _ h => ⟨rfl, h⟩) (Nat.le_of_ble_eq_true rfl) (Nat.le_of_ble_eq_true rfl)
    · replace hp := gw_f z hp
      refine gw_aload_n X 32 0 dX3_ransomOf_31 rfl rfl rfl ?_
      refine gM_g0_21 X 35 q1415 dX3_ransomOf_32 rfl ?_
      refine gw_iload X 37 3 dX3_ransomOf_35 rfl rfl ?_
      obtain ⟨hc, hp⟩ := gw_ck_some hp
      refine gM_l11 X 38 (Int32.toNatClampNeg c4) hc rfl dX3_ransomOf_37 rfl ?_
      refine gw_iload_n X 39 1 dX3_ransomOf_38 rfl rfl rfl ?_
      refine gw_icmp_eq X 98 42 dX3_ransomOf_39 rfl rfl (fun z => ?_) (fun z => ?_)
      · replace hp := gw_t z hp
        refine gw_iload_n X 99 2 dX3_ransomOf_98 rfl rfl rfl ?_
        cases hp
        exact gw_iret X dX3_ransomOf_99 (fun _ h => ⟨rfl, h⟩) (Nat.le_of_ble_eq_true rfl) (Nat.le_of_ble_eq_true rfl)
      · replace hp := gw_f z hp
        refine gw_aload_n X 43 0 dX3_ransomOf_42 rfl rfl rfl ?_
        refine gM_g0_21 X 46 q1415 dX3_ransomOf_43 rfl ?_
        refine gw_iload X 48 3 dX3_ransomOf_46 rfl rfl ?_
        obtain ⟨hc, hp⟩ := gw_ck_some hp
        refine gM_l11 X 49 (Int32.toNatClampNeg c4) hc rfl dX3_ransomOf_48 rfl ?_
        refine gw_istore X 51 [(4, .int (σ.1 11 (Int32.toNatClampNeg c4))), (0, .ref (a 0)), (1, .int v1), (3, .int c3), (5, .int c5)] dX3_ransomOf_49 rfl (by decide) rfl ?_
        refine gw_aload_n X 52 1 dX3_ransomOf_51 rfl rfl rfl ?_
        refine gw_iload X 54 0 dX3_ransomOf_52 rfl rfl ?_
        refine gw_iconst X 55 dX3_ransomOf_54 rfl gw_ci_0 ?_
        obtain ⟨r5, h6, hp⟩ := gw_b1_some hp
        refine gw_callVi X 58 [.int (σ.1 11 (Int32.toNatClampNeg c4)), .int 0] (mt_X3_of h6) lk_X3_214 ydv_X3_of gM_cl0 gM_at0 rfl rfl rfl dX3_ransomOf_55 rfl rfl rfl ?_
        refine gw_aload_n X 59 1 dX3_ransomOf_58 rfl rfl rfl ?_
        refine gw_iload_n X 60 3 dX3_ransomOf_59 rfl rfl rfl ?_
        refine gw_iconst X 61 dX3_ransomOf_60 rfl gw_ci_0 ?_
        obtain ⟨r7, h8, hp⟩ := gw_b1_some hp
        refine gw_callVi X 64 [.int c3, .int 0] (mt_X3_of h8) lk_X3_214 ydv_X3_of gM_cl0 gM_at0 rfl rfl rfl dX3_ransomOf_61 rfl rfl rfl ?_
        refine gw_icmp_lt X 89 67 dX3_ransomOf_64 rfl rfl (fun z => ?_) (fun z => ?_)
        · replace hp := gw_t z hp
          refine gw_iload X 91 0 dX3_ransomOf_89 rfl rfl ?_
          refine gw_istore_n X 92 [(3, .int (σ.1 11 (Int32.toNatClampNeg c4))), (4, .int (σ.1 11 (Int32.toNatClampNeg c4))), (0, .ref (a 0)), (1, .int v1), (5, .int c5)] dX3_ransomOf_91 rfl rfl (by decide) rfl ?_
          refine gw_iinc X 95 4 [(5, .int (c5 + 1)), (3, .int (σ.1 11 (Int32.toNatClampNeg c4))), (4, .int (σ.1 11 (Int32.toNatClampNeg c4))), (0, .ref (a 0)), (1, .int v1)] dX3_ransomOf_92 rfl rfl gw_ci_1 (by decide) rfl ?_
          refine gw_goto X 24 dX3_ransomOf_95 rfl ?_
          refine gw_lv [3, 4, 1, 2, 0] rfl ?_
          exact ih hp
        · replace hp := gw_f z hp
          refine gw_aload_n X 68 1 dX3_ransomOf_67 rfl rfl rfl ?_
          refine gw_iload X 70 0 dX3_ransomOf_68 rfl rfl ?_
          refine gw_iconst X 71 dX3_ransomOf_70 rfl gw_ci_0 ?_
          obtain ⟨r9, h10, hp⟩ := gw_b1_some hp
          refine gw_callVi X 74 [.int (σ.1 11 (Int32.toNatClampNeg c4)), .int 0] (mt_X3_of h10) lk_X3_214 ydv_X3_of gM_cl0 gM_at0 rfl rfl rfl dX3_ransomOf_71 rfl rfl rfl ?_
          refine gw_aload_n X 75 1 dX3_ransomOf_74 rfl rfl rfl ?_
          refine gw_iload_n X 76 3 dX3_ransomOf_75 rfl rfl rfl ?_
          refine gw_iconst X 77 dX3_ransomOf_76 rfl gw_ci_0 ?_
          obtain ⟨r11, h12, hp⟩ := gw_b1_some hp
          refine gw_callVi X 80 [.int c3, .int 0] (mt_X3_of h12) lk_X3_214 ydv_X3_of gM_cl0 gM_at0 rfl rfl rfl dX3_ransomOf_77 rfl rfl rfl ?_
          refine gw_icmp_ne X 92 83 dX3_ransomOf_80 rfl rfl (fun z => ?_) (fun z => ?_)
          · replace hp := gw_f z hp
            refine gw_iinc X 95 4 [(5, .int (c5 + 1)), (4, .int (σ.1 11 (Int32.toNatClampNeg c4))), (0, .ref (a 0)), (1, .int v1), (3, .int c3)] dX3_ransomOf_92 rfl rfl gw_ci_1 (by decide) rfl ?_
            refine gw_goto X 24 dX3_ransomOf_95 rfl ?_
            refine gw_lv [2, 3, 4, 1, 0] rfl ?_
            exact ih hp
          · replace hp := gw_t z hp
            refine gw_iload X 85 0 dX3_ransomOf_83 rfl rfl ?_
            refine gw_iload_n X 86 3 dX3_ransomOf_85 rfl rfl rfl ?_
            refine gw_icmp_ge X 92 89 dX3_ransomOf_86 rfl rfl (fun z => ?_) (fun z => ?_)
            · replace hp := gw_t z hp
              refine gw_iinc X 95 4 [(5, .int (c5 + 1)), (4, .int (σ.1 11 (Int32.toNatClampNeg c4))), (0, .ref (a 0)), (1, .int v1), (3, .int c3)] dX3_ransomOf_92 rfl rfl gw_ci_1 (by decide) rfl ?_
              refine gw_goto X 24 dX3_ransomOf_95 rfl ?_
              refine gw_lv [2, 3, 4, 1, 0] rfl ?_
              exact ih hp
            · replace hp := gw_f z hp
              refine gw_iload X 91 0 dX3_ransomOf_89 rfl rfl ?_
              refine gw_istore_n X 92 [(3, .int (σ.1 11 (Int32.toNatClampNeg c4))), (4, .int (σ.1 11 (Int32.toNatClampNeg c4))), (0, .ref (a 0)), (1, .int v1), (5, .int c5)] dX3_ransomOf_91 rfl rfl (by decide) rfl ?_
              refine gw_iinc X 95 4 [(5, .int (c5 + 1)), (3, .int (σ.1 11 (Int32.toNatClampNeg c4))), (4, .int (σ.1 11 (Int32.toNatClampNeg c4))), (0, .ref (a 0)), (1, .int v1)] dX3_ransomOf_92 rfl rfl gw_ci_1 (by decide) rfl ?_
              refine gw_goto X 24 dX3_ransomOf_95 rfl ?_
              refine gw_lv [3, 4, 1, 2, 0] rfl ?_
              exact ih hp
set_option maxHeartbeats 4000000 in
theorem mt_X3_ransomOf {l : Launch} {D : gw_D} {a : Nat → Nat} {Wr : va_W → Prop} {σ : gw_S} {x1 : Int32} {x2 : Int32} {res : Int32 × gw_S} (hp : fx_X3_ransomOf σ x1 x2 = some res) : gw_Ct D l yX3_ransomOf cX3_ransomOf 6 (some .int) rm_X3_ransomOf [.ref (a 0), .int x1, .int x2] (gw_st (wM D a σ) Wr) (gw_pI res.1 (gw_st (wM D a res.2) Wr)) := by
  refine gw_ct (own := RX3) [(0, .ref (a 0)), (1, .int x1), (2, .int x2)] (by decide) rfl (Nat.le_of_ble_eq_true rfl) rfl ?_
  intro E X
  unfold fx_X3_ransomOf at hp
  refine gw_aload_n X 1 0 dX3_ransomOf_0 rfl rfl rfl ?_
  obtain ⟨σ1, h2, hp⟩ := gw_b1_some hp
  refine gw_callVv X 4 [] (mt_X3_laysNow h2) lk_X3_251 ydv_X3_laysNow gM_cl0 gM_at0 rfl rfl rfl dX3_ransomOf_1 rfl rfl rfl ?_
  refine gw_aload_n X 5 0 dX3_ransomOf_4 rfl rfl rfl ?_
  refine gw_iload_n X 6 1 dX3_ransomOf_5 rfl rfl rfl ?_
  refine gw_iload_n X 7 2 dX3_ransomOf_6 rfl rfl rfl ?_
  obtain ⟨r3, h4, hp⟩ := gw_b1_some hp
  refine gw_callVi X 10 [.int x1, .int x2] (mt_X3_timeOf h4) lk_X3_269 ydv_X3_timeOf gM_cl0 gM_at0 rfl rfl rfl dX3_ransomOf_7 rfl rfl rfl ?_
  refine gw_iconst X 11 dX3_ransomOf_10 rfl gw_ci_m1 ?_
  refine gw_icmp_ne X 16 14 dX3_ransomOf_11 rfl rfl (fun z => ?_) (fun z => ?_)
  · replace hp := gw_f z hp
    refine gw_iload_n X 17 2 dX3_ransomOf_16 rfl rfl rfl ?_
    refine gw_istore_n X 18 [(3, .int x2), (0, .ref (a 0)), (1, .int x1), (2, .int x2)] dX3_ransomOf_17 rfl rfl (by decide) rfl ?_
    refine gw_iload_n X 19 3 dX3_ransomOf_18 rfl rfl rfl ?_
    refine gw_istore X 21 [(4, .int x2), (3, .int x2), (0, .ref (a 0)), (1, .int x1), (2, .int x2)] dX3_ransomOf_19 rfl (by decide) rfl ?_
    refine gw_iconst X 22 dX3_ransomOf_21 rfl gw_ci_0 ?_
    refine gw_istore X 24 [(5, .int 0), (4, .int x2), (3, .int x2), (0, .ref (a 0)), (1, .int x1), (2, .int x2)] dX3_ransomOf_22 rfl (by decide) rfl ?_
    refine gw_lv [3, 4, 2, 1, 0] rfl ?_
    exact wk_X3_ransomOf_L24 X hp
  · replace hp := gw_t z hp
    refine gw_iconst X 15 dX3_ransomOf_14 rfl gw_ci_m1 ?_
    cases hp
    exact gw_iret X dX3_ransomOf_15 (fun _ h => ⟨rfl, h⟩) (Nat.le_of_ble_eq_true rfl) (Nat.le_of_ble_eq_true rfl)
abbrev rm_X3_ransom : Room := { frames := 6, cells := 0, slots := 0, locals := 136 }
def fx_X3_ransom (σ : gw_S) (x1 : Int32) (x2 : Int32) : Option (Int32 × gw_S) := gw_let (gw_u σ 0 0 0) (fun σ1 => (if fx_X3_arePeople σ1 x1 x2 = true then gw_b2 (fx_X3_ransomOf σ1 x1 x2) (fun r3 σ4 => (if r3 = (-1 : Int32) then some ((-1), σ4) else gw_b1 (fx_X3_of σ4 r3 (0 : Int32)) (fun r6 => some (r6, σ4)))) else some ((-2), σ1)))
set_option maxHeartbeats 4000000 in
theorem mt_X3_ransom {l : Launch} {D : gw_D} {a : Nat → Nat} {Wr : va_W → Prop} {σ : gw_S} {x1 : Int32} {x2 : Int32} {res : Int32 × gw_S} (hp : fx_X3_ransom σ x1 x2 = some res) : gw_Ct D l yX3_ransom cX3_ransom 4 (some .int) rm_X3_ransom [.ref (a 0), .int x1, .int x2] (gw_st (wM D a σ) Wr) (gw_pI res.1 (gw_st (wM D a res.2) Wr)) := by
  refine gw_ct (own := RX3) [(0, .ref (a 0)), (1, .int x1), (2, .int x2)] (by decide) rfl (Nat.le_of_ble_eq_true rfl) rfl ?_
  intro E X
  unfold fx_X3_ransom at hp
  refine gw_aload_n X 1 0 dX3_ransom_0 rfl rfl rfl ?_
  refine gw_iconst X 2 dX3_ransom_1 rfl gw_ci_0 ?_
  refine gM_p0_0 X 5 q1394 dX3_ransom_2 rfl ?_
  refine gw_aload_n X 6 0 dX3_ransom_5 rfl rfl rfl ?_
  refine gw_iload_n X 7 1 dX3_ransom_6 rfl rfl rfl ?_
  refine gw_iload_n X 8 2 dX3_ransom_7 rfl rfl rfl ?_
  obtain ⟨σ1, h2, hp⟩ := gw_let_some hp
  rw [← h2]
  clear h2
  refine gw_callVi X 11 [.int x1, .int x2] (mt_X3_arePeople rfl) lk_X3_266 ydv_X3_arePeople gM_cl0 gM_at0 rfl rfl rfl dX3_ransom_8 rfl rfl rfl ?_
  refine gw_if_neB X 17 14 dX3_ransom_11 rfl rfl (fun z => ?_) (fun z => ?_)
  · replace hp := gw_t z hp
    refine gw_aload_n X 18 0 dX3_ransom_17 rfl rfl rfl ?_
    refine gw_iload_n X 19 1 dX3_ransom_18 rfl rfl rfl ?_
    refine gw_iload_n X 20 2 dX3_ransom_19 rfl rfl rfl ?_
    obtain ⟨r3, σ4, h5, hp⟩ := gw_b2_some hp
    refine gw_callVi X 23 [.int x1, .int x2] (mt_X3_ransomOf h5) lk_X3_376 ydv_X3_ransomOf gM_cl0 gM_at0 rfl rfl rfl dX3_ransom_20 rfl rfl rfl ?_
    refine gw_istore_n X 24 [(3, .int r3), (0, .ref (a 0)), (1, .int x1), (2, .int x2)] dX3_ransom_23 rfl rfl (by decide) rfl ?_
    refine gw_iload_n X 25 0 dX3_ransom_24 rfl rfl rfl ?_
    refine gw_iconst X 26 dX3_ransom_25 rfl gw_ci_m1 ?_
    refine gw_icmp_ne X 33 29 dX3_ransom_26 rfl rfl (fun z => ?_) (fun z => ?_)
    · replace hp := gw_f z hp
      refine gw_aload_n X 34 1 dX3_ransom_33 rfl rfl rfl ?_
      refine gw_iload_n X 35 0 dX3_ransom_34 rfl rfl rfl ?_
      refine gw_iconst X 36 dX3_ransom_35 rfl gw_ci_0 ?_
      obtain ⟨r6, h7, hp⟩ := gw_b1_some hp
      refine gw_callVi X 39 [.int r3, .int 0] (mt_X3_of h7) lk_X3_214 ydv_X3_of gM_cl0 gM_at0 rfl rfl rfl dX3_ransom_36 rfl rfl rfl ?_
      cases hp
      exact gw_iret X dX3_ransom_39 (fun _ h => ⟨rfl, h⟩) (Nat.le_of_ble_eq_true rfl) (Nat.le_of_ble_eq_true rfl)
    · replace hp := gw_t z hp
      refine gw_iconst X 30 dX3_ransom_29 rfl gw_ci_m1 ?_
      refine gw_goto X 39 dX3_ransom_30 rfl ?_
      cases hp
      exact gw_iret X dX3_ransom_39 (fun _ h => ⟨rfl, h⟩) (Nat.le_of_ble_eq_true rfl) (Nat.le_of_ble_eq_true rfl)
  · replace hp := gw_f z hp
    refine gw_bipush X 16 dX3_ransom_14 rfl gw_cb_m2 ?_
    cases hp
    exact gw_iret X dX3_ransom_16 (fun _ h => ⟨rfl, h⟩) (Nat.le_of_ble_eq_true rfl) (Nat.le_of_ble_eq_true rfl)
abbrev rm_X3_ransomed : Room := { frames := 6, cells := 0, slots := 0, locals := 136 }
def fx_X3_ransomed (σ : gw_S) (x1 : Int32) (x2 : Int32) : Option (Int32 × gw_S) := gw_let (gw_u σ 0 0 0) (fun σ1 => (if fx_X3_arePeople σ1 x1 x2 = true then gw_b2 (fx_X3_ransomOf σ1 x1 x2) (fun r3 σ4 => some (r3, σ4)) else some ((-2), σ1)))
set_option maxHeartbeats 4000000 in
theorem mt_X3_ransomed {l : Launch} {D : gw_D} {a : Nat → Nat} {Wr : va_W → Prop} {σ : gw_S} {x1 : Int32} {x2 : Int32} {res : Int32 × gw_S} (hp : fx_X3_ransomed σ x1 x2 = some res) : gw_Ct D l yX3_ransomed cX3_ransomed 3 (some .int) rm_X3_ransomed [.ref (a 0), .int x1, .int x2] (gw_st (wM D a σ) Wr) (gw_pI res.1 (gw_st (wM D a res.2) Wr)) := by
  refine gw_ct (own := RX3) [(0, .ref (a 0)), (1, .int x1), (2, .int x2)] (by decide) rfl (Nat.le_of_ble_eq_true rfl) rfl ?_
  intro E X
  unfold fx_X3_ransomed at hp
  refine gw_aload_n X 1 0 dX3_ransomed_0 rfl rfl rfl ?_
  refine gw_iconst X 2 dX3_ransomed_1 rfl gw_ci_0 ?_
  refine gM_p0_0 X 5 q1394 dX3_ransomed_2 rfl ?_
  refine gw_aload_n X 6 0 dX3_ransomed_5 rfl rfl rfl ?_
  refine gw_iload_n X 7 1 dX3_ransomed_6 rfl rfl rfl ?_
  refine gw_iload_n X 8 2 dX3_ransomed_7 rfl rfl rfl ?_
  obtain ⟨σ1, h2, hp⟩ := gw_let_some hp
  rw [← h2]
  clear h2
  refine gw_callVi X 11 [.int x1, .int x2] (mt_X3_arePeople rfl) lk_X3_266 ydv_X3_arePeople gM_cl0 gM_at0 rfl rfl rfl dX3_ransomed_8 rfl rfl rfl ?_
  refine gw_if_eqB X 23 14 dX3_ransomed_11 rfl rfl (fun z => ?_) (fun z => ?_)
  · replace hp := gw_f z hp
    refine gw_bipush X 25 dX3_ransomed_23 rfl gw_cb_m2 ?_
    cases hp
    exact gw_iret X dX3_ransomed_25 (fun _ h => ⟨rfl, h⟩) (Nat.le_of_ble_eq_true rfl) (Nat.le_of_ble_eq_true rfl)
  · replace hp := gw_t z hp
    refine gw_aload_n X 15 0 dX3_ransomed_14 rfl rfl rfl ?_
    refine gw_iload_n X 16 1 dX3_ransomed_15 rfl rfl rfl ?_
    refine gw_iload_n X 17 2 dX3_ransomed_16 rfl rfl rfl ?_
    obtain ⟨r3, σ4, h5, hp⟩ := gw_b2_some hp
    refine gw_callVi X 20 [.int x1, .int x2] (mt_X3_ransomOf h5) lk_X3_376 ydv_X3_ransomOf gM_cl0 gM_at0 rfl rfl rfl dX3_ransomed_17 rfl rfl rfl ?_
    refine gw_goto X 25 dX3_ransomed_20 rfl ?_
    cases hp
    exact gw_iret X dX3_ransomed_25 (fun _ h => ⟨rfl, h⟩) (Nat.le_of_ble_eq_true rfl) (Nat.le_of_ble_eq_true rfl)
abbrev rm_X3_powerOf : Room := { frames := 2, cells := 0, slots := 0, locals := 45 }
def fx_X3_powerOf (σ : gw_S) (x1 : Int32) : Option (Int32) := gw_b1 (fx_X3_underOf σ x1) (fun r1 => gw_b1 (fx_X3_doneBy σ r1) (fun r3 => gw_b1 (fx_X3_sizeOf r3) (fun r5 => some r5)))
set_option maxHeartbeats 4000000 in
theorem mt_X3_powerOf {l : Launch} {D : gw_D} {a : Nat → Nat} {Wr : va_W → Prop} {σ : gw_S} {x1 : Int32} {res : Int32} (hp : fx_X3_powerOf σ x1 = some res) : gw_Ct D l yX3_powerOf cX3_powerOf 2 (some .int) rm_X3_powerOf [.ref (a 0), .int x1] (gw_st (wM D a σ) Wr) (gw_pI res (gw_st (wM D a σ) Wr)) := by
  refine gw_ct (own := RX3) [(0, .ref (a 0)), (1, .int x1)] (by decide) rfl (Nat.le_of_ble_eq_true rfl) rfl ?_
  intro E X
  unfold fx_X3_powerOf at hp
  refine gw_aload_n X 1 0 dX3_powerOf_0 rfl rfl rfl ?_
  refine gw_aload_n X 2 0 dX3_powerOf_1 rfl rfl rfl ?_
  refine gw_iload_n X 3 1 dX3_powerOf_2 rfl rfl rfl ?_
  obtain ⟨r1, h2, hp⟩ := gw_b1_some hp
  refine gw_callVi X 6 [.int x1] (mt_X3_underOf h2) lk_X3_263 ydv_X3_underOf gM_cl0 gM_at0 rfl rfl rfl dX3_powerOf_3 rfl rfl rfl ?_
  obtain ⟨r3, h4, hp⟩ := gw_b1_some hp
  refine gw_callVi X 9 [.int r1] (mt_X3_doneBy h4) lk_X3_314 ydv_X3_doneBy gM_cl0 gM_at0 rfl rfl rfl dX3_powerOf_6 rfl rfl rfl ?_
  obtain ⟨r5, h6, hp⟩ := gw_b1_some hp
  refine gw_callSi X 12 [.int r3] (mt_X3_sizeOf h6) lk_X3_297 yd_X3_sizeOf rfl rfl rfl dX3_powerOf_9 rfl rfl rfl ?_
  cases hp
  exact gw_iret X dX3_powerOf_12 (fun _ h => ⟨rfl, h⟩) (Nat.le_of_ble_eq_true rfl) (Nat.le_of_ble_eq_true rfl)
abbrev rm_X3_power : Room := { frames := 5, cells := 0, slots := 0, locals := 111 }
def fx_X3_power (σ : gw_S) (x1 : Int32) : Option (Int32 × gw_S) := gw_let (gw_u σ 0 0 0) (fun σ1 => (if fx_X3_isPerson σ1 (Int32.toInt64 x1) = true then gw_b1 (fx_X3_laysNow σ1) (fun σ3 => gw_b1 (fx_X3_powerOf σ3 x1) (fun r5 => some (r5, σ3))) else some ((-2), σ1)))
set_option maxHeartbeats 4000000 in
theorem mt_X3_power {l : Launch} {D : gw_D} {a : Nat → Nat} {Wr : va_W → Prop} {σ : gw_S} {x1 : Int32} {res : Int32 × gw_S} (hp : fx_X3_power σ x1 = some res) : gw_Ct D l yX3_power cX3_power 2 (some .int) rm_X3_power [.ref (a 0), .int x1] (gw_st (wM D a σ) Wr) (gw_pI res.1 (gw_st (wM D a res.2) Wr)) := by
  refine gw_ct (own := RX3) [(0, .ref (a 0)), (1, .int x1)] (by decide) rfl (Nat.le_of_ble_eq_true rfl) rfl ?_
  intro E X
  unfold fx_X3_power at hp
  refine gw_aload_n X 1 0 dX3_power_0 rfl rfl rfl ?_
  refine gw_iconst X 2 dX3_power_1 rfl gw_ci_0 ?_
  refine gM_p0_0 X 5 q1394 dX3_power_2 rfl ?_
  refine gw_aload_n X 6 0 dX3_power_5 rfl rfl rfl ?_
  refine gw_iload_n X 7 1 dX3_power_6 rfl rfl rfl ?_
  refine gw_i2l X 8 dX3_power_7 rfl ?_
  obtain ⟨σ1, h2, hp⟩ := gw_let_some hp
  rw [← h2]
  clear h2
  refine gw_callVi X 11 [.long (Int32.toInt64 x1)] (mt_X3_isPerson rfl) lk_X3_206 ydv_X3_isPerson gM_cl0 gM_at0 rfl rfl rfl dX3_power_8 rfl rfl rfl ?_
  refine gw_if_neB X 17 14 dX3_power_11 rfl rfl (fun z => ?_) (fun z => ?_)
  · replace hp := gw_t z hp
    refine gw_aload_n X 18 0 dX3_power_17 rfl rfl rfl ?_
    obtain ⟨σ3, h4, hp⟩ := gw_b1_some hp
    refine gw_callVv X 21 [] (mt_X3_laysNow h4) lk_X3_251 ydv_X3_laysNow gM_cl0 gM_at0 rfl rfl rfl dX3_power_18 rfl rfl rfl ?_
    refine gw_aload_n X 22 0 dX3_power_21 rfl rfl rfl ?_
    refine gw_iload_n X 23 1 dX3_power_22 rfl rfl rfl ?_
    obtain ⟨r5, h6, hp⟩ := gw_b1_some hp
    refine gw_callVi X 26 [.int x1] (mt_X3_powerOf h6) lk_X3_379 ydv_X3_powerOf gM_cl0 gM_at0 rfl rfl rfl dX3_power_23 rfl rfl rfl ?_
    cases hp
    exact gw_iret X dX3_power_26 (fun _ h => ⟨rfl, h⟩) (Nat.le_of_ble_eq_true rfl) (Nat.le_of_ble_eq_true rfl)
  · replace hp := gw_f z hp
    refine gw_bipush X 16 dX3_power_14 rfl gw_cb_m2 ?_
    cases hp
    exact gw_iret X dX3_power_16 (fun _ h => ⟨rfl, h⟩) (Nat.le_of_ble_eq_true rfl) (Nat.le_of_ble_eq_true rfl)
abbrev rm_X3_mighty : Room := { frames := 5, cells := 0, slots := 0, locals := 111 }
def fx_X3_mighty_L23 (σ : gw_S)  : Nat → Int32 → Int32 → Option (Int32 × gw_S)
  | 0, _, _ => none
  | n + 1, c1, c2 => (if (σ.1 7 1) ≤ c2 then some (c1, σ) else (if c1 = (-1 : Int32) then fx_X3_mighty_L23 σ n c2 (c2 + 1) else gw_b1 (fx_X3_powerOf σ c2) (fun r5 => gw_b1 (fx_X3_powerOf σ c1) (fun r7 => (if r5 ≤ r7 then fx_X3_mighty_L23 σ n c1 (c2 + 1) else fx_X3_mighty_L23 σ n c2 (c2 + 1))))))
def fx_X3_mighty (σ : gw_S)  : Option (Int32 × gw_S) := gw_let (gw_u σ 0 0 0) (fun σ1 => (if fx_X3_isCity σ1 = true then gw_b1 (fx_X3_laysNow σ1) (fun σ3 => fx_X3_mighty_L23 σ3 1000 (-1 : Int32) (0 : Int32)) else some ((-2), σ1)))
set_option maxHeartbeats 4000000 in
theorem wk_X3_mighty_L23 {E : gw_E} {l : Launch} {D : gw_D} {a : Nat → Nat} {Wr : va_W → Prop} {σ : gw_S} {res : Int32 × gw_S} (X : gw_X E cX3_mighty 3 RX3 (some .int) l D rm_X3_mighty (some (gw_pI res.1 (gw_st (wM D a res.2) Wr))))  : ∀ {n : Nat} {c1 : Int32} {c2 : Int32}, fx_X3_mighty_L23 σ n c1 c2 = some res → gw_W E 23 [(0, .ref (a 0)), (1, .int c1), (2, .int c2)] [] (gw_st (wM D a σ) Wr) 0 0 := by
  intro n
  induction n with
  | zero =>
    intro c1 c2 hp
    cases (show none = some res from hp)
  | succ n ih =>
    intro c1 c2 hp
    rw [fx_X3_mighty_L23] at hp
    refine gw_iload_n X 24 2 dX3_mighty_23 rfl rfl rfl ?_
    refine gw_aload_n X 25 0 dX3_mighty_24 rfl rfl rfl ?_
    refine gM_g0_17 X 28 q1411 dX3_mighty_25 rfl ?_
    refine gw_iconst X 29 dX3_mighty_28 rfl gw_ci_1 ?_
    refine gM_l7 X 30 1 (gw_in rfl) rfl dX3_mighty_29 rfl ?_
    refine gw_icmp_ge X 59 33 dX3_mighty_30 rfl rfl (fun z => ?_) (fun z => ?_)
    · replace hp := gw_t z hp
      refine gw_iload_n X 60 1 dX3_mighty_59 rfl rfl rfl ?_
      cases hp
      exact gw_iret X dX3_mighty_60 (fun _ h => ⟨rfl, h⟩) (Nat.le_of_ble_eq_true rfl) (Nat.le_of_ble_eq_true rfl)
    · replace hp := gw_f z hp
      refine gw_iload_n X 34 1 dX3_mighty_33 rfl rfl rfl ?_
      refine gw_iconst X 35 dX3_mighty_34 rfl gw_ci_m1 ?_
      refine gw_icmp_eq X 51 38 dX3_mighty_35 rfl rfl (fun z => ?_) (fun z => ?_)
      · replace hp := gw_t z hp
        refine gw_iload_n X 52 2 dX3_mighty_51 rfl rfl rfl ?_
        refine gw_istore_n X 53 [(1, .int c2), (0, .ref (a 0)), (2, .int c2)] dX3_mighty_52 rfl rfl (by decide) rfl ?_
        refine gw_iinc X 56 2 [(2, .int (c2 + 1)), (1, .int c2), (0, .ref (a 0))] dX3_mighty_53 rfl rfl gw_ci_1 (by decide) rfl ?_
        refine gw_goto X 23 dX3_mighty_56 rfl ?_
        refine gw_lv [2, 1, 0] rfl ?_
        exact ih hp
      · replace hp := gw_f z hp
        refine gw_aload_n X 39 0 dX3_mighty_38 rfl rfl rfl ?_
        refine gw_iload_n X 40 2 dX3_mighty_39 rfl rfl rfl ?_
        obtain ⟨r5, h6, hp⟩ := gw_b1_some hp
        refine gw_callVi X 43 [.int c2] (mt_X3_powerOf h6) lk_X3_379 ydv_X3_powerOf gM_cl0 gM_at0 rfl rfl rfl dX3_mighty_40 rfl rfl rfl ?_
        refine gw_aload_n X 44 0 dX3_mighty_43 rfl rfl rfl ?_
        refine gw_iload_n X 45 1 dX3_mighty_44 rfl rfl rfl ?_
        obtain ⟨r7, h8, hp⟩ := gw_b1_some hp
        refine gw_callVi X 48 [.int c1] (mt_X3_powerOf h8) lk_X3_379 ydv_X3_powerOf gM_cl0 gM_at0 rfl rfl rfl dX3_mighty_45 rfl rfl rfl ?_
        refine gw_icmp_le X 53 51 dX3_mighty_48 rfl rfl (fun z => ?_) (fun z => ?_)
        · replace hp := gw_t z hp
          refine gw_iinc X 56 2 [(2, .int (c2 + 1)), (0, .ref (a 0)), (1, .int c1)] dX3_mighty_53 rfl rfl gw_ci_1 (by decide) rfl ?_
          refine gw_goto X 23 dX3_mighty_56 rfl ?_
          refine gw_lv [1, 2, 0] rfl ?_
          exact ih hp
        · replace hp := gw_f z hp
          refine gw_iload_n X 52 2 dX3_mighty_51 rfl rfl rfl ?_
          refine gw_istore_n X 53 [(1, .int c2), (0, .ref (a 0)), (2, .int c2)] dX3_mighty_52 rfl rfl (by decide) rfl ?_
          refine gw_iinc X 56 2 [(2, .int (c2 + 1)), (1, .int c2), (0, .ref (a 0))] dX3_mighty_53 rfl rfl gw_ci_1 (by decide) rfl ?_
          refine gw_goto X 23 dX3_mighty_56 rfl ?_
          refine gw_lv [2, 1, 0] rfl ?_
          exact ih hp
set_option maxHeartbeats 4000000 in
theorem mt_X3_mighty {l : Launch} {D : gw_D} {a : Nat → Nat} {Wr : va_W → Prop} {σ : gw_S}  {res : Int32 × gw_S} (hp : fx_X3_mighty σ  = some res) : gw_Ct D l yX3_mighty cX3_mighty 3 (some .int) rm_X3_mighty [.ref (a 0)] (gw_st (wM D a σ) Wr) (gw_pI res.1 (gw_st (wM D a res.2) Wr)) := by
  refine gw_ct (own := RX3) [(0, .ref (a 0))] (by decide) rfl (Nat.le_of_ble_eq_true rfl) rfl ?_
  intro E X
  unfold fx_X3_mighty at hp
  refine gw_aload_n X 1 0 dX3_mighty_0 rfl rfl rfl ?_
  refine gw_iconst X 2 dX3_mighty_1 rfl gw_ci_0 ?_
  refine gM_p0_0 X 5 q1394 dX3_mighty_2 rfl ?_
  refine gw_aload_n X 6 0 dX3_mighty_5 rfl rfl rfl ?_
  obtain ⟨σ1, h2, hp⟩ := gw_let_some hp
  rw [← h2]
  clear h2
  refine gw_callVi X 9 [] (mt_X3_isCity rfl) lk_X3_209 ydv_X3_isCity gM_cl0 gM_at0 rfl rfl rfl dX3_mighty_6 rfl rfl rfl ?_
  refine gw_if_neB X 15 12 dX3_mighty_9 rfl rfl (fun z => ?_) (fun z => ?_)
  · replace hp := gw_t z hp
    refine gw_aload_n X 16 0 dX3_mighty_15 rfl rfl rfl ?_
    obtain ⟨σ3, h4, hp⟩ := gw_b1_some hp
    refine gw_callVv X 19 [] (mt_X3_laysNow h4) lk_X3_251 ydv_X3_laysNow gM_cl0 gM_at0 rfl rfl rfl dX3_mighty_16 rfl rfl rfl ?_
    refine gw_iconst X 20 dX3_mighty_19 rfl gw_ci_m1 ?_
    refine gw_istore_n X 21 [(1, .int (-1)), (0, .ref (a 0))] dX3_mighty_20 rfl rfl (by decide) rfl ?_
    refine gw_iconst X 22 dX3_mighty_21 rfl gw_ci_0 ?_
    refine gw_istore_n X 23 [(2, .int 0), (1, .int (-1)), (0, .ref (a 0))] dX3_mighty_22 rfl rfl (by decide) rfl ?_
    refine gw_lv [2, 1, 0] rfl ?_
    exact wk_X3_mighty_L23 X hp
  · replace hp := gw_f z hp
    refine gw_bipush X 14 dX3_mighty_12 rfl gw_cb_m2 ?_
    cases hp
    exact gw_iret X dX3_mighty_14 (fun _ h => ⟨rfl, h⟩) (Nat.le_of_ble_eq_true rfl) (Nat.le_of_ble_eq_true rfl)
abbrev rm_X3_covet : Room := { frames := 5, cells := 0, slots := 0, locals := 111 }
def fx_X3_covet_L32 (v1 : Int32) : Nat → Int32 → Int32 → Int32 → gw_S → Option (Int32 × gw_S)
  | 0, _, _, _, _ => none
  | n + 1, c2, c3, c4, σ => (if (σ.1 7 1) ≤ c4 then some (c2, σ) else gw_ck c4 8 ((if (σ.1 11 (Int32.toNatClampNeg c4)) = v1 then fx_X3_covet_L32 v1 n c2 c3 (c4 + 1) σ else gw_ck c4 8 (gw_let (gw_u σ 11 (Int32.toNatClampNeg c4) v1) (fun σ7 => gw_b1 (fx_X3_powerOf σ7 v1) (fun r9 => gw_ck c4 8 (gw_let (gw_u σ7 11 (Int32.toNatClampNeg c4) (σ.1 11 (Int32.toNatClampNeg c4))) (fun σ11 => (if c3 < r9 then fx_X3_covet_L32 v1 n c4 r9 (c4 + 1) σ11 else fx_X3_covet_L32 v1 n c2 c3 (c4 + 1) σ11)))))))))
def fx_X3_covet (σ : gw_S) (x1 : Int32) : Option (Int32 × gw_S) := gw_let (gw_u σ 0 0 0) (fun σ1 => (if fx_X3_isPerson σ1 (Int32.toInt64 x1) = true then gw_b1 (fx_X3_laysNow σ1) (fun σ3 => gw_b1 (fx_X3_powerOf σ3 x1) (fun r5 => fx_X3_covet_L32 x1 1000 (-1 : Int32) r5 (0 : Int32) σ3)) else some ((-2), σ1)))
set_option maxHeartbeats 4000000 in
theorem wk_X3_covet_L32 {E : gw_E} {l : Launch} {D : gw_D} {a : Nat → Nat} {Wr : va_W → Prop} {res : Int32 × gw_S} (X : gw_X E cX3_covet 7 RX3 (some .int) l D rm_X3_covet (some (gw_pI res.1 (gw_st (wM D a res.2) Wr)))) {v1 : Int32} : ∀ {n : Nat} {c2 : Int32} {c3 : Int32} {c4 : Int32} {σ : gw_S}, fx_X3_covet_L32 v1 n c2 c3 c4 σ = some res → gw_W E 32 [(0, .ref (a 0)), (1, .int v1), (2, .int c2), (3, .int c3), (4, .int c4)] [] (gw_st (wM D a σ) Wr) 0 0 := by
  intro n
  induction n with
  | zero =>
    intro c2 c3 c4 σ hp
    cases (show none = some res from hp)
  | succ n ih =>
    intro c2 c3 c4 σ hp
    rw [fx_X3_covet_L32] at hp
    refine gw_iload X 34 4 dX3_covet_32 rfl rfl ?_
    refine gw_aload_n X 35 0 dX3_covet_34 rfl rfl rfl ?_
    refine gM_g0_17 X 38 q1411 dX3_covet_35 rfl ?_
    refine gw_iconst X 39 dX3_covet_38 rfl gw_ci_1 ?_
    refine gM_l7 X 40 1 (gw_in rfl) rfl dX3_covet_39 rfl ?_
    refine gw_icmp_ge X 106 43 dX3_covet_40 rfl rfl (fun z => ?_) (fun z => ?_)
    · replace hp := gw_t z hp
      refine gw_iload_n X 107 2 dX3_covet_106 rfl rfl rfl ?_
      cases hp
      exact gw_iret X dX3_covet_107 (fun _ h => ⟨rfl, h⟩) (Nat.le_of_ble_eq_true rfl) (Nat.le_of_ble_eq_true rfl)
    · replace hp := gw_f z hp
      refine gw_aload_n X 44 0 dX3_covet_43 rfl rfl rfl ?_
      refine gM_g0_21 X 47 q1415 dX3_covet_44 rfl ?_
      refine gw_iload X 49 4 dX3_covet_47 rfl rfl ?_
      obtain ⟨hc, hp⟩ := gw_ck_some hp
      refine gM_l11 X 50 (Int32.toNatClampNeg c4) hc rfl dX3_covet_49 rfl ?_
      refine gw_istore X 52 [(5, .int (σ.1 11 (Int32.toNatClampNeg c4))), (0, .ref (a 0)), (1, .int v1), (2, .int c2), (3, .int c3), (4, .int c4)] dX3_covet_50 rfl (by decide) rfl ?_
      refine gw_iload X 54 0 dX3_covet_52 rfl rfl ?_
      refine gw_iload_n X 55 2 dX3_covet_54 rfl rfl rfl ?_
      refine gw_icmp_ne X 61 58 dX3_covet_55 rfl rfl (fun z => ?_) (fun z => ?_)
      · replace hp := gw_f z hp
        refine gw_aload_n X 62 1 dX3_covet_61 rfl rfl rfl ?_
        refine gM_g0_21 X 65 q1415 dX3_covet_62 rfl ?_
        refine gw_iload X 67 5 dX3_covet_65 rfl rfl ?_
        refine gw_iload_n X 68 2 dX3_covet_67 rfl rfl rfl ?_
        obtain ⟨hc, hp⟩ := gw_ck_some hp
        refine gM_s11 X 69 (Int32.toNatClampNeg c4) hc rfl dX3_covet_68 rfl ?_
        refine gw_aload_n X 70 1 dX3_covet_69 rfl rfl rfl ?_
        refine gw_iload_n X 71 2 dX3_covet_70 rfl rfl rfl ?_
        obtain ⟨σ7, h8, hp⟩ := gw_let_some hp
        rw [← h8]
        clear h8
        obtain ⟨r9, h10, hp⟩ := gw_b1_some hp
        refine gw_callVi X 74 [.int v1] (mt_X3_powerOf h10) lk_X3_379 ydv_X3_powerOf gM_cl0 gM_at0 rfl rfl rfl dX3_covet_71 rfl rfl rfl ?_
        refine gw_istore X 76 [(6, .int r9), (5, .int (σ.1 11 (Int32.toNatClampNeg c4))), (0, .ref (a 0)), (1, .int v1), (2, .int c2), (3, .int c3), (4, .int c4)] dX3_covet_74 rfl (by decide) rfl ?_
        refine gw_aload_n X 77 2 dX3_covet_76 rfl rfl rfl ?_
        refine gM_g0_21 X 80 q1415 dX3_covet_77 rfl ?_
        refine gw_iload X 82 6 dX3_covet_80 rfl rfl ?_
        refine gw_iload X 84 1 dX3_covet_82 rfl rfl ?_
        obtain ⟨hc, hp⟩ := gw_ck_some hp
        refine gM_s11 X 85 (Int32.toNatClampNeg c4) hc rfl dX3_covet_84 rfl ?_
        refine gw_iload X 87 0 dX3_covet_85 rfl rfl ?_
        refine gw_iload_n X 88 5 dX3_covet_87 rfl rfl rfl ?_
        obtain ⟨σ11, h12, hp⟩ := gw_let_some hp
        rw [← h12]
        clear h12
        refine gw_icmp_gt X 94 91 dX3_covet_88 rfl rfl (fun z => ?_) (fun z => ?_)
        · replace hp := gw_t z hp
          refine gw_iload X 96 6 dX3_covet_94 rfl rfl ?_
          refine gw_istore_n X 97 [(2, .int c4), (6, .int r9), (5, .int (σ.1 11 (Int32.toNatClampNeg c4))), (0, .ref (a 0)), (1, .int v1), (3, .int c3), (4, .int c4)] dX3_covet_96 rfl rfl (by decide) rfl ?_
          refine gw_iload X 99 1 dX3_covet_97 rfl rfl ?_
          refine gw_istore_n X 100 [(3, .int r9), (2, .int c4), (6, .int r9), (5, .int (σ.1 11 (Int32.toNatClampNeg c4))), (0, .ref (a 0)), (1, .int v1), (4, .int c4)] dX3_covet_99 rfl rfl (by decide) rfl ?_
          refine gw_iinc X 103 6 [(4, .int (c4 + 1)), (3, .int r9), (2, .int c4), (6, .int r9), (5, .int (σ.1 11 (Int32.toNatClampNeg c4))), (0, .ref (a 0)), (1, .int v1)] dX3_covet_100 rfl rfl gw_ci_1 (by decide) rfl ?_
          refine gw_goto X 32 dX3_covet_103 rfl ?_
          refine gw_lv [5, 6, 2, 1, 0] rfl ?_
          exact ih hp
        · replace hp := gw_f z hp
          refine gw_goto X 100 dX3_covet_91 rfl ?_
          refine gw_iinc X 103 6 [(4, .int (c4 + 1)), (6, .int r9), (5, .int (σ.1 11 (Int32.toNatClampNeg c4))), (0, .ref (a 0)), (1, .int v1), (2, .int c2), (3, .int c3)] dX3_covet_100 rfl rfl gw_ci_1 (by decide) rfl ?_
          refine gw_goto X 32 dX3_covet_103 rfl ?_
          refine gw_lv [3, 4, 5, 6, 0] rfl ?_
          exact ih hp
      · replace hp := gw_t z hp
        refine gw_goto X 100 dX3_covet_58 rfl ?_
        refine gw_iinc X 103 5 [(4, .int (c4 + 1)), (5, .int (σ.1 11 (Int32.toNatClampNeg c4))), (0, .ref (a 0)), (1, .int v1), (2, .int c2), (3, .int c3)] dX3_covet_100 rfl rfl gw_ci_1 (by decide) rfl ?_
        refine gw_goto X 32 dX3_covet_103 rfl ?_
        refine gw_lv [2, 3, 4, 5, 0] rfl ?_
        exact ih hp
set_option maxHeartbeats 4000000 in
theorem mt_X3_covet {l : Launch} {D : gw_D} {a : Nat → Nat} {Wr : va_W → Prop} {σ : gw_S} {x1 : Int32} {res : Int32 × gw_S} (hp : fx_X3_covet σ x1 = some res) : gw_Ct D l yX3_covet cX3_covet 7 (some .int) rm_X3_covet [.ref (a 0), .int x1] (gw_st (wM D a σ) Wr) (gw_pI res.1 (gw_st (wM D a res.2) Wr)) := by
  refine gw_ct (own := RX3) [(0, .ref (a 0)), (1, .int x1)] (by decide) rfl (Nat.le_of_ble_eq_true rfl) rfl ?_
  intro E X
  unfold fx_X3_covet at hp
  refine gw_aload_n X 1 0 dX3_covet_0 rfl rfl rfl ?_
  refine gw_iconst X 2 dX3_covet_1 rfl gw_ci_0 ?_
  refine gM_p0_0 X 5 q1394 dX3_covet_2 rfl ?_
  refine gw_aload_n X 6 0 dX3_covet_5 rfl rfl rfl ?_
  refine gw_iload_n X 7 1 dX3_covet_6 rfl rfl rfl ?_
  refine gw_i2l X 8 dX3_covet_7 rfl ?_
  obtain ⟨σ1, h2, hp⟩ := gw_let_some hp
  rw [← h2]
  clear h2
  refine gw_callVi X 11 [.long (Int32.toInt64 x1)] (mt_X3_isPerson rfl) lk_X3_206 ydv_X3_isPerson gM_cl0 gM_at0 rfl rfl rfl dX3_covet_8 rfl rfl rfl ?_
  refine gw_if_neB X 17 14 dX3_covet_11 rfl rfl (fun z => ?_) (fun z => ?_)
  · replace hp := gw_t z hp
    refine gw_aload_n X 18 0 dX3_covet_17 rfl rfl rfl ?_
    obtain ⟨σ3, h4, hp⟩ := gw_b1_some hp
    refine gw_callVv X 21 [] (mt_X3_laysNow h4) lk_X3_251 ydv_X3_laysNow gM_cl0 gM_at0 rfl rfl rfl dX3_covet_18 rfl rfl rfl ?_
    refine gw_iconst X 22 dX3_covet_21 rfl gw_ci_m1 ?_
    refine gw_istore_n X 23 [(2, .int (-1)), (0, .ref (a 0)), (1, .int x1)] dX3_covet_22 rfl rfl (by decide) rfl ?_
    refine gw_aload_n X 24 1 dX3_covet_23 rfl rfl rfl ?_
    refine gw_iload_n X 25 2 dX3_covet_24 rfl rfl rfl ?_
    obtain ⟨r5, h6, hp⟩ := gw_b1_some hp
    refine gw_callVi X 28 [.int x1] (mt_X3_powerOf h6) lk_X3_379 ydv_X3_powerOf gM_cl0 gM_at0 rfl rfl rfl dX3_covet_25 rfl rfl rfl ?_
    refine gw_istore_n X 29 [(3, .int r5), (2, .int (-1)), (0, .ref (a 0)), (1, .int x1)] dX3_covet_28 rfl rfl (by decide) rfl ?_
    refine gw_iconst X 30 dX3_covet_29 rfl gw_ci_0 ?_
    refine gw_istore X 32 [(4, .int 0), (3, .int r5), (2, .int (-1)), (0, .ref (a 0)), (1, .int x1)] dX3_covet_30 rfl (by decide) rfl ?_
    refine gw_lv [3, 4, 2, 1, 0] rfl ?_
    exact wk_X3_covet_L32 X hp
  · replace hp := gw_f z hp
    refine gw_bipush X 16 dX3_covet_14 rfl gw_cb_m2 ?_
    cases hp
    exact gw_iret X dX3_covet_16 (fun _ h => ⟨rfl, h⟩) (Nat.le_of_ble_eq_true rfl) (Nat.le_of_ble_eq_true rfl)
abbrev rm_X3_whyNotJudge : Room := { frames := 2, cells := 0, slots := 0, locals := 47 }
def fx_X3_whyNotJudge_L46 (σ : gw_S) (v1 : Int32) : Nat → Int32 → Option (Int32)
  | 0, _ => none
  | n + 1, c2 => gw_ck v1 4 ((if (σ.1 2 (Int32.toNatClampNeg v1)) ≤ c2 then some 0 else gw_ck (((60 : Int32) * v1) + c2) 240 (gw_b1 (if (lg_cmp (σ.2 3 (Int32.toNatClampNeg (((60 : Int32) * v1) + c2))) (-1 : Int64)) = 0 then gw_ck ((((60 : Int32) * v1) + c2) + (1 : Int32)) 240 ((if (lg_cmp (σ.2 3 (Int32.toNatClampNeg ((((60 : Int32) * v1) + c2) + (1 : Int32)))) (-1 : Int64)) = 0 then gw_ck ((((60 : Int32) * v1) + c2) + (2 : Int32)) 240 ((if (lg_cmp (σ.2 3 (Int32.toNatClampNeg ((((60 : Int32) * v1) + c2) + (2 : Int32)))) (-1 : Int64)) = 0 then some (1 : Int32) else some (0 : Int32))) else some (0 : Int32))) else some (0 : Int32)) (fun (y1 : Int32) => (if y1 = 0 then gw_ck (((60 : Int32) * v1) + c2) 240 ((if fx_X3_isPerson σ (σ.2 3 (Int32.toNatClampNeg (((60 : Int32) * v1) + c2))) = true then gw_ck ((((60 : Int32) * v1) + c2) + (1 : Int32)) 240 ((if fx_X3_isPerson σ (σ.2 3 (Int32.toNatClampNeg ((((60 : Int32) * v1) + c2) + (1 : Int32)))) = true then gw_ck ((((60 : Int32) * v1) + c2) + (2 : Int32)) 240 ((if fx_X3_isDeed (σ.2 3 (Int32.toNatClampNeg ((((60 : Int32) * v1) + c2) + (2 : Int32)))) = true then fx_X3_whyNotJudge_L46 σ v1 n (c2 + 3) else some (-2))) else some (-2))) else some (-2))) else fx_X3_whyNotJudge_L46 σ v1 n (c2 + 3))))))
def fx_X3_whyNotJudge (σ : gw_S) (x1 : Int32) : Option (Int32) := (if fx_X3_isSlot x1 = true then (if fx_X3_isCity σ = true then gw_ck x1 4 ((if (σ.1 1 (Int32.toNatClampNeg x1)) = (-1 : Int32) then some (-6) else gw_ck x1 4 ((if ((σ.1 2 (Int32.toNatClampNeg x1)) - (σ.1 2 (Int32.toNatClampNeg x1)) / (3 : Int32) * (3 : Int32)) = 0 then fx_X3_whyNotJudge_L46 σ x1 1000 (0 : Int32) else some (-2))))) else some (-2)) else some (-2))
set_option maxHeartbeats 4000000 in
theorem wk_X3_whyNotJudge_L46 {E : gw_E} {l : Launch} {D : gw_D} {a : Nat → Nat} {Wr : va_W → Prop} {σ : gw_S} {res : Int32} (X : gw_X E cX3_whyNotJudge 5 RX3 (some .int) l D rm_X3_whyNotJudge (some (gw_pI res (gw_st (wM D a σ) Wr)))) {v1 : Int32} : ∀ {n : Nat} {c2 : Int32}, fx_X3_whyNotJudge_L46 σ v1 n c2 = some res → gw_W E 46 [(0, .ref (a 0)), (1, .int v1), (2, .int c2)] [] (gw_st (wM D a σ) Wr) 0 0 := by
  intro n
  induction n with
  | zero =>
    intro c2 hp
    cases (show none = some res from hp)
  | succ n ih =>
    intro c2 hp
    rw [fx_X3_whyNotJudge_L46] at hp
    refine gw_iload_n X 47 2 dX3_whyNotJudge_46 rfl rfl rfl ?_
    refine gw_aload_n X 48 0 dX3_whyNotJudge_47 rfl rfl rfl ?_
    refine gM_g0_2 X 51 q1396 dX3_whyNotJudge_48 rfl ?_
    refine gw_iload_n X 52 1 dX3_whyNotJudge_51 rfl rfl rfl ?_
    obtain ⟨hc, hp⟩ := gw_ck_some hp
    refine gM_l2 X 53 (Int32.toNatClampNeg v1) hc rfl dX3_whyNotJudge_52 rfl ?_
    refine gw_icmp_ge X 169 56 dX3_whyNotJudge_53 rfl rfl (fun z => ?_) (fun z => ?_)
    · replace hp := gw_t z hp
      refine gw_iconst X 170 dX3_whyNotJudge_169 rfl gw_ci_0 ?_
      cases hp
      exact gw_iret X dX3_whyNotJudge_170 (fun _ h => ⟨rfl, h⟩) (Nat.le_of_ble_eq_true rfl) (Nat.le_of_ble_eq_true rfl)
    · replace hp := gw_f z hp
      refine gw_bipush X 58 dX3_whyNotJudge_56 rfl gw_cb_60 ?_
      refine gw_iload_n X 59 1 dX3_whyNotJudge_58 rfl rfl rfl ?_
      refine gw_imul X 60 dX3_whyNotJudge_59 rfl ?_
      refine gw_iload_n X 61 2 dX3_whyNotJudge_60 rfl rfl rfl ?_
      refine gw_iadd X 62 dX3_whyNotJudge_61 rfl ?_
      refine gw_istore_n X 63 [(3, .int (((60 : Int32) * v1) + c2)), (0, .ref (a 0)), (1, .int v1), (2, .int c2)] dX3_whyNotJudge_62 rfl rfl (by decide) rfl ?_
      refine gw_aload_n X 64 1 dX3_whyNotJudge_63 rfl rfl rfl ?_
      refine gM_g0_3 X 67 q1397 dX3_whyNotJudge_64 rfl ?_
      refine gw_iload_n X 68 0 dX3_whyNotJudge_67 rfl rfl rfl ?_
      obtain ⟨hc, hp⟩ := gw_ck_some hp
      refine gM_l3 X 69 (Int32.toNatClampNeg (((60 : Int32) * v1) + c2)) hc rfl dX3_whyNotJudge_68 rfl ?_
      refine gw_ldc2 X 72 dX3_whyNotJudge_69 rfl q1551 ?_
      refine gw_lcmp X 73 dX3_whyNotJudge_72 rfl ?_
      obtain ⟨y1, h2, hp⟩ := gw_b1_some hp
      have kJ : gw_W E 111 [(0, .ref (a 0)), (1, .int v1), (2, .int c2), (3, .int (((60 : Int32) * v1) + c2))] [.int y1] (gw_st (wM D a σ) Wr) 0 0 := by
        refine gw_istore X 113 [(4, .int y1), (0, .ref (a 0)), (1, .int v1), (2, .int c2), (3, .int (((60 : Int32) * v1) + c2))] dX3_whyNotJudge_111 rfl (by decide) rfl ?_
        refine gw_iload X 115 0 dX3_whyNotJudge_113 rfl rfl ?_
        refine gw_if_ne X 163 118 dX3_whyNotJudge_115 rfl rfl (fun z => ?_) (fun z => ?_)
        · replace hp := gw_f z hp
          refine gw_iinc X 166 3 [(2, .int (c2 + 3)), (4, .int y1), (0, .ref (a 0)), (1, .int v1), (3, .int (((60 : Int32) * v1) + c2))] dX3_whyNotJudge_163 rfl rfl gw_ci_3 (by decide) rfl ?_
          refine gw_goto X 46 dX3_whyNotJudge_166 rfl ?_
          refine gw_lv [2, 3, 0] rfl ?_
          exact ih hp
        · replace hp := gw_t z hp
          refine gw_aload_n X 119 1 dX3_whyNotJudge_118 rfl rfl rfl ?_
          refine gw_aload_n X 120 1 dX3_whyNotJudge_119 rfl rfl rfl ?_
          refine gM_g0_3 X 123 q1397 dX3_whyNotJudge_120 rfl ?_
          refine gw_iload_n X 124 4 dX3_whyNotJudge_123 rfl rfl rfl ?_
          obtain ⟨hc, hp⟩ := gw_ck_some hp
          refine gM_l3 X 125 (Int32.toNatClampNeg (((60 : Int32) * v1) + c2)) hc rfl dX3_whyNotJudge_124 rfl ?_
          refine gw_callVi X 128 [.long (σ.2 3 (Int32.toNatClampNeg (((60 : Int32) * v1) + c2)))] (mt_X3_isPerson rfl) lk_X3_206 ydv_X3_isPerson gM_cl0 gM_at0 rfl rfl rfl dX3_whyNotJudge_125 rfl rfl rfl ?_
          refine gw_if_eqB X 160 131 dX3_whyNotJudge_128 rfl rfl (fun z => ?_) (fun z => ?_)
          · replace hp := gw_f z hp
            refine gw_bipush X 162 dX3_whyNotJudge_160 rfl gw_cb_m2 ?_
            cases hp
            exact gw_iret X dX3_whyNotJudge_162 (fun _ h => ⟨rfl, h⟩) (Nat.le_of_ble_eq_true rfl) (Nat.le_of_ble_eq_true rfl)
          · replace hp := gw_t z hp
            refine gw_aload_n X 132 1 dX3_whyNotJudge_131 rfl rfl rfl ?_
            refine gw_aload_n X 133 1 dX3_whyNotJudge_132 rfl rfl rfl ?_
            refine gM_g0_3 X 136 q1397 dX3_whyNotJudge_133 rfl ?_
            refine gw_iload_n X 137 4 dX3_whyNotJudge_136 rfl rfl rfl ?_
            refine gw_iconst X 138 dX3_whyNotJudge_137 rfl gw_ci_1 ?_
            refine gw_iadd X 139 dX3_whyNotJudge_138 rfl ?_
            obtain ⟨hc, hp⟩ := gw_ck_some hp
            refine gM_l3 X 140 (Int32.toNatClampNeg ((((60 : Int32) * v1) + c2) + (1 : Int32))) hc rfl dX3_whyNotJudge_139 rfl ?_
            refine gw_callVi X 143 [.long (σ.2 3 (Int32.toNatClampNeg ((((60 : Int32) * v1) + c2) + (1 : Int32))))] (mt_X3_isPerson rfl) lk_X3_206 ydv_X3_isPerson gM_cl0 gM_at0 rfl rfl rfl dX3_whyNotJudge_140 rfl rfl rfl ?_
            refine gw_if_eqB X 160 146 dX3_whyNotJudge_143 rfl rfl (fun z => ?_) (fun z => ?_)
            · replace hp := gw_f z hp
              refine gw_bipush X 162 dX3_whyNotJudge_160 rfl gw_cb_m2 ?_
              cases hp
              exact gw_iret X dX3_whyNotJudge_162 (fun _ h => ⟨rfl, h⟩) (Nat.le_of_ble_eq_true rfl) (Nat.le_of_ble_eq_true rfl)
            · replace hp := gw_t z hp
              refine gw_aload_n X 147 1 dX3_whyNotJudge_146 rfl rfl rfl ?_
              refine gM_g0_3 X 150 q1397 dX3_whyNotJudge_147 rfl ?_
              refine gw_iload_n X 151 4 dX3_whyNotJudge_150 rfl rfl rfl ?_
              refine gw_iconst X 152 dX3_whyNotJudge_151 rfl gw_ci_2 ?_
              refine gw_iadd X 153 dX3_whyNotJudge_152 rfl ?_
              obtain ⟨hc, hp⟩ := gw_ck_some hp
              refine gM_l3 X 154 (Int32.toNatClampNeg ((((60 : Int32) * v1) + c2) + (2 : Int32))) hc rfl dX3_whyNotJudge_153 rfl ?_
              refine gw_callSi X 157 [.long (σ.2 3 (Int32.toNatClampNeg ((((60 : Int32) * v1) + c2) + (2 : Int32))))] (mt_X3_isDeed rfl) lk_X3_278 yd_X3_isDeed rfl rfl rfl dX3_whyNotJudge_154 rfl rfl rfl ?_
              refine gw_if_neB X 163 160 dX3_whyNotJudge_157 rfl rfl (fun z => ?_) (fun z => ?_)
              · replace hp := gw_t z hp
                refine gw_iinc X 166 3 [(2, .int (c2 + 3)), (4, .int y1), (0, .ref (a 0)), (1, .int v1), (3, .int (((60 : Int32) * v1) + c2))] dX3_whyNotJudge_163 rfl rfl gw_ci_3 (by decide) rfl ?_
                refine gw_goto X 46 dX3_whyNotJudge_166 rfl ?_
                refine gw_lv [2, 3, 0] rfl ?_
                exact ih hp
              · replace hp := gw_f z hp
                refine gw_bipush X 162 dX3_whyNotJudge_160 rfl gw_cb_m2 ?_
                cases hp
                exact gw_iret X dX3_whyNotJudge_162 (fun _ h => ⟨rfl, h⟩) (Nat.le_of_ble_eq_true rfl) (Nat.le_of_ble_eq_true rfl)
      clear hp
      have hp := h2
      clear h2
      refine gw_if_ne X 110 76 dX3_whyNotJudge_73 rfl rfl (fun z => ?_) (fun z => ?_)
      · replace hp := gw_f z hp
        refine gw_iconst X 111 dX3_whyNotJudge_110 rfl gw_ci_0 ?_
        cases hp
        exact gw_lv [1, 2, 3, 0] rfl kJ
      · replace hp := gw_t z hp
        refine gw_aload_n X 77 1 dX3_whyNotJudge_76 rfl rfl rfl ?_
        refine gM_g0_3 X 80 q1397 dX3_whyNotJudge_77 rfl ?_
        refine gw_iload_n X 81 0 dX3_whyNotJudge_80 rfl rfl rfl ?_
        refine gw_iconst X 82 dX3_whyNotJudge_81 rfl gw_ci_1 ?_
        refine gw_iadd X 83 dX3_whyNotJudge_82 rfl ?_
        obtain ⟨hc, hp⟩ := gw_ck_some hp
        refine gM_l3 X 84 (Int32.toNatClampNeg ((((60 : Int32) * v1) + c2) + (1 : Int32))) hc rfl dX3_whyNotJudge_83 rfl ?_
        refine gw_ldc2 X 87 dX3_whyNotJudge_84 rfl q1551 ?_
        refine gw_lcmp X 88 dX3_whyNotJudge_87 rfl ?_
        refine gw_if_ne X 110 91 dX3_whyNotJudge_88 rfl rfl (fun z => ?_) (fun z => ?_)
        · replace hp := gw_f z hp
          refine gw_iconst X 111 dX3_whyNotJudge_110 rfl gw_ci_0 ?_
          cases hp
          exact gw_lv [1, 2, 3, 0] rfl kJ
        · replace hp := gw_t z hp
          refine gw_aload_n X 92 1 dX3_whyNotJudge_91 rfl rfl rfl ?_
          refine gM_g0_3 X 95 q1397 dX3_whyNotJudge_92 rfl ?_
          refine gw_iload_n X 96 0 dX3_whyNotJudge_95 rfl rfl rfl ?_
          refine gw_iconst X 97 dX3_whyNotJudge_96 rfl gw_ci_2 ?_
          refine gw_iadd X 98 dX3_whyNotJudge_97 rfl ?_
          obtain ⟨hc, hp⟩ := gw_ck_some hp
          refine gM_l3 X 99 (Int32.toNatClampNeg ((((60 : Int32) * v1) + c2) + (2 : Int32))) hc rfl dX3_whyNotJudge_98 rfl ?_
          refine gw_ldc2 X 102 dX3_whyNotJudge_99 rfl q1551 ?_
          refine gw_lcmp X 103 dX3_whyNotJudge_102 rfl ?_
          refine gw_if_ne X 110 106 dX3_whyNotJudge_103 rfl rfl (fun z => ?_) (fun z => ?_)
          · replace hp := gw_f z hp
            refine gw_iconst X 111 dX3_whyNotJudge_110 rfl gw_ci_0 ?_
            cases hp
            exact gw_lv [1, 2, 3, 0] rfl kJ
          · replace hp := gw_t z hp
            refine gw_iconst X 107 dX3_whyNotJudge_106 rfl gw_ci_1 ?_
            refine gw_goto X 111 dX3_whyNotJudge_107 rfl ?_
            cases hp
            exact gw_lv [1, 2, 3, 0] rfl kJ
set_option maxHeartbeats 4000000 in
theorem mt_X3_whyNotJudge {l : Launch} {D : gw_D} {a : Nat → Nat} {Wr : va_W → Prop} {σ : gw_S} {x1 : Int32} {res : Int32} (hp : fx_X3_whyNotJudge σ x1 = some res) : gw_Ct D l yX3_whyNotJudge cX3_whyNotJudge 5 (some .int) rm_X3_whyNotJudge [.ref (a 0), .int x1] (gw_st (wM D a σ) Wr) (gw_pI res (gw_st (wM D a σ) Wr)) := by
  refine gw_ct (own := RX3) [(0, .ref (a 0)), (1, .int x1)] (by decide) rfl (Nat.le_of_ble_eq_true rfl) rfl ?_
  intro E X
  unfold fx_X3_whyNotJudge at hp
  refine gw_iload_n X 1 1 dX3_whyNotJudge_0 rfl rfl rfl ?_
  refine gw_callSi X 4 [.int x1] (mt_X3_isSlot rfl) lk_X3_68 yd_X3_isSlot rfl rfl rfl dX3_whyNotJudge_1 rfl rfl rfl ?_
  refine gw_if_eqB X 14 7 dX3_whyNotJudge_4 rfl rfl (fun z => ?_) (fun z => ?_)
  · replace hp := gw_f z hp
    refine gw_bipush X 16 dX3_whyNotJudge_14 rfl gw_cb_m2 ?_
    cases hp
    exact gw_iret X dX3_whyNotJudge_16 (fun _ h => ⟨rfl, h⟩) (Nat.le_of_ble_eq_true rfl) (Nat.le_of_ble_eq_true rfl)
  · replace hp := gw_t z hp
    refine gw_aload_n X 8 0 dX3_whyNotJudge_7 rfl rfl rfl ?_
    refine gw_callVi X 11 [] (mt_X3_isCity rfl) lk_X3_209 ydv_X3_isCity gM_cl0 gM_at0 rfl rfl rfl dX3_whyNotJudge_8 rfl rfl rfl ?_
    refine gw_if_neB X 17 14 dX3_whyNotJudge_11 rfl rfl (fun z => ?_) (fun z => ?_)
    · replace hp := gw_t z hp
      refine gw_aload_n X 18 0 dX3_whyNotJudge_17 rfl rfl rfl ?_
      refine gM_g0_1 X 21 q1395 dX3_whyNotJudge_18 rfl ?_
      refine gw_iload_n X 22 1 dX3_whyNotJudge_21 rfl rfl rfl ?_
      obtain ⟨hc, hp⟩ := gw_ck_some hp
      refine gM_l1 X 23 (Int32.toNatClampNeg x1) hc rfl dX3_whyNotJudge_22 rfl ?_
      refine gw_iconst X 24 dX3_whyNotJudge_23 rfl gw_ci_m1 ?_
      refine gw_icmp_ne X 30 27 dX3_whyNotJudge_24 rfl rfl (fun z => ?_) (fun z => ?_)
      · replace hp := gw_f z hp
        refine gw_aload_n X 31 0 dX3_whyNotJudge_30 rfl rfl rfl ?_
        refine gM_g0_2 X 34 q1396 dX3_whyNotJudge_31 rfl ?_
        refine gw_iload_n X 35 1 dX3_whyNotJudge_34 rfl rfl rfl ?_
        obtain ⟨hc, hp⟩ := gw_ck_some hp
        refine gM_l2 X 36 (Int32.toNatClampNeg x1) hc rfl dX3_whyNotJudge_35 rfl ?_
        refine gw_iconst X 37 dX3_whyNotJudge_36 rfl gw_ci_3 ?_
        refine gw_irem X 38 dX3_whyNotJudge_37 rfl (by decide) ?_
        refine gw_if_eq X 44 41 dX3_whyNotJudge_38 rfl rfl (fun z => ?_) (fun z => ?_)
        · replace hp := gw_t z hp
          refine gw_iconst X 45 dX3_whyNotJudge_44 rfl gw_ci_0 ?_
          refine gw_istore_n X 46 [(2, .int 0), (0, .ref (a 0)), (1, .int x1)] dX3_whyNotJudge_45 rfl rfl (by decide) rfl ?_
          refine gw_lv [1, 2, 0] rfl ?_
          exact wk_X3_whyNotJudge_L46 X hp
        · replace hp := gw_f z hp
          refine gw_bipush X 43 dX3_whyNotJudge_41 rfl gw_cb_m2 ?_
          cases hp
          exact gw_iret X dX3_whyNotJudge_43 (fun _ h => ⟨rfl, h⟩) (Nat.le_of_ble_eq_true rfl) (Nat.le_of_ble_eq_true rfl)
      · replace hp := gw_t z hp
        refine gw_bipush X 29 dX3_whyNotJudge_27 rfl gw_cb_m6 ?_
        cases hp
        exact gw_iret X dX3_whyNotJudge_29 (fun _ h => ⟨rfl, h⟩) (Nat.le_of_ble_eq_true rfl) (Nat.le_of_ble_eq_true rfl)
    · replace hp := gw_f z hp
      refine gw_bipush X 16 dX3_whyNotJudge_14 rfl gw_cb_m2 ?_
      cases hp
      exact gw_iret X dX3_whyNotJudge_16 (fun _ h => ⟨rfl, h⟩) (Nat.le_of_ble_eq_true rfl) (Nat.le_of_ble_eq_true rfl)
abbrev rm_X3_judges : Room := { frames := 3, cells := 0, slots := 0, locals := 64 }
def fx_X3_judges_L6 (v1 : Int32) : Nat → Int32 → gw_S → Option (Int32 × gw_S)
  | 0, _, _ => none
  | n + 1, c2, σ => gw_ck v1 4 ((if (σ.1 2 (Int32.toNatClampNeg v1)) ≤ c2 then gw_ck v1 4 (some ((σ.1 2 (Int32.toNatClampNeg v1)) / (3 : Int32), σ)) else gw_ck (((60 : Int32) * v1) + c2) 240 ((if (lg_cmp (σ.2 3 (Int32.toNatClampNeg (((60 : Int32) * v1) + c2))) (-1 : Int64)) = 0 then gw_b1 (fx_X3_dayEnds σ) (fun σ7 => fx_X3_judges_L6 v1 n (c2 + 3) σ7) else gw_ck (((60 : Int32) * v1) + c2) 240 (gw_ck ((((60 : Int32) * v1) + c2) + (1 : Int32)) 240 (gw_ck ((((60 : Int32) * v1) + c2) + (2 : Int32)) 240 (gw_b1 (fx_X3_whyOf σ (Int64.toInt32 (σ.2 3 (Int32.toNatClampNeg (((60 : Int32) * v1) + c2)))) (Int64.toInt32 (σ.2 3 (Int32.toNatClampNeg ((((60 : Int32) * v1) + c2) + (1 : Int32))))) (Int64.toInt32 (σ.2 3 (Int32.toNatClampNeg ((((60 : Int32) * v1) + c2) + (2 : Int32)))))) (fun r3 => (if r3 = 0 then gw_ck ((((60 : Int32) * v1) + c2) + (1 : Int32)) 240 (gw_b1 (fx_X3_isAsked σ (Int64.toInt32 (σ.2 3 (Int32.toNatClampNeg ((((60 : Int32) * v1) + c2) + (1 : Int32)))))) (fun σ5 => fx_X3_judges_L6 v1 n (c2 + 3) σ5)) else some (c2 / (3 : Int32), σ))))))))))
def fx_X3_judges (σ : gw_S) (x1 : Int32) : Option (Int32 × gw_S) := gw_b1 (fx_X3_start σ) (fun σ1 => fx_X3_judges_L6 x1 1000 (0 : Int32) σ1)
set_option maxHeartbeats 4000000 in
theorem wk_X3_judges_L6 {E : gw_E} {l : Launch} {D : gw_D} {a : Nat → Nat} {Wr : va_W → Prop} {res : Int32 × gw_S} (X : gw_X E cX3_judges 4 RX3 (some .int) l D rm_X3_judges (some (gw_pI res.1 (gw_st (wM D a res.2) Wr)))) {v1 : Int32} : ∀ {n : Nat} {c2 : Int32} {σ : gw_S}, fx_X3_judges_L6 v1 n c2 σ = some res → gw_W E 6 [(0, .ref (a 0)), (1, .int v1), (2, .int c2)] [] (gw_st (wM D a σ) Wr) 0 0 := by
  intro n
  induction n with
  | zero =>
    intro c2 σ hp
    cases (show none = some res from hp)
  | succ n ih =>
    intro c2 σ hp
    rw [fx_X3_judges_L6] at hp
    refine gw_iload_n X 7 2 dX3_judges_6 rfl rfl rfl ?_
    refine gw_aload_n X 8 0 dX3_judges_7 rfl rfl rfl ?_
    refine gM_g0_2 X 11 q1396 dX3_judges_8 rfl ?_
    refine gw_iload_n X 12 1 dX3_judges_11 rfl rfl rfl ?_
    obtain ⟨hc, hp⟩ := gw_ck_some hp
    refine gM_l2 X 13 (Int32.toNatClampNeg v1) hc rfl dX3_judges_12 rfl ?_
    refine gw_icmp_ge X 98 16 dX3_judges_13 rfl rfl (fun z => ?_) (fun z => ?_)
    · replace hp := gw_t z hp
      refine gw_aload_n X 99 0 dX3_judges_98 rfl rfl rfl ?_
      refine gM_g0_2 X 102 q1396 dX3_judges_99 rfl ?_
      refine gw_iload_n X 103 1 dX3_judges_102 rfl rfl rfl ?_
      obtain ⟨hc, hp⟩ := gw_ck_some hp
      refine gM_l2 X 104 (Int32.toNatClampNeg v1) hc rfl dX3_judges_103 rfl ?_
      refine gw_iconst X 105 dX3_judges_104 rfl gw_ci_3 ?_
      refine gw_idiv X 106 dX3_judges_105 rfl (by decide) ?_
      cases hp
      exact gw_iret X dX3_judges_106 (fun _ h => ⟨rfl, h⟩) (Nat.le_of_ble_eq_true rfl) (Nat.le_of_ble_eq_true rfl)
    · replace hp := gw_f z hp
      refine gw_bipush X 18 dX3_judges_16 rfl gw_cb_60 ?_
      refine gw_iload_n X 19 1 dX3_judges_18 rfl rfl rfl ?_
      refine gw_imul X 20 dX3_judges_19 rfl ?_
      refine gw_iload_n X 21 2 dX3_judges_20 rfl rfl rfl ?_
      refine gw_iadd X 22 dX3_judges_21 rfl ?_
      refine gw_istore_n X 23 [(3, .int (((60 : Int32) * v1) + c2)), (0, .ref (a 0)), (1, .int v1), (2, .int c2)] dX3_judges_22 rfl rfl (by decide) rfl ?_
      refine gw_aload_n X 24 1 dX3_judges_23 rfl rfl rfl ?_
      refine gM_g0_3 X 27 q1397 dX3_judges_24 rfl ?_
      refine gw_iload_n X 28 0 dX3_judges_27 rfl rfl rfl ?_
      obtain ⟨hc, hp⟩ := gw_ck_some hp
      refine gM_l3 X 29 (Int32.toNatClampNeg (((60 : Int32) * v1) + c2)) hc rfl dX3_judges_28 rfl ?_
      refine gw_ldc2 X 32 dX3_judges_29 rfl q1551 ?_
      refine gw_lcmp X 33 dX3_judges_32 rfl ?_
      refine gw_if_ne X 43 36 dX3_judges_33 rfl rfl (fun z => ?_) (fun z => ?_)
      · replace hp := gw_f z hp
        refine gw_aload_n X 44 1 dX3_judges_43 rfl rfl rfl ?_
        refine gw_aload_n X 45 1 dX3_judges_44 rfl rfl rfl ?_
        refine gM_g0_3 X 48 q1397 dX3_judges_45 rfl ?_
        refine gw_iload_n X 49 0 dX3_judges_48 rfl rfl rfl ?_
        obtain ⟨hc, hp⟩ := gw_ck_some hp
        refine gM_l3 X 50 (Int32.toNatClampNeg (((60 : Int32) * v1) + c2)) hc rfl dX3_judges_49 rfl ?_
        refine gw_l2i X 51 dX3_judges_50 rfl ?_
        refine gw_aload_n X 52 1 dX3_judges_51 rfl rfl rfl ?_
        refine gM_g0_3 X 55 q1397 dX3_judges_52 rfl ?_
        refine gw_iload_n X 56 0 dX3_judges_55 rfl rfl rfl ?_
        refine gw_iconst X 57 dX3_judges_56 rfl gw_ci_1 ?_
        refine gw_iadd X 58 dX3_judges_57 rfl ?_
        obtain ⟨hc, hp⟩ := gw_ck_some hp
        refine gM_l3 X 59 (Int32.toNatClampNeg ((((60 : Int32) * v1) + c2) + (1 : Int32))) hc rfl dX3_judges_58 rfl ?_
        refine gw_l2i X 60 dX3_judges_59 rfl ?_
        refine gw_aload_n X 61 1 dX3_judges_60 rfl rfl rfl ?_
        refine gM_g0_3 X 64 q1397 dX3_judges_61 rfl ?_
        refine gw_iload_n X 65 0 dX3_judges_64 rfl rfl rfl ?_
        refine gw_iconst X 66 dX3_judges_65 rfl gw_ci_2 ?_
        refine gw_iadd X 67 dX3_judges_66 rfl ?_
        obtain ⟨hc, hp⟩ := gw_ck_some hp
        refine gM_l3 X 68 (Int32.toNatClampNeg ((((60 : Int32) * v1) + c2) + (2 : Int32))) hc rfl dX3_judges_67 rfl ?_
        refine gw_l2i X 69 dX3_judges_68 rfl ?_
        obtain ⟨r3, h4, hp⟩ := gw_b1_some hp
        refine gw_callVi X 72 [.int (Int64.toInt32 (σ.2 3 (Int32.toNatClampNeg (((60 : Int32) * v1) + c2)))), .int (Int64.toInt32 (σ.2 3 (Int32.toNatClampNeg ((((60 : Int32) * v1) + c2) + (1 : Int32))))), .int (Int64.toInt32 (σ.2 3 (Int32.toNatClampNeg ((((60 : Int32) * v1) + c2) + (2 : Int32)))))] (mt_X3_whyOf h4) lk_X3_287 ydv_X3_whyOf gM_cl0 gM_at0 rfl rfl rfl dX3_judges_69 rfl rfl rfl ?_
        refine gw_if_eq X 79 75 dX3_judges_72 rfl rfl (fun z => ?_) (fun z => ?_)
        · replace hp := gw_t z hp
          refine gw_aload_n X 80 1 dX3_judges_79 rfl rfl rfl ?_
          refine gw_aload_n X 81 1 dX3_judges_80 rfl rfl rfl ?_
          refine gM_g0_3 X 84 q1397 dX3_judges_81 rfl ?_
          refine gw_iload_n X 85 0 dX3_judges_84 rfl rfl rfl ?_
          refine gw_iconst X 86 dX3_judges_85 rfl gw_ci_1 ?_
          refine gw_iadd X 87 dX3_judges_86 rfl ?_
          obtain ⟨hc, hp⟩ := gw_ck_some hp
          refine gM_l3 X 88 (Int32.toNatClampNeg ((((60 : Int32) * v1) + c2) + (1 : Int32))) hc rfl dX3_judges_87 rfl ?_
          refine gw_l2i X 89 dX3_judges_88 rfl ?_
          obtain ⟨σ5, h6, hp⟩ := gw_b1_some hp
          refine gw_callVv X 92 [.int (Int64.toInt32 (σ.2 3 (Int32.toNatClampNeg ((((60 : Int32) * v1) + c2) + (1 : Int32)))))] (mt_X3_isAsked h6) lk_X3_243 ydv_X3_isAsked gM_cl0 gM_at0 rfl rfl rfl dX3_judges_89 rfl rfl rfl ?_
          refine gw_iinc X 95 3 [(2, .int (c2 + 3)), (3, .int (((60 : Int32) * v1) + c2)), (0, .ref (a 0)), (1, .int v1)] dX3_judges_92 rfl rfl gw_ci_3 (by decide) rfl ?_
          refine gw_goto X 6 dX3_judges_95 rfl ?_
          refine gw_lv [2, 3, 0] rfl ?_
          exact ih hp
        · replace hp := gw_f z hp
          refine gw_iload_n X 76 3 dX3_judges_75 rfl rfl rfl ?_
          refine gw_iconst X 77 dX3_judges_76 rfl gw_ci_3 ?_
          refine gw_idiv X 78 dX3_judges_77 rfl (by decide) ?_
          cases hp
          exact gw_iret X dX3_judges_78 (fun _ h => ⟨rfl, h⟩) (Nat.le_of_ble_eq_true rfl) (Nat.le_of_ble_eq_true rfl)
      · replace hp := gw_t z hp
        refine gw_aload_n X 37 1 dX3_judges_36 rfl rfl rfl ?_
        obtain ⟨σ7, h8, hp⟩ := gw_b1_some hp
        refine gw_callVv X 40 [] (mt_X3_dayEnds h8) lk_X3_246 ydv_X3_dayEnds gM_cl0 gM_at0 rfl rfl rfl dX3_judges_37 rfl rfl rfl ?_
        refine gw_goto X 92 dX3_judges_40 rfl ?_
        refine gw_iinc X 95 3 [(2, .int (c2 + 3)), (3, .int (((60 : Int32) * v1) + c2)), (0, .ref (a 0)), (1, .int v1)] dX3_judges_92 rfl rfl gw_ci_3 (by decide) rfl ?_
        refine gw_goto X 6 dX3_judges_95 rfl ?_
        refine gw_lv [2, 3, 0] rfl ?_
        exact ih hp
set_option maxHeartbeats 4000000 in
theorem mt_X3_judges {l : Launch} {D : gw_D} {a : Nat → Nat} {Wr : va_W → Prop} {σ : gw_S} {x1 : Int32} {res : Int32 × gw_S} (hp : fx_X3_judges σ x1 = some res) : gw_Ct D l yX3_judges cX3_judges 4 (some .int) rm_X3_judges [.ref (a 0), .int x1] (gw_st (wM D a σ) Wr) (gw_pI res.1 (gw_st (wM D a res.2) Wr)) := by
  refine gw_ct (own := RX3) [(0, .ref (a 0)), (1, .int x1)] (by decide) rfl (Nat.le_of_ble_eq_true rfl) rfl ?_
  intro E X
  unfold fx_X3_judges at hp
  refine gw_aload_n X 1 0 dX3_judges_0 rfl rfl rfl ?_
  obtain ⟨σ1, h2, hp⟩ := gw_b1_some hp
  refine gw_callVv X 4 [] (mt_X3_start h2) lk_X3_229 ydv_X3_start gM_cl0 gM_at0 rfl rfl rfl dX3_judges_1 rfl rfl rfl ?_
  refine gw_iconst X 5 dX3_judges_4 rfl gw_ci_0 ?_
  refine gw_istore_n X 6 [(2, .int 0), (0, .ref (a 0)), (1, .int x1)] dX3_judges_5 rfl rfl (by decide) rfl ?_
  refine gw_lv [1, 2, 0] rfl ?_
  exact wk_X3_judges_L6 X hp
abbrev rm_X3_judge : Room := { frames := 4, cells := 0, slots := 0, locals := 87 }
def fx_X3_judge (σ : gw_S) (x1 : Int32) : Option (Int32 × gw_S) := gw_let (gw_u σ 0 0 0) (fun σ1 => gw_b1 (fx_X3_whyNotJudge σ1 x1) (fun r3 => (if r3 = 0 then gw_b2 (fx_X3_judges σ1 x1) (fun r5 σ6 => some (r5, σ6)) else some (r3, σ1))))
set_option maxHeartbeats 4000000 in
theorem mt_X3_judge {l : Launch} {D : gw_D} {a : Nat → Nat} {Wr : va_W → Prop} {σ : gw_S} {x1 : Int32} {res : Int32 × gw_S} (hp : fx_X3_judge σ x1 = some res) : gw_Ct D l yX3_judge cX3_judge 3 (some .int) rm_X3_judge [.ref (a 0), .int x1] (gw_st (wM D a σ) Wr) (gw_pI res.1 (gw_st (wM D a res.2) Wr)) := by
  refine gw_ct (own := RX3) [(0, .ref (a 0)), (1, .int x1)] (by decide) rfl (Nat.le_of_ble_eq_true rfl) rfl ?_
  intro E X
  unfold fx_X3_judge at hp
  refine gw_aload_n X 1 0 dX3_judge_0 rfl rfl rfl ?_
  refine gw_iconst X 2 dX3_judge_1 rfl gw_ci_0 ?_
  refine gM_p0_0 X 5 q1394 dX3_judge_2 rfl ?_
  refine gw_aload_n X 6 0 dX3_judge_5 rfl rfl rfl ?_
  refine gw_iload_n X 7 1 dX3_judge_6 rfl rfl rfl ?_
  obtain ⟨σ1, h2, hp⟩ := gw_let_some hp
  rw [← h2]
  clear h2
  obtain ⟨r3, h4, hp⟩ := gw_b1_some hp
  refine gw_callVi X 10 [.int x1] (mt_X3_whyNotJudge h4) lk_X3_382 ydv_X3_whyNotJudge gM_cl0 gM_at0 rfl rfl rfl dX3_judge_7 rfl rfl rfl ?_
  refine gw_istore_n X 11 [(2, .int r3), (0, .ref (a 0)), (1, .int x1)] dX3_judge_10 rfl rfl (by decide) rfl ?_
  refine gw_iload_n X 12 0 dX3_judge_11 rfl rfl rfl ?_
  refine gw_if_eq X 19 15 dX3_judge_12 rfl rfl (fun z => ?_) (fun z => ?_)
  · replace hp := gw_t z hp
    refine gw_aload_n X 20 1 dX3_judge_19 rfl rfl rfl ?_
    refine gw_iload_n X 21 2 dX3_judge_20 rfl rfl rfl ?_
    obtain ⟨r5, σ6, h7, hp⟩ := gw_b2_some hp
    refine gw_callVi X 24 [.int x1] (mt_X3_judges h7) lk_X3_385 ydv_X3_judges gM_cl0 gM_at0 rfl rfl rfl dX3_judge_21 rfl rfl rfl ?_
    cases hp
    exact gw_iret X dX3_judge_24 (fun _ h => ⟨rfl, h⟩) (Nat.le_of_ble_eq_true rfl) (Nat.le_of_ble_eq_true rfl)
  · replace hp := gw_f z hp
    refine gw_iload_n X 16 0 dX3_judge_15 rfl rfl rfl ?_
    refine gw_goto X 24 dX3_judge_16 rfl ?_
    cases hp
    exact gw_iret X dX3_judge_24 (fun _ h => ⟨rfl, h⟩) (Nat.le_of_ble_eq_true rfl) (Nat.le_of_ble_eq_true rfl)
abbrev rm_X3_freed : Room := { frames := 4, cells := 0, slots := 0, locals := 87 }
def fx_X3_freed (σ : gw_S) (x1 : Int32) : Option (Int32 × gw_S) := gw_let (gw_u σ 0 0 0) (fun σ1 => gw_b1 (fx_X3_whyNotJudge σ1 x1) (fun r3 => (if r3 = 0 then gw_b2 (fx_X3_judges σ1 x1) (fun r5 σ6 => gw_b1 (fx_X3_freeNow σ6) (fun r8 => some (r8, σ6))) else some (r3, σ1))))
set_option maxHeartbeats 4000000 in
theorem mt_X3_freed {l : Launch} {D : gw_D} {a : Nat → Nat} {Wr : va_W → Prop} {σ : gw_S} {x1 : Int32} {res : Int32 × gw_S} (hp : fx_X3_freed σ x1 = some res) : gw_Ct D l yX3_freed cX3_freed 3 (some .int) rm_X3_freed [.ref (a 0), .int x1] (gw_st (wM D a σ) Wr) (gw_pI res.1 (gw_st (wM D a res.2) Wr)) := by
  refine gw_ct (own := RX3) [(0, .ref (a 0)), (1, .int x1)] (by decide) rfl (Nat.le_of_ble_eq_true rfl) rfl ?_
  intro E X
  unfold fx_X3_freed at hp
  refine gw_aload_n X 1 0 dX3_freed_0 rfl rfl rfl ?_
  refine gw_iconst X 2 dX3_freed_1 rfl gw_ci_0 ?_
  refine gM_p0_0 X 5 q1394 dX3_freed_2 rfl ?_
  refine gw_aload_n X 6 0 dX3_freed_5 rfl rfl rfl ?_
  refine gw_iload_n X 7 1 dX3_freed_6 rfl rfl rfl ?_
  obtain ⟨σ1, h2, hp⟩ := gw_let_some hp
  rw [← h2]
  clear h2
  obtain ⟨r3, h4, hp⟩ := gw_b1_some hp
  refine gw_callVi X 10 [.int x1] (mt_X3_whyNotJudge h4) lk_X3_382 ydv_X3_whyNotJudge gM_cl0 gM_at0 rfl rfl rfl dX3_freed_7 rfl rfl rfl ?_
  refine gw_istore_n X 11 [(2, .int r3), (0, .ref (a 0)), (1, .int x1)] dX3_freed_10 rfl rfl (by decide) rfl ?_
  refine gw_iload_n X 12 0 dX3_freed_11 rfl rfl rfl ?_
  refine gw_if_eq X 17 15 dX3_freed_12 rfl rfl (fun z => ?_) (fun z => ?_)
  · replace hp := gw_t z hp
    refine gw_aload_n X 18 1 dX3_freed_17 rfl rfl rfl ?_
    refine gw_iload_n X 19 2 dX3_freed_18 rfl rfl rfl ?_
    obtain ⟨r5, σ6, h7, hp⟩ := gw_b2_some hp
    refine gw_callVi X 22 [.int x1] (mt_X3_judges h7) lk_X3_385 ydv_X3_judges gM_cl0 gM_at0 rfl rfl rfl dX3_freed_19 rfl rfl rfl ?_
    refine gw_pop X 23 dX3_freed_22 rfl rfl ?_
    refine gw_aload_n X 24 1 dX3_freed_23 rfl rfl rfl ?_
    obtain ⟨r8, h9, hp⟩ := gw_b1_some hp
    refine gw_callVi X 27 [] (mt_X3_freeNow h9) lk_X3_260 ydv_X3_freeNow gM_cl0 gM_at0 rfl rfl rfl dX3_freed_24 rfl rfl rfl ?_
    cases hp
    exact gw_iret X dX3_freed_27 (fun _ h => ⟨rfl, h⟩) (Nat.le_of_ble_eq_true rfl) (Nat.le_of_ble_eq_true rfl)
  · replace hp := gw_f z hp
    refine gw_iload_n X 16 0 dX3_freed_15 rfl rfl rfl ?_
    cases hp
    exact gw_iret X dX3_freed_16 (fun _ h => ⟨rfl, h⟩) (Nat.le_of_ble_eq_true rfl) (Nat.le_of_ble_eq_true rfl)
abbrev rm_X3_isSeed : Room := { frames := 1, cells := 0, slots := 0, locals := 25 }
def fx_X3_isSeed (x0 : Int32) : Bool := fx_X3_in (Int32.toInt64 x0) (0 : Int64) (2000000000 : Int64)
set_option maxHeartbeats 4000000 in
theorem mt_X3_isSeed {l : Launch} {D : gw_D} {Ws : va_W → Prop} {x0 : Int32} {res : Bool} (hp : fx_X3_isSeed x0 = res) : gw_Ct D l yX3_isSeed cX3_isSeed 1 (some .boolean) rm_X3_isSeed [.int x0] Ws (gw_pI (gw_b res) Ws) := by
  refine gw_ct (own := RX3) [(0, .int x0)] (by decide) rfl (Nat.le_of_ble_eq_true rfl) rfl ?_
  intro E X
  unfold fx_X3_isSeed at hp
  refine gw_iload_n X 1 0 dX3_isSeed_0 rfl rfl rfl ?_
  refine gw_i2l X 2 dX3_isSeed_1 rfl ?_
  refine gw_lconst X 3 dX3_isSeed_2 rfl gw_cl_0 ?_
  refine gw_ldc2 X 6 dX3_isSeed_3 rfl q2039 ?_
  refine gw_callSi X 9 [.long (Int32.toInt64 x0), .long 0, .long 2000000000] (mt_X3_in rfl) lk_X3_64 yd_X3_in rfl rfl rfl dX3_isSeed_6 rfl rfl rfl ?_
  cases hp
  exact gw_zret X dX3_isSeed_9 (fun _ h => ⟨rfl, h⟩) (Nat.le_of_ble_eq_true rfl) (Nat.le_of_ble_eq_true rfl)
