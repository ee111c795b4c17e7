set_option maxRecDepth 100000
abbrev rm_X3_laysNow : Room := { frames := 4, cells := 0, slots := 0, locals := 90 }
def fx_X3_laysNow_L6  : Nat → Int32 → gw_S → Option (gw_S)
  | 0, _, _ => none
  | n + 1, c1, σ => (if (σ.1 7 2) ≤ c1 then some σ else gw_ck ((5 : Int32) * c1) 1000 (gw_ck (((5 : Int32) * c1) + (1 : Int32)) 1000 (gw_ck (((5 : Int32) * c1) + (2 : Int32)) 1000 (gw_ck (((5 : Int32) * c1) + (3 : Int32)) 1000 (gw_ck (((5 : Int32) * c1) + (4 : Int32)) 1000 (gw_b1 (fx_X3_does σ (σ.1 9 (Int32.toNatClampNeg ((5 : Int32) * c1))) (σ.1 9 (Int32.toNatClampNeg (((5 : Int32) * c1) + (1 : Int32)))) (σ.1 9 (Int32.toNatClampNeg (((5 : Int32) * c1) + (2 : Int32)))) (σ.1 9 (Int32.toNatClampNeg (((5 : Int32) * c1) + (3 : Int32)))) (σ.1 9 (Int32.toNatClampNeg (((5 : Int32) * c1) + (4 : Int32))))) (fun σ3 => fx_X3_laysNow_L6  n (c1 + 1) σ3)))))))
def fx_X3_laysNow (σ : gw_S)  : Option (gw_S) := gw_b1 (fx_X3_start σ) (fun σ1 => fx_X3_laysNow_L6  1000 (0 : Int32) σ1)
set_option maxHeartbeats 4000000 in
theorem wk_X3_laysNow_L6 {E : gw_E} {l : Launch} {D : gw_D} {a : Nat → Nat} {Wr : va_W → Prop} {res : gw_S} (X : gw_X E cX3_laysNow 2 RX3 none l D rm_X3_laysNow (some (gw_pV (gw_st (wM D a res) Wr))))  : ∀ {n : Nat} {c1 : Int32} {σ : gw_S}, fx_X3_laysNow_L6  n c1 σ = some res → gw_W E 6 [(0, .ref (a 0)), (1, .int c1)] [] (gw_st (wM D a σ) Wr) 0 0 := by
  intro n
  induction n with
  | zero =>
    intro c1 σ hp
    cases (show none = some res from hp)
  | succ n ih =>
    intro c1 σ hp
    rw [fx_X3_laysNow_L6] at hp
    refine gw_iload_n X 7 1 dX3_laysNow_6 rfl rfl rfl ?_
    refine gw_aload_n X 8 0 dX3_laysNow_7 rfl rfl rfl ?_
    refine gM_g0_17 X 11 q1411 dX3_laysNow_8 rfl ?_
    refine gw_iconst X 12 dX3_laysNow_11 rfl gw_ci_2 ?_
    refine gM_l7 X 13 2 (gw_in rfl) rfl dX3_laysNow_12 rfl ?_
    refine gw_icmp_ge X 74 16 dX3_laysNow_13 rfl rfl (fun z => ?_) (fun z => ?_)
    · replace hp := gw_t z hp
      cases hp
      exact gw_vret X dX3_laysNow_74 (fun _ h => ⟨rfl, h⟩) (Nat.le_of_ble_eq_true rfl) (Nat.le_of_ble_eq_true rfl)
    · replace hp := gw_f z hp
      refine gw_aload_n X 17 0 dX3_laysNow_16 rfl rfl rfl ?_
      refine gw_aload_n X 18 0 dX3_laysNow_17 rfl rfl rfl ?_
      refine gM_g0_19 X 21 q1413 dX3_laysNow_18 rfl ?_
      refine gw_iconst X 22 dX3_laysNow_21 rfl gw_ci_5 ?_
      refine gw_iload_n X 23 1 dX3_laysNow_22 rfl rfl rfl ?_
      refine gw_imul X 24 dX3_laysNow_23 rfl ?_
      obtain ⟨hc, hp⟩ := gw_ck_some hp
      refine gM_l9 X 25 (Int32.toNatClampNeg ((5 : Int32) * c1)) hc rfl dX3_laysNow_24 rfl ?_
      refine gw_aload_n X 26 0 dX3_laysNow_25 rfl rfl rfl ?_
      refine gM_g0_19 X 29 q1413 dX3_laysNow_26 rfl ?_
      refine gw_iconst X 30 dX3_laysNow_29 rfl gw_ci_5 ?_
      refine gw_iload_n X 31 1 dX3_laysNow_30 rfl rfl rfl ?_
      refine gw_imul X 32 dX3_laysNow_31 rfl ?_
      refine gw_iconst X 33 dX3_laysNow_32 rfl gw_ci_1 ?_
      refine gw_iadd X 34 dX3_laysNow_33 rfl ?_
      obtain ⟨hc, hp⟩ := gw_ck_some hp
      refine gM_l9 X 35 (Int32.toNatClampNeg (((5 : Int32) * c1) + (1 : Int32))) hc rfl dX3_laysNow_34 rfl ?_
      refine gw_aload_n X 36 0 dX3_laysNow_35 rfl rfl rfl ?_
      refine gM_g0_19 X 39 q1413 dX3_laysNow_36 rfl ?_
      refine gw_iconst X 40 dX3_laysNow_39 rfl gw_ci_5 ?_
      refine gw_iload_n X 41 1 dX3_laysNow_40 rfl rfl rfl ?_
      refine gw_imul X 42 dX3_laysNow_41 rfl ?_
      refine gw_iconst X 43 dX3_laysNow_42 rfl gw_ci_2 ?_
      refine gw_iadd X 44 dX3_laysNow_43 rfl ?_
      obtain ⟨hc, hp⟩ := gw_ck_some hp
      refine gM_l9 X 45 (Int32.toNatClampNeg (((5 : Int32) * c1) + (2 : Int32))) hc rfl dX3_laysNow_44 rfl ?_
      refine gw_aload_n X 46 0 dX3_laysNow_45 rfl rfl rfl ?_
      refine gM_g0_19 X 49 q1413 dX3_laysNow_46 rfl ?_
      refine gw_iconst X 50 dX3_laysNow_49 rfl gw_ci_5 ?_
      refine gw_iload_n X 51 1 dX3_laysNow_50 rfl rfl rfl ?_
      refine gw_imul X 52 dX3_laysNow_51 rfl ?_
      refine gw_iconst X 53 dX3_laysNow_52 rfl gw_ci_3 ?_
      refine gw_iadd X 54 dX3_laysNow_53 rfl ?_
      obtain ⟨hc, hp⟩ := gw_ck_some hp
      refine gM_l9 X 55 (Int32.toNatClampNeg (((5 : Int32) * c1) + (3 : Int32))) hc rfl dX3_laysNow_54 rfl ?_
      refine gw_aload_n X 56 0 dX3_laysNow_55 rfl rfl rfl ?_
      refine gM_g0_19 X 59 q1413 dX3_laysNow_56 rfl ?_
      refine gw_iconst X 60 dX3_laysNow_59 rfl gw_ci_5 ?_
      refine gw_iload_n X 61 1 dX3_laysNow_60 rfl rfl rfl ?_
      refine gw_imul X 62 dX3_laysNow_61 rfl ?_
      refine gw_iconst X 63 dX3_laysNow_62 rfl gw_ci_4 ?_
      refine gw_iadd X 64 dX3_laysNow_63 rfl ?_
      obtain ⟨hc, hp⟩ := gw_ck_some hp
      refine gM_l9 X 65 (Int32.toNatClampNeg (((5 : Int32) * c1) + (4 : Int32))) hc rfl dX3_laysNow_64 rfl ?_
      obtain ⟨σ3, h4, hp⟩ := gw_b1_some hp
      refine gw_callVv X 68 [.int (σ.1 9 (Int32.toNatClampNeg ((5 : Int32) * c1))), .int (σ.1 9 (Int32.toNatClampNeg (((5 : Int32) * c1) + (1 : Int32)))), .int (σ.1 9 (Int32.toNatClampNeg (((5 : Int32) * c1) + (2 : Int32)))), .int (σ.1 9 (Int32.toNatClampNeg (((5 : Int32) * c1) + (3 : Int32)))), .int (σ.1 9 (Int32.toNatClampNeg (((5 : Int32) * c1) + (4 : Int32))))] (mt_X3_does h4) lk_X3_232 ydv_X3_does gM_cl0 gM_at0 rfl rfl rfl dX3_laysNow_65 rfl rfl rfl ?_
      refine gw_iinc X 71 1 [(1, .int (c1 + 1)), (0, .ref (a 0))] dX3_laysNow_68 rfl rfl gw_ci_1 (by decide) rfl ?_
      refine gw_goto X 6 dX3_laysNow_71 rfl ?_
      refine gw_lv [1, 0] rfl ?_
      exact ih hp
set_option maxHeartbeats 4000000 in
theorem mt_X3_laysNow {l : Launch} {D : gw_D} {a : Nat → Nat} {Wr : va_W → Prop} {σ : gw_S}  {res : gw_S} (hp : fx_X3_laysNow σ  = some res) : gw_Ct D l yX3_laysNow cX3_laysNow 2 none rm_X3_laysNow [.ref (a 0)] (gw_st (wM D a σ) Wr) (gw_pV (gw_st (wM D a res) Wr)) := by
  refine gw_ct (own := RX3) [(0, .ref (a 0))] (by decide) rfl (Nat.le_of_ble_eq_true rfl) rfl ?_
  intro E X
  unfold fx_X3_laysNow at hp
  refine gw_aload_n X 1 0 dX3_laysNow_0 rfl rfl rfl ?_
  obtain ⟨σ1, h2, hp⟩ := gw_b1_some hp
  refine gw_callVv X 4 [] (mt_X3_start h2) lk_X3_229 ydv_X3_start gM_cl0 gM_at0 rfl rfl rfl dX3_laysNow_1 rfl rfl rfl ?_
  refine gw_iconst X 5 dX3_laysNow_4 rfl gw_ci_0 ?_
  refine gw_istore_n X 6 [(1, .int 0), (0, .ref (a 0))] dX3_laysNow_5 rfl rfl (by decide) rfl ?_
  refine gw_lv [1, 0] rfl ?_
  exact wk_X3_laysNow_L6 X hp
abbrev rm_X3_handOf : Room := { frames := 0, cells := 0, slots := 0, locals := 0 }
def fx_X3_handOf_L4 (σ : gw_S) (v1 : Int32) : Nat → Int32 → Int32 → Option (Int32)
  | 0, _, _ => none
  | n + 1, c2, c3 => (if (σ.1 7 1) ≤ c3 then some c2 else gw_ck c3 8 ((if (σ.1 11 (Int32.toNatClampNeg c3)) = v1 then fx_X3_handOf_L4 σ v1 n (c2 ||| ((1 : Int32) <<< (c3 &&& 31))) (c3 + 1) else fx_X3_handOf_L4 σ v1 n (c2 ||| (0 : Int32)) (c3 + 1))))
def fx_X3_handOf (σ : gw_S) (x1 : Int32) : Option (Int32) := fx_X3_handOf_L4 σ x1 1000 (0 : Int32) (0 : Int32)
set_option maxHeartbeats 4000000 in
theorem wk_X3_handOf_L4 {E : gw_E} {l : Launch} {D : gw_D} {a : Nat → Nat} {Wr : va_W → Prop} {σ : gw_S} {res : Int32} (X : gw_X E cX3_handOf 4 RX3 (some .int) l D rm_X3_handOf (some (gw_pI res (gw_st (wM D a σ) Wr)))) {v1 : Int32} : ∀ {n : Nat} {c2 : Int32} {c3 : Int32}, fx_X3_handOf_L4 σ v1 n c2 c3 = some res → gw_W E 4 [(0, .ref (a 0)), (1, .int v1), (2, .int c2), (3, .int c3)] [] (gw_st (wM D a σ) Wr) 0 0 := by
  intro n
  induction n with
  | zero =>
    intro c2 c3 hp
    cases (show none = some res from hp)
  | succ n ih =>
    intro c2 c3 hp
    rw [fx_X3_handOf_L4] at hp
    refine gw_iload_n X 5 3 dX3_handOf_4 rfl rfl rfl ?_
    refine gw_aload_n X 6 0 dX3_handOf_5 rfl rfl rfl ?_
    refine gM_g0_17 X 9 q1411 dX3_handOf_6 rfl ?_
    refine gw_iconst X 10 dX3_handOf_9 rfl gw_ci_1 ?_
    refine gM_l7 X 11 1 (gw_in rfl) rfl dX3_handOf_10 rfl ?_
    refine gw_icmp_ge X 40 14 dX3_handOf_11 rfl rfl (fun z => ?_) (fun z => ?_)
    · replace hp := gw_t z hp
      refine gw_iload_n X 41 2 dX3_handOf_40 rfl rfl rfl ?_
      cases hp
      exact gw_iret X dX3_handOf_41 (fun _ h => ⟨rfl, h⟩) (Nat.le_of_ble_eq_true rfl) (Nat.le_of_ble_eq_true rfl)
    · replace hp := gw_f z hp
      refine gw_iload_n X 15 2 dX3_handOf_14 rfl rfl rfl ?_
      refine gw_aload_n X 16 0 dX3_handOf_15 rfl rfl rfl ?_
      refine gM_g0_21 X 19 q1415 dX3_handOf_16 rfl ?_
      refine gw_iload_n X 20 3 dX3_handOf_19 rfl rfl rfl ?_
      obtain ⟨hc, hp⟩ := gw_ck_some hp
      refine gM_l11 X 21 (Int32.toNatClampNeg c3) hc rfl dX3_handOf_20 rfl ?_
      refine gw_iload_n X 22 1 dX3_handOf_21 rfl rfl rfl ?_
      refine gw_icmp_ne X 31 25 dX3_handOf_22 rfl rfl (fun z => ?_) (fun z => ?_)
      · replace hp := gw_f z hp
        refine gw_iconst X 32 dX3_handOf_31 rfl gw_ci_0 ?_
        refine gw_ior X 33 dX3_handOf_32 rfl ?_
        refine gw_istore_n X 34 [(2, .int (c2 ||| (0 : Int32))), (0, .ref (a 0)), (1, .int v1), (3, .int c3)] dX3_handOf_33 rfl rfl (by decide) rfl ?_
        refine gw_iinc X 37 3 [(3, .int (c3 + 1)), (2, .int (c2 ||| (0 : Int32))), (0, .ref (a 0)), (1, .int v1)] dX3_handOf_34 rfl rfl gw_ci_1 (by decide) rfl ?_
        refine gw_goto X 4 dX3_handOf_37 rfl ?_
        refine gw_lv [2, 3, 1, 0] rfl ?_
        exact ih hp
      · replace hp := gw_t z hp
        refine gw_iconst X 26 dX3_handOf_25 rfl gw_ci_1 ?_
        refine gw_iload_n X 27 3 dX3_handOf_26 rfl rfl rfl ?_
        refine gw_ishl X 28 dX3_handOf_27 rfl ?_
        refine gw_goto X 32 dX3_handOf_28 rfl ?_
        refine gw_ior X 33 dX3_handOf_32 rfl ?_
        refine gw_istore_n X 34 [(2, .int (c2 ||| ((1 : Int32) <<< (c3 &&& 31)))), (0, .ref (a 0)), (1, .int v1), (3, .int c3)] dX3_handOf_33 rfl rfl (by decide) rfl ?_
        refine gw_iinc X 37 3 [(3, .int (c3 + 1)), (2, .int (c2 ||| ((1 : Int32) <<< (c3 &&& 31)))), (0, .ref (a 0)), (1, .int v1)] dX3_handOf_34 rfl rfl gw_ci_1 (by decide) rfl ?_
        refine gw_goto X 4 dX3_handOf_37 rfl ?_
        refine gw_lv [2, 3, 1, 0] rfl ?_
        exact ih hp
set_option maxHeartbeats 4000000 in
theorem mt_X3_handOf {l : Launch} {D : gw_D} {a : Nat → Nat} {Wr : va_W → Prop} {σ : gw_S} {x1 : Int32} {res : Int32} (hp : fx_X3_handOf σ x1 = some res) : gw_Ct D l yX3_handOf cX3_handOf 4 (some .int) rm_X3_handOf [.ref (a 0), .int x1] (gw_st (wM D a σ) Wr) (gw_pI res (gw_st (wM D a σ) Wr)) := by
  refine gw_ct (own := RX3) [(0, .ref (a 0)), (1, .int x1)] (by decide) rfl (Nat.le_of_ble_eq_true rfl) rfl ?_
  intro E X
  unfold fx_X3_handOf at hp
  refine gw_iconst X 1 dX3_handOf_0 rfl gw_ci_0 ?_
  refine gw_istore_n X 2 [(2, .int 0), (0, .ref (a 0)), (1, .int x1)] dX3_handOf_1 rfl rfl (by decide) rfl ?_
  refine gw_iconst X 3 dX3_handOf_2 rfl gw_ci_0 ?_
  refine gw_istore_n X 4 [(3, .int 0), (2, .int 0), (0, .ref (a 0)), (1, .int x1)] dX3_handOf_3 rfl rfl (by decide) rfl ?_
  refine gw_lv [2, 3, 1, 0] rfl ?_
  exact wk_X3_handOf_L4 X hp
abbrev rm_X3_yetOf : Room := { frames := 2, cells := 0, slots := 0, locals := 43 }
def fx_X3_yetOf (σ : gw_S) (x1 : Int32) : Option (Int32) := gw_ck x1 8 ((if (σ.1 11 (Int32.toNatClampNeg x1)) = (-1 : Int32) then some 0 else gw_b1 (fx_X3_readable σ x1) (fun r1 => gw_ck x1 8 (some (r1 - (σ.1 12 (Int32.toNatClampNeg x1)))))))
set_option maxHeartbeats 4000000 in
theorem mt_X3_yetOf {l : Launch} {D : gw_D} {a : Nat → Nat} {Wr : va_W → Prop} {σ : gw_S} {x1 : Int32} {res : Int32} (hp : fx_X3_yetOf σ x1 = some res) : gw_Ct D l yX3_yetOf cX3_yetOf 2 (some .int) rm_X3_yetOf [.ref (a 0), .int x1] (gw_st (wM D a σ) Wr) (gw_pI res (gw_st (wM D a σ) Wr)) := by
  refine gw_ct (own := RX3) [(0, .ref (a 0)), (1, .int x1)] (by decide) rfl (Nat.le_of_ble_eq_true rfl) rfl ?_
  intro E X
  unfold fx_X3_yetOf at hp
  refine gw_aload_n X 1 0 dX3_yetOf_0 rfl rfl rfl ?_
  refine gM_g0_21 X 4 q1415 dX3_yetOf_1 rfl ?_
  refine gw_iload_n X 5 1 dX3_yetOf_4 rfl rfl rfl ?_
  obtain ⟨hc, hp⟩ := gw_ck_some hp
  refine gM_l11 X 6 (Int32.toNatClampNeg x1) hc rfl dX3_yetOf_5 rfl ?_
  refine gw_iconst X 7 dX3_yetOf_6 rfl gw_ci_m1 ?_
  refine gw_icmp_ne X 14 10 dX3_yetOf_7 rfl rfl (fun z => ?_) (fun z => ?_)
  · replace hp := gw_f z hp
    refine gw_aload_n X 15 0 dX3_yetOf_14 rfl rfl rfl ?_
    refine gw_iload_n X 16 1 dX3_yetOf_15 rfl rfl rfl ?_
    obtain ⟨r1, h2, hp⟩ := gw_b1_some hp
    refine gw_callVi X 19 [.int x1] (mt_X3_readable h2) lk_X3_236 ydv_X3_readable gM_cl0 gM_at0 rfl rfl rfl dX3_yetOf_16 rfl rfl rfl ?_
    refine gw_aload_n X 20 0 dX3_yetOf_19 rfl rfl rfl ?_
    refine gM_g0_22 X 23 q1416 dX3_yetOf_20 rfl ?_
    refine gw_iload_n X 24 1 dX3_yetOf_23 rfl rfl rfl ?_
    obtain ⟨hc, hp⟩ := gw_ck_some hp
    refine gM_l12 X 25 (Int32.toNatClampNeg x1) hc rfl dX3_yetOf_24 rfl ?_
    refine gw_isub X 26 dX3_yetOf_25 rfl ?_
    cases hp
    exact gw_iret X dX3_yetOf_26 (fun _ h => ⟨rfl, h⟩) (Nat.le_of_ble_eq_true rfl) (Nat.le_of_ble_eq_true rfl)
  · replace hp := gw_t z hp
    refine gw_iconst X 11 dX3_yetOf_10 rfl gw_ci_0 ?_
    refine gw_goto X 26 dX3_yetOf_11 rfl ?_
    cases hp
    exact gw_iret X dX3_yetOf_26 (fun _ h => ⟨rfl, h⟩) (Nat.le_of_ble_eq_true rfl) (Nat.le_of_ble_eq_true rfl)
abbrev rm_X3_person : Room := { frames := 5, cells := 0, slots := 0, locals := 111 }
def fx_X3_person (σ : gw_S) (x1 : Int32) (x2 : Int32) : Option (Int32 × gw_S) := gw_let (gw_u σ 0 0 0) (fun σ1 => (if fx_X3_isPerson σ1 (Int32.toInt64 x1) = true then (if fx_X3_in (Int32.toInt64 x2) (0 : Int64) (7 : Int64) = true then gw_b1 (fx_X3_laysNow σ1) (fun σ3 => (if x2 = 0 then gw_b1 (fx_X3_of σ3 x1 (0 : Int32)) (fun r5 => some (r5, σ3)) else (if x2 = 1 then gw_b1 (fx_X3_of σ3 x1 (1 : Int32)) (fun r7 => some (r7, σ3)) else (if x2 = 2 then gw_ck x1 8 (some (σ3.1 11 (Int32.toNatClampNeg x1), σ3)) else (if x2 = 3 then gw_b1 (fx_X3_handOf σ3 x1) (fun r9 => some (r9, σ3)) else (if x2 = 4 then gw_b1 (fx_X3_of σ3 x1 (2 : Int32)) (fun r11 => some (r11, σ3)) else (if x2 = 5 then some (((σ3.1 0 24) >>> (x1 &&& 31)) &&& (1 : Int32), σ3) else (if x2 = 6 then gw_b1 (fx_X3_of σ3 x1 (4 : Int32)) (fun r13 => some (r13, σ3)) else (gw_b1 (fx_X3_yetOf σ3 x1) (fun r15 => some (r15, σ3))))))))))) else some ((-2), σ1)) else some ((-2), σ1)))
set_option maxHeartbeats 4000000 in
theorem mt_X3_person {l : Launch} {D : gw_D} {a : Nat → Nat} {Wr : va_W → Prop} {σ : gw_S} {x1 : Int32} {x2 : Int32} {res : Int32 × gw_S} (hp : fx_X3_person σ x1 x2 = some res) : gw_Ct D l yX3_person cX3_person 3 (some .int) rm_X3_person [.ref (a 0), .int x1, .int x2] (gw_st (wM D a σ) Wr) (gw_pI res.1 (gw_st (wM D a res.2) Wr)) := by
  refine gw_ct (own := RX3) [(0, .ref (a 0)), (1, .int x1), (2, .int x2)] (by decide) rfl (Nat.le_of_ble_eq_true rfl) rfl ?_
  intro E X
  unfold fx_X3_person at hp
  refine gw_aload_n X 1 0 dX3_person_0 rfl rfl rfl ?_
  refine gw_iconst X 2 dX3_person_1 rfl gw_ci_0 ?_
  refine gM_p0_0 X 5 q1394 dX3_person_2 rfl ?_
  refine gw_aload_n X 6 0 dX3_person_5 rfl rfl rfl ?_
  refine gw_iload_n X 7 1 dX3_person_6 rfl rfl rfl ?_
  refine gw_i2l X 8 dX3_person_7 rfl ?_
  obtain ⟨σ1, h2, hp⟩ := gw_let_some hp
  rw [← h2]
  clear h2
  refine gw_callVi X 11 [.long (Int32.toInt64 x1)] (mt_X3_isPerson rfl) lk_X3_206 ydv_X3_isPerson gM_cl0 gM_at0 rfl rfl rfl dX3_person_8 rfl rfl rfl ?_
  refine gw_if_eqB X 26 14 dX3_person_11 rfl rfl (fun z => ?_) (fun z => ?_)
  · replace hp := gw_f z hp
    refine gw_bipush X 28 dX3_person_26 rfl gw_cb_m2 ?_
    cases hp
    exact gw_iret X dX3_person_28 (fun _ h => ⟨rfl, h⟩) (Nat.le_of_ble_eq_true rfl) (Nat.le_of_ble_eq_true rfl)
  · replace hp := gw_t z hp
    refine gw_iload_n X 15 2 dX3_person_14 rfl rfl rfl ?_
    refine gw_i2l X 16 dX3_person_15 rfl ?_
    refine gw_lconst X 17 dX3_person_16 rfl gw_cl_0 ?_
    refine gw_ldc2 X 20 dX3_person_17 rfl q1636 ?_
    refine gw_callSi X 23 [.long (Int32.toInt64 x2), .long 0, .long 7] (mt_X3_in rfl) lk_X3_64 yd_X3_in rfl rfl rfl dX3_person_20 rfl rfl rfl ?_
    refine gw_if_neB X 29 26 dX3_person_23 rfl rfl (fun z => ?_) (fun z => ?_)
    · replace hp := gw_t z hp
      refine gw_aload_n X 30 0 dX3_person_29 rfl rfl rfl ?_
      obtain ⟨σ3, h4, hp⟩ := gw_b1_some hp
      refine gw_callVv X 33 [] (mt_X3_laysNow h4) lk_X3_251 ydv_X3_laysNow gM_cl0 gM_at0 rfl rfl rfl dX3_person_30 rfl rfl rfl ?_
      refine gw_iload_n X 34 2 dX3_person_33 rfl rfl rfl ?_
      by_cases z0 : x2 = 0
      · replace hp := gw_t z0 hp
        refine gw_tsIn X 76 0 z0 dX3_person_34 (by decide) (by decide) rfl rfl ?_
        refine gw_aload_n X 77 0 dX3_person_76 rfl rfl rfl ?_
        refine gw_iload_n X 78 1 dX3_person_77 rfl rfl rfl ?_
        refine gw_iconst X 79 dX3_person_78 rfl gw_ci_0 ?_
        obtain ⟨r5, h6, hp⟩ := gw_b1_some hp
        refine gw_callVi X 82 [.int x1, .int 0] (mt_X3_of h6) lk_X3_214 ydv_X3_of gM_cl0 gM_at0 rfl rfl rfl dX3_person_79 rfl rfl rfl ?_
        cases hp
        exact gw_iret X dX3_person_82 (fun _ h => ⟨rfl, h⟩) (Nat.le_of_ble_eq_true rfl) (Nat.le_of_ble_eq_true rfl)
      replace hp := gw_f z0 hp
      by_cases z1 : x2 = 1
      · replace hp := gw_t z1 hp
        refine gw_tsIn X 83 1 z1 dX3_person_34 (by decide) (by decide) rfl rfl ?_
        refine gw_aload_n X 84 0 dX3_person_83 rfl rfl rfl ?_
        refine gw_iload_n X 85 1 dX3_person_84 rfl rfl rfl ?_
        refine gw_iconst X 86 dX3_person_85 rfl gw_ci_1 ?_
        obtain ⟨r7, h8, hp⟩ := gw_b1_some hp
        refine gw_callVi X 89 [.int x1, .int 1] (mt_X3_of h8) lk_X3_214 ydv_X3_of gM_cl0 gM_at0 rfl rfl rfl dX3_person_86 rfl rfl rfl ?_
        cases hp
        exact gw_iret X dX3_person_89 (fun _ h => ⟨rfl, h⟩) (Nat.le_of_ble_eq_true rfl) (Nat.le_of_ble_eq_true rfl)
      replace hp := gw_f z1 hp
      by_cases z2 : x2 = 2
      · replace hp := gw_t z2 hp
        refine gw_tsIn X 90 2 z2 dX3_person_34 (by decide) (by decide) rfl rfl ?_
        refine gw_aload_n X 91 0 dX3_person_90 rfl rfl rfl ?_
        refine gM_g0_21 X 94 q1415 dX3_person_91 rfl ?_
        refine gw_iload_n X 95 1 dX3_person_94 rfl rfl rfl ?_
        obtain ⟨hc, hp⟩ := gw_ck_some hp
        refine gM_l11 X 96 (Int32.toNatClampNeg x1) hc rfl dX3_person_95 rfl ?_
        cases hp
        exact gw_iret X dX3_person_96 (fun _ h => ⟨rfl, h⟩) (Nat.le_of_ble_eq_true rfl) (Nat.le_of_ble_eq_true rfl)
      replace hp := gw_f z2 hp
      by_cases z3 : x2 = 3
      · replace hp := gw_t z3 hp
        refine gw_tsIn X 97 3 z3 dX3_person_34 (by decide) (by decide) rfl rfl ?_
        refine gw_aload_n X 98 0 dX3_person_97 rfl rfl rfl ?_
        refine gw_iload_n X 99 1 dX3_person_98 rfl rfl rfl ?_
        obtain ⟨r9, h10, hp⟩ := gw_b1_some hp
        refine gw_callVi X 102 [.int x1] (mt_X3_handOf h10) lk_X3_254 ydv_X3_handOf gM_cl0 gM_at0 rfl rfl rfl dX3_person_99 rfl rfl rfl ?_
        cases hp
        exact gw_iret X dX3_person_102 (fun _ h => ⟨rfl, h⟩) (Nat.le_of_ble_eq_true rfl) (Nat.le_of_ble_eq_true rfl)
      replace hp := gw_f z3 hp
      by_cases z4 : x2 = 4
      · replace hp := gw_t z4 hp
        refine gw_tsIn X 103 4 z4 dX3_person_34 (by decide) (by decide) rfl rfl ?_
        refine gw_aload_n X 104 0 dX3_person_103 rfl rfl rfl ?_
        refine gw_iload_n X 105 1 dX3_person_104 rfl rfl rfl ?_
        refine gw_iconst X 106 dX3_person_105 rfl gw_ci_2 ?_
        obtain ⟨r11, h12, hp⟩ := gw_b1_some hp
        refine gw_callVi X 109 [.int x1, .int 2] (mt_X3_of h12) lk_X3_214 ydv_X3_of gM_cl0 gM_at0 rfl rfl rfl dX3_person_106 rfl rfl rfl ?_
        cases hp
        exact gw_iret X dX3_person_109 (fun _ h => ⟨rfl, h⟩) (Nat.le_of_ble_eq_true rfl) (Nat.le_of_ble_eq_true rfl)
      replace hp := gw_f z4 hp
      by_cases z5 : x2 = 5
      · replace hp := gw_t z5 hp
        refine gw_tsIn X 110 5 z5 dX3_person_34 (by decide) (by decide) rfl rfl ?_
        refine gw_aload_n X 111 0 dX3_person_110 rfl rfl rfl ?_
        refine gM_g0_24 X 114 q1418 dX3_person_111 rfl ?_
        refine gw_iload_n X 115 1 dX3_person_114 rfl rfl rfl ?_
        refine gw_ishr X 116 dX3_person_115 rfl ?_
        refine gw_iconst X 117 dX3_person_116 rfl gw_ci_1 ?_
        refine gw_iand X 118 dX3_person_117 rfl ?_
        cases hp
        exact gw_iret X dX3_person_118 (fun _ h => ⟨rfl, h⟩) (Nat.le_of_ble_eq_true rfl) (Nat.le_of_ble_eq_true rfl)
      replace hp := gw_f z5 hp
      by_cases z6 : x2 = 6
      · replace hp := gw_t z6 hp
        refine gw_tsIn X 119 6 z6 dX3_person_34 (by decide) (by decide) rfl rfl ?_
        refine gw_aload_n X 120 0 dX3_person_119 rfl rfl rfl ?_
        refine gw_iload_n X 121 1 dX3_person_120 rfl rfl rfl ?_
        refine gw_iconst X 122 dX3_person_121 rfl gw_ci_4 ?_
        obtain ⟨r13, h14, hp⟩ := gw_b1_some hp
        refine gw_callVi X 125 [.int x1, .int 4] (mt_X3_of h14) lk_X3_214 ydv_X3_of gM_cl0 gM_at0 rfl rfl rfl dX3_person_122 rfl rfl rfl ?_
        cases hp
        exact gw_iret X dX3_person_125 (fun _ h => ⟨rfl, h⟩) (Nat.le_of_ble_eq_true rfl) (Nat.le_of_ble_eq_true rfl)
      replace hp := gw_f z6 hp
      refine gw_tsOut X 126 dX3_person_34 (by have y0 := lv_neT (a := 0) z0 (by decide); have y1 := lv_neT (a := 1) z1 (by decide); have y2 := lv_neT (a := 2) z2 (by decide); have y3 := lv_neT (a := 3) z3 (by decide); have y4 := lv_neT (a := 4) z4 (by decide); have y5 := lv_neT (a := 5) z5 (by decide); have y6 := lv_neT (a := 6) z6 (by decide); omega) rfl ?_
      refine gw_aload_n X 127 0 dX3_person_126 rfl rfl rfl ?_
      refine gw_iload_n X 128 1 dX3_person_127 rfl rfl rfl ?_
      obtain ⟨r15, h16, hp⟩ := gw_b1_some hp
      refine gw_callVi X 131 [.int x1] (mt_X3_yetOf h16) lk_X3_257 ydv_X3_yetOf gM_cl0 gM_at0 rfl rfl rfl dX3_person_128 rfl rfl rfl ?_
      cases hp
      exact gw_iret X dX3_person_131 (fun _ h => ⟨rfl, h⟩) (Nat.le_of_ble_eq_true rfl) (Nat.le_of_ble_eq_true rfl)
    · replace hp := gw_f z hp
      refine gw_bipush X 28 dX3_person_26 rfl gw_cb_m2 ?_
      cases hp
      exact gw_iret X dX3_person_28 (fun _ h => ⟨rfl, h⟩) (Nat.le_of_ble_eq_true rfl) (Nat.le_of_ble_eq_true rfl)
abbrev rm_X3_isCity : Room := { frames := 0, cells := 0, slots := 0, locals := 0 }
def fx_X3_isCity (σ : gw_S)  : Bool := (if (σ.1 6 0) ≤ 0 then false else true)
set_option maxHeartbeats 4000000 in
theorem mt_X3_isCity {l : Launch} {D : gw_D} {a : Nat → Nat} {Wr : va_W → Prop} {σ : gw_S}  {res : Bool} (hp : fx_X3_isCity σ  = res) : gw_Ct D l yX3_isCity cX3_isCity 1 (some .boolean) rm_X3_isCity [.ref (a 0)] (gw_st (wM D a σ) Wr) (gw_pI (gw_b res) (gw_st (wM D a σ) Wr)) := by
  refine gw_ct (own := RX3) [(0, .ref (a 0))] (by decide) rfl (Nat.le_of_ble_eq_true rfl) rfl ?_
  intro E X
  unfold fx_X3_isCity at hp
  refine gw_aload_n X 1 0 dX3_isCity_0 rfl rfl rfl ?_
  refine gM_g0_16 X 4 q1410 dX3_isCity_1 rfl ?_
  refine gw_iconst X 5 dX3_isCity_4 rfl gw_ci_0 ?_
  refine gM_l6 X 6 0 (gw_in rfl) rfl dX3_isCity_5 rfl ?_
  refine gw_if_le X 13 9 dX3_isCity_6 rfl rfl (fun z => ?_) (fun z => ?_)
  · replace hp := gw_t z hp
    refine gw_iconst X 14 dX3_isCity_13 rfl gw_ci_0 ?_
    cases hp
    exact gw_zret0 X dX3_isCity_14 (fun _ h => ⟨rfl, h⟩) (Nat.le_of_ble_eq_true rfl) (Nat.le_of_ble_eq_true rfl)
  · replace hp := gw_f z hp
    refine gw_iconst X 10 dX3_isCity_9 rfl gw_ci_1 ?_
    refine gw_goto X 14 dX3_isCity_10 rfl ?_
    cases hp
    exact gw_zret1 X dX3_isCity_14 (fun _ h => ⟨rfl, h⟩) (Nat.le_of_ble_eq_true rfl) (Nat.le_of_ble_eq_true rfl)
abbrev rm_X3_freeNow : Room := { frames := 0, cells := 0, slots := 0, locals := 0 }
def fx_X3_freeNow_L4 (σ : gw_S)  : Nat → Int32 → Int32 → Option (Int32)
  | 0, _, _ => none
  | n + 1, c1, c2 => (if (σ.1 7 1) ≤ c2 then some c1 else gw_ck c2 8 ((if (σ.1 11 (Int32.toNatClampNeg c2)) = (-1 : Int32) then fx_X3_freeNow_L4 σ n (c1 ||| ((1 : Int32) <<< (c2 &&& 31))) (c2 + 1) else fx_X3_freeNow_L4 σ n (c1 ||| (0 : Int32)) (c2 + 1))))
def fx_X3_freeNow (σ : gw_S)  : Option (Int32) := fx_X3_freeNow_L4 σ 1000 (0 : Int32) (0 : Int32)
set_option maxHeartbeats 4000000 in
theorem wk_X3_freeNow_L4 {E : gw_E} {l : Launch} {D : gw_D} {a : Nat → Nat} {Wr : va_W → Prop} {σ : gw_S} {res : Int32} (X : gw_X E cX3_freeNow 3 RX3 (some .int) l D rm_X3_freeNow (some (gw_pI res (gw_st (wM D a σ) Wr))))  : ∀ {n : Nat} {c1 : Int32} {c2 : Int32}, fx_X3_freeNow_L4 σ n c1 c2 = some res → gw_W E 4 [(0, .ref (a 0)), (1, .int c1), (2, .int c2)] [] (gw_st (wM D a σ) Wr) 0 0 := by
  intro n
  induction n with
  | zero =>
    intro c1 c2 hp
    cases (show none = some res from hp)
  | succ n ih =>
    intro c1 c2 hp
    rw [fx_X3_freeNow_L4] at hp
    refine gw_iload_n X 5 2 dX3_freeNow_4 rfl rfl rfl ?_
    refine gw_aload_n X 6 0 dX3_freeNow_5 rfl rfl rfl ?_
    refine gM_g0_17 X 9 q1411 dX3_freeNow_6 rfl ?_
    refine gw_iconst X 10 dX3_freeNow_9 rfl gw_ci_1 ?_
    refine gM_l7 X 11 1 (gw_in rfl) rfl dX3_freeNow_10 rfl ?_
    refine gw_icmp_ge X 40 14 dX3_freeNow_11 rfl rfl (fun z => ?_) (fun z => ?_)
    · replace hp := gw_t z hp
      refine gw_iload_n X 41 1 dX3_freeNow_40 rfl rfl rfl ?_
      cases hp
      exact gw_iret X dX3_freeNow_41 (fun _ h => ⟨rfl, h⟩) (Nat.le_of_ble_eq_true rfl) (Nat.le_of_ble_eq_true rfl)
    · replace hp := gw_f z hp
      refine gw_iload_n X 15 1 dX3_freeNow_14 rfl rfl rfl ?_
      refine gw_aload_n X 16 0 dX3_freeNow_15 rfl rfl rfl ?_
      refine gM_g0_21 X 19 q1415 dX3_freeNow_16 rfl ?_
      refine gw_iload_n X 20 2 dX3_freeNow_19 rfl rfl rfl ?_
      obtain ⟨hc, hp⟩ := gw_ck_some hp
      refine gM_l11 X 21 (Int32.toNatClampNeg c2) hc rfl dX3_freeNow_20 rfl ?_
      refine gw_iconst X 22 dX3_freeNow_21 rfl gw_ci_m1 ?_
      refine gw_icmp_ne X 31 25 dX3_freeNow_22 rfl rfl (fun z => ?_) (fun z => ?_)
      · replace hp := gw_f z hp
        refine gw_iconst X 32 dX3_freeNow_31 rfl gw_ci_0 ?_
        refine gw_ior X 33 dX3_freeNow_32 rfl ?_
        refine gw_istore_n X 34 [(1, .int (c1 ||| (0 : Int32))), (0, .ref (a 0)), (2, .int c2)] dX3_freeNow_33 rfl rfl (by decide) rfl ?_
        refine gw_iinc X 37 2 [(2, .int (c2 + 1)), (1, .int (c1 ||| (0 : Int32))), (0, .ref (a 0))] dX3_freeNow_34 rfl rfl gw_ci_1 (by decide) rfl ?_
        refine gw_goto X 4 dX3_freeNow_37 rfl ?_
        refine gw_lv [2, 1, 0] rfl ?_
        exact ih hp
      · replace hp := gw_t z hp
        refine gw_iconst X 26 dX3_freeNow_25 rfl gw_ci_1 ?_
        refine gw_iload_n X 27 2 dX3_freeNow_26 rfl rfl rfl ?_
        refine gw_ishl X 28 dX3_freeNow_27 rfl ?_
        refine gw_goto X 32 dX3_freeNow_28 rfl ?_
        refine gw_ior X 33 dX3_freeNow_32 rfl ?_
        refine gw_istore_n X 34 [(1, .int (c1 ||| ((1 : Int32) <<< (c2 &&& 31)))), (0, .ref (a 0)), (2, .int c2)] dX3_freeNow_33 rfl rfl (by decide) rfl ?_
        refine gw_iinc X 37 2 [(2, .int (c2 + 1)), (1, .int (c1 ||| ((1 : Int32) <<< (c2 &&& 31)))), (0, .ref (a 0))] dX3_freeNow_34 rfl rfl gw_ci_1 (by decide) rfl ?_
        refine gw_goto X 4 dX3_freeNow_37 rfl ?_
        refine gw_lv [2, 1, 0] rfl ?_
        exact ih hp
set_option maxHeartbeats 4000000 in
theorem mt_X3_freeNow {l : Launch} {D : gw_D} {a : Nat → Nat} {Wr : va_W → Prop} {σ : gw_S}  {res : Int32} (hp : fx_X3_freeNow σ  = some res) : gw_Ct D l yX3_freeNow cX3_freeNow 3 (some .int) rm_X3_freeNow [.ref (a 0)] (gw_st (wM D a σ) Wr) (gw_pI res (gw_st (wM D a σ) Wr)) := by
  refine gw_ct (own := RX3) [(0, .ref (a 0))] (by decide) rfl (Nat.le_of_ble_eq_true rfl) rfl ?_
  intro E X
  unfold fx_X3_freeNow at hp
  refine gw_iconst X 1 dX3_freeNow_0 rfl gw_ci_0 ?_
  refine gw_istore_n X 2 [(1, .int 0), (0, .ref (a 0))] dX3_freeNow_1 rfl rfl (by decide) rfl ?_
  refine gw_iconst X 3 dX3_freeNow_2 rfl gw_ci_0 ?_
  refine gw_istore_n X 4 [(2, .int 0), (1, .int 0), (0, .ref (a 0))] dX3_freeNow_3 rfl rfl (by decide) rfl ?_
  refine gw_lv [2, 1, 0] rfl ?_
  exact wk_X3_freeNow_L4 X hp
abbrev rm_X3_free : Room := { frames := 5, cells := 0, slots := 0, locals := 111 }
def fx_X3_free (σ : gw_S)  : Option (Int32 × gw_S) := gw_let (gw_u σ 0 0 0) (fun σ1 => (if fx_X3_isCity σ1 = true then gw_b1 (fx_X3_laysNow σ1) (fun σ3 => gw_b1 (fx_X3_freeNow σ3) (fun r5 => some (r5, σ3))) else some ((-2), σ1)))
set_option maxHeartbeats 4000000 in
theorem mt_X3_free {l : Launch} {D : gw_D} {a : Nat → Nat} {Wr : va_W → Prop} {σ : gw_S}  {res : Int32 × gw_S} (hp : fx_X3_free σ  = some res) : gw_Ct D l yX3_free cX3_free 1 (some .int) rm_X3_free [.ref (a 0)] (gw_st (wM D a σ) Wr) (gw_pI res.1 (gw_st (wM D a res.2) Wr)) := by
  refine gw_ct (own := RX3) [(0, .ref (a 0))] (by decide) rfl (Nat.le_of_ble_eq_true rfl) rfl ?_
  intro E X
  unfold fx_X3_free at hp
  refine gw_aload_n X 1 0 dX3_free_0 rfl rfl rfl ?_
  refine gw_iconst X 2 dX3_free_1 rfl gw_ci_0 ?_
  refine gM_p0_0 X 5 q1394 dX3_free_2 rfl ?_
  refine gw_aload_n X 6 0 dX3_free_5 rfl rfl rfl ?_
  obtain ⟨σ1, h2, hp⟩ := gw_let_some hp
  rw [← h2]
  clear h2
  refine gw_callVi X 9 [] (mt_X3_isCity rfl) lk_X3_209 ydv_X3_isCity gM_cl0 gM_at0 rfl rfl rfl dX3_free_6 rfl rfl rfl ?_
  refine gw_if_neB X 15 12 dX3_free_9 rfl rfl (fun z => ?_) (fun z => ?_)
  · replace hp := gw_t z hp
    refine gw_aload_n X 16 0 dX3_free_15 rfl rfl rfl ?_
    obtain ⟨σ3, h4, hp⟩ := gw_b1_some hp
    refine gw_callVv X 19 [] (mt_X3_laysNow h4) lk_X3_251 ydv_X3_laysNow gM_cl0 gM_at0 rfl rfl rfl dX3_free_16 rfl rfl rfl ?_
    refine gw_aload_n X 20 0 dX3_free_19 rfl rfl rfl ?_
    obtain ⟨r5, h6, hp⟩ := gw_b1_some hp
    refine gw_callVi X 23 [] (mt_X3_freeNow h6) lk_X3_260 ydv_X3_freeNow gM_cl0 gM_at0 rfl rfl rfl dX3_free_20 rfl rfl rfl ?_
    cases hp
    exact gw_iret X dX3_free_23 (fun _ h => ⟨rfl, h⟩) (Nat.le_of_ble_eq_true rfl) (Nat.le_of_ble_eq_true rfl)
  · replace hp := gw_f z hp
    refine gw_bipush X 14 dX3_free_12 rfl gw_cb_m2 ?_
    cases hp
    exact gw_iret X dX3_free_14 (fun _ h => ⟨rfl, h⟩) (Nat.le_of_ble_eq_true rfl) (Nat.le_of_ble_eq_true rfl)
abbrev rm_X3_underOf : Room := { frames := 1, cells := 0, slots := 0, locals := 21 }
def fx_X3_underOf_L13 {τ : Type} (k : Int32 → Option (τ)) (σ : gw_S) (v1 : Int32) (v3 : Int32) : Nat → Int32 → Int32 → Option (τ)
  | 0, _, _ => none
  | n + 1, c2, c4 => (if (σ.1 7 1) ≤ c4 then k c2 else gw_ck c4 8 ((if (σ.1 11 (Int32.toNatClampNeg c4)) = v1 then fx_X3_underOf_L13 k σ v1 v3 n (c2 ||| ((1 : Int32) <<< (c4 &&& 31))) (c4 + 1) else gw_ck c4 8 ((if (σ.1 11 (Int32.toNatClampNeg c4)) = (-1 : Int32) then fx_X3_underOf_L13 k σ v1 v3 n c2 (c4 + 1) else gw_ck c4 8 ((if fx_X3_isBit c2 (σ.1 11 (Int32.toNatClampNeg c4)) = true then fx_X3_underOf_L13 k σ v1 v3 n (c2 ||| ((1 : Int32) <<< (c4 &&& 31))) (c4 + 1) else fx_X3_underOf_L13 k σ v1 v3 n c2 (c4 + 1))))))))
def fx_X3_underOf_L4 (σ : gw_S) (v1 : Int32) : Nat → Int32 → Int32 → Option (Int32)
  | 0, _, _ => none
  | n + 1, c2, c3 => (if (8 : Int32) ≤ c3 then some c2 else fx_X3_underOf_L13 (fun (e1 : Int32) => fx_X3_underOf_L4 σ v1 n e1 (c3 + 1)) σ v1 c3 1000 c2 (0 : Int32))
def fx_X3_underOf (σ : gw_S) (x1 : Int32) : Option (Int32) := fx_X3_underOf_L4 σ x1 1000 (0 : Int32) (0 : Int32)
set_option maxHeartbeats 4000000 in
theorem wk_X3_underOf_L13 {E : gw_E} {l : Launch} {D : gw_D} {a : Nat → Nat} {Wr : va_W → Prop} {σ : gw_S} {τ : Type} {res : τ} {post : Option (Option Value → va_W → Prop)} (X : gw_X E cX3_underOf 5 RX3 (some .int) l D rm_X3_underOf post) {k : Int32 → Option (τ)} {v1 : Int32} {v3 : Int32} : ∀ {n : Nat} {c2 : Int32} {c4 : Int32}, fx_X3_underOf_L13 k σ v1 v3 n c2 c4 = some res → (∀ (c2 : Int32), k c2 = some res → gw_W E 73 [(0, .ref (a 0)), (1, .int v1), (2, .int c2), (3, .int v3)] [] (gw_st (wM D a σ) Wr) 0 0) → gw_W E 13 [(0, .ref (a 0)), (1, .int v1), (2, .int c2), (3, .int v3), (4, .int c4)] [] (gw_st (wM D a σ) Wr) 0 0 := by
  intro n
  induction n with
  | zero =>
    intro c2 c4 hp hk
    cases (show none = some res from hp)
  | succ n ih =>
    intro c2 c4 hp hk
    rw [fx_X3_underOf_L13] at hp
    refine gw_iload X 15 4 dX3_underOf_13 rfl rfl ?_
    refine gw_aload_n X 16 0 dX3_underOf_15 rfl rfl rfl ?_
    refine gM_g0_17 X 19 q1411 dX3_underOf_16 rfl ?_
    refine gw_iconst X 20 dX3_underOf_19 rfl gw_ci_1 ?_
    refine gM_l7 X 21 1 (gw_in rfl) rfl dX3_underOf_20 rfl ?_
    refine gw_icmp_ge X 73 24 dX3_underOf_21 rfl rfl (fun z => ?_) (fun z => ?_)
    · replace hp := gw_t z hp
      refine gw_lv [0, 1, 2, 3] rfl ?_
      exact hk _ hp
    · replace hp := gw_f z hp
      refine gw_aload_n X 25 0 dX3_underOf_24 rfl rfl rfl ?_
      refine gM_g0_21 X 28 q1415 dX3_underOf_25 rfl ?_
      refine gw_iload X 30 4 dX3_underOf_28 rfl rfl ?_
      obtain ⟨hc, hp⟩ := gw_ck_some hp
      refine gM_l11 X 31 (Int32.toNatClampNeg c4) hc rfl dX3_underOf_30 rfl ?_
      refine gw_iload_n X 32 1 dX3_underOf_31 rfl rfl rfl ?_
      refine gw_icmp_eq X 60 35 dX3_underOf_32 rfl rfl (fun z => ?_) (fun z => ?_)
      · replace hp := gw_t z hp
        refine gw_iload_n X 61 2 dX3_underOf_60 rfl rfl rfl ?_
        refine gw_iconst X 62 dX3_underOf_61 rfl gw_ci_1 ?_
        refine gw_iload X 64 4 dX3_underOf_62 rfl rfl ?_
        refine gw_ishl X 65 dX3_underOf_64 rfl ?_
        refine gw_ior X 66 dX3_underOf_65 rfl ?_
        refine gw_istore_n X 67 [(2, .int (c2 ||| ((1 : Int32) <<< (c4 &&& 31)))), (0, .ref (a 0)), (1, .int v1), (3, .int v3), (4, .int c4)] dX3_underOf_66 rfl rfl (by decide) rfl ?_
        refine gw_iinc X 70 4 [(4, .int (c4 + 1)), (2, .int (c2 ||| ((1 : Int32) <<< (c4 &&& 31)))), (0, .ref (a 0)), (1, .int v1), (3, .int v3)] dX3_underOf_67 rfl rfl gw_ci_1 (by decide) rfl ?_
        refine gw_goto X 13 dX3_underOf_70 rfl ?_
        refine gw_lv [2, 3, 1, 4, 0] rfl ?_
        exact ih hp hk
      · replace hp := gw_f z hp
        refine gw_aload_n X 36 0 dX3_underOf_35 rfl rfl rfl ?_
        refine gM_g0_21 X 39 q1415 dX3_underOf_36 rfl ?_
        refine gw_iload X 41 4 dX3_underOf_39 rfl rfl ?_
        obtain ⟨hc, hp⟩ := gw_ck_some hp
        refine gM_l11 X 42 (Int32.toNatClampNeg c4) hc rfl dX3_underOf_41 rfl ?_
        refine gw_iconst X 43 dX3_underOf_42 rfl gw_ci_m1 ?_
        refine gw_icmp_eq X 67 46 dX3_underOf_43 rfl rfl (fun z => ?_) (fun z => ?_)
        · replace hp := gw_t z hp
          refine gw_iinc X 70 4 [(4, .int (c4 + 1)), (0, .ref (a 0)), (1, .int v1), (2, .int c2), (3, .int v3)] dX3_underOf_67 rfl rfl gw_ci_1 (by decide) rfl ?_
          refine gw_goto X 13 dX3_underOf_70 rfl ?_
          refine gw_lv [1, 2, 3, 4, 0] rfl ?_
          exact ih hp hk
        · replace hp := gw_f z hp
          refine gw_iload_n X 47 2 dX3_underOf_46 rfl rfl rfl ?_
          refine gw_aload_n X 48 0 dX3_underOf_47 rfl rfl rfl ?_
          refine gM_g0_21 X 51 q1415 dX3_underOf_48 rfl ?_
          refine gw_iload X 53 4 dX3_underOf_51 rfl rfl ?_
          obtain ⟨hc, hp⟩ := gw_ck_some hp
          refine gM_l11 X 54 (Int32.toNatClampNeg c4) hc rfl dX3_underOf_53 rfl ?_
          refine gw_callSi X 57 [.int c2, .int (σ.1 11 (Int32.toNatClampNeg c4))] (mt_X3_isBit rfl) lk_X3_239 yd_X3_isBit rfl rfl rfl dX3_underOf_54 rfl rfl rfl ?_
          refine gw_if_eqB X 67 60 dX3_underOf_57 rfl rfl (fun z => ?_) (fun z => ?_)
          · replace hp := gw_f z hp
            refine gw_iinc X 70 4 [(4, .int (c4 + 1)), (0, .ref (a 0)), (1, .int v1), (2, .int c2), (3, .int v3)] dX3_underOf_67 rfl rfl gw_ci_1 (by decide) rfl ?_
            refine gw_goto X 13 dX3_underOf_70 rfl ?_
            refine gw_lv [1, 2, 3, 4, 0] rfl ?_
            exact ih hp hk
          · replace hp := gw_t z hp
            refine gw_iload_n X 61 2 dX3_underOf_60 rfl rfl rfl ?_
            refine gw_iconst X 62 dX3_underOf_61 rfl gw_ci_1 ?_
            refine gw_iload X 64 4 dX3_underOf_62 rfl rfl ?_
            refine gw_ishl X 65 dX3_underOf_64 rfl ?_
            refine gw_ior X 66 dX3_underOf_65 rfl ?_
            refine gw_istore_n X 67 [(2, .int (c2 ||| ((1 : Int32) <<< (c4 &&& 31)))), (0, .ref (a 0)), (1, .int v1), (3, .int v3), (4, .int c4)] dX3_underOf_66 rfl rfl (by decide) rfl ?_
            refine gw_iinc X 70 4 [(4, .int (c4 + 1)), (2, .int (c2 ||| ((1 : Int32) <<< (c4 &&& 31)))), (0, .ref (a 0)), (1, .int v1), (3, .int v3)] dX3_underOf_67 rfl rfl gw_ci_1 (by decide) rfl ?_
            refine gw_goto X 13 dX3_underOf_70 rfl ?_
            refine gw_lv [2, 3, 1, 4, 0] rfl ?_
            exact ih hp hk
set_option maxHeartbeats 4000000 in
theorem wk_X3_underOf_L4 {E : gw_E} {l : Launch} {D : gw_D} {a : Nat → Nat} {Wr : va_W → Prop} {σ : gw_S} {res : Int32} (X : gw_X E cX3_underOf 5 RX3 (some .int) l D rm_X3_underOf (some (gw_pI res (gw_st (wM D a σ) Wr)))) {v1 : Int32} : ∀ {n : Nat} {c2 : Int32} {c3 : Int32}, fx_X3_underOf_L4 σ v1 n c2 c3 = some res → gw_W E 4 [(0, .ref (a 0)), (1, .int v1), (2, .int c2), (3, .int c3)] [] (gw_st (wM D a σ) Wr) 0 0 := by
  intro n
  induction n with
  | zero =>
    intro c2 c3 hp
    cases (show none = some res from hp)
  | succ n ih =>
    intro c2 c3 hp
    rw [fx_X3_underOf_L4] at hp
    refine gw_iload_n X 5 3 dX3_underOf_4 rfl rfl rfl ?_
    refine gw_bipush X 7 dX3_underOf_5 rfl gw_cb_8 ?_
    refine gw_icmp_ge X 79 10 dX3_underOf_7 rfl rfl (fun z => ?_) (fun z => ?_)
    · replace hp := gw_t z hp
      refine gw_iload_n X 80 2 dX3_underOf_79 rfl rfl rfl ?_
      cases hp
      exact gw_iret X dX3_underOf_80 (fun _ h => ⟨rfl, h⟩) (Nat.le_of_ble_eq_true rfl) (Nat.le_of_ble_eq_true rfl)
    · replace hp := gw_f z hp
      refine gw_iconst X 11 dX3_underOf_10 rfl gw_ci_0 ?_
      refine gw_istore X 13 [(4, .int 0), (0, .ref (a 0)), (1, .int v1), (2, .int c2), (3, .int c3)] dX3_underOf_11 rfl (by decide) rfl ?_
      refine gw_lv [1, 2, 3, 4, 0] rfl ?_
      refine wk_X3_underOf_L13 X hp ?_
      clear hp
      intro e1 hp
      refine gw_iinc X 76 3 [(3, .int (c3 + 1)), (0, .ref (a 0)), (1, .int v1), (2, .int e1)] dX3_underOf_73 rfl rfl gw_ci_1 (by decide) rfl ?_
      refine gw_goto X 4 dX3_underOf_76 rfl ?_
      refine gw_lv [1, 2, 3, 0] rfl ?_
      exact ih hp
set_option maxHeartbeats 4000000 in
theorem mt_X3_underOf {l : Launch} {D : gw_D} {a : Nat → Nat} {Wr : va_W → Prop} {σ : gw_S} {x1 : Int32} {res : Int32} (hp : fx_X3_underOf σ x1 = some res) : gw_Ct D l yX3_underOf cX3_underOf 5 (some .int) rm_X3_underOf [.ref (a 0), .int x1] (gw_st (wM D a σ) Wr) (gw_pI res (gw_st (wM D a σ) Wr)) := by
  refine gw_ct (own := RX3) [(0, .ref (a 0)), (1, .int x1)] (by decide) rfl (Nat.le_of_ble_eq_true rfl) rfl ?_
  intro E X
  unfold fx_X3_underOf at hp
  refine gw_iconst X 1 dX3_underOf_0 rfl gw_ci_0 ?_
  refine gw_istore_n X 2 [(2, .int 0), (0, .ref (a 0)), (1, .int x1)] dX3_underOf_1 rfl rfl (by decide) rfl ?_
  refine gw_iconst X 3 dX3_underOf_2 rfl gw_ci_0 ?_
  refine gw_istore_n X 4 [(3, .int 0), (2, .int 0), (0, .ref (a 0)), (1, .int x1)] dX3_underOf_3 rfl rfl (by decide) rfl ?_
  refine gw_lv [2, 3, 1, 0] rfl ?_
  exact wk_X3_underOf_L4 X hp
abbrev rm_X3_under : Room := { frames := 5, cells := 0, slots := 0, locals := 111 }
def fx_X3_under (σ : gw_S) (x1 : Int32) : Option (Int32 × gw_S) := gw_let (gw_u σ 0 0 0) (fun σ1 => (if fx_X3_isPerson σ1 (Int32.toInt64 x1) = true then gw_b1 (fx_X3_laysNow σ1) (fun σ3 => gw_b1 (fx_X3_underOf σ3 x1) (fun r5 => some (r5, σ3))) else some ((-2), σ1)))
set_option maxHeartbeats 4000000 in
theorem mt_X3_under {l : Launch} {D : gw_D} {a : Nat → Nat} {Wr : va_W → Prop} {σ : gw_S} {x1 : Int32} {res : Int32 × gw_S} (hp : fx_X3_under σ x1 = some res) : gw_Ct D l yX3_under cX3_under 2 (some .int) rm_X3_under [.ref (a 0), .int x1] (gw_st (wM D a σ) Wr) (gw_pI res.1 (gw_st (wM D a res.2) Wr)) := by
  refine gw_ct (own := RX3) [(0, .ref (a 0)), (1, .int x1)] (by decide) rfl (Nat.le_of_ble_eq_true rfl) rfl ?_
  intro E X
  unfold fx_X3_under at hp
  refine gw_aload_n X 1 0 dX3_under_0 rfl rfl rfl ?_
  refine gw_iconst X 2 dX3_under_1 rfl gw_ci_0 ?_
  refine gM_p0_0 X 5 q1394 dX3_under_2 rfl ?_
  refine gw_aload_n X 6 0 dX3_under_5 rfl rfl rfl ?_
  refine gw_iload_n X 7 1 dX3_under_6 rfl rfl rfl ?_
  refine gw_i2l X 8 dX3_under_7 rfl ?_
  obtain ⟨σ1, h2, hp⟩ := gw_let_some hp
  rw [← h2]
  clear h2
  refine gw_callVi X 11 [.long (Int32.toInt64 x1)] (mt_X3_isPerson rfl) lk_X3_206 ydv_X3_isPerson gM_cl0 gM_at0 rfl rfl rfl dX3_under_8 rfl rfl rfl ?_
  refine gw_if_neB X 17 14 dX3_under_11 rfl rfl (fun z => ?_) (fun z => ?_)
  · replace hp := gw_t z hp
    refine gw_aload_n X 18 0 dX3_under_17 rfl rfl rfl ?_
    obtain ⟨σ3, h4, hp⟩ := gw_b1_some hp
    refine gw_callVv X 21 [] (mt_X3_laysNow h4) lk_X3_251 ydv_X3_laysNow gM_cl0 gM_at0 rfl rfl rfl dX3_under_18 rfl rfl rfl ?_
    refine gw_aload_n X 22 0 dX3_under_21 rfl rfl rfl ?_
    refine gw_iload_n X 23 1 dX3_under_22 rfl rfl rfl ?_
    obtain ⟨r5, h6, hp⟩ := gw_b1_some hp
    refine gw_callVi X 26 [.int x1] (mt_X3_underOf h6) lk_X3_263 ydv_X3_underOf gM_cl0 gM_at0 rfl rfl rfl dX3_under_23 rfl rfl rfl ?_
    cases hp
    exact gw_iret X dX3_under_26 (fun _ h => ⟨rfl, h⟩) (Nat.le_of_ble_eq_true rfl) (Nat.le_of_ble_eq_true rfl)
  · replace hp := gw_f z hp
    refine gw_bipush X 16 dX3_under_14 rfl gw_cb_m2 ?_
    cases hp
    exact gw_iret X dX3_under_16 (fun _ h => ⟨rfl, h⟩) (Nat.le_of_ble_eq_true rfl) (Nat.le_of_ble_eq_true rfl)
abbrev rm_X3_arePeople : Room := { frames := 2, cells := 0, slots := 0, locals := 47 }
def fx_X3_arePeople (σ : gw_S) (x1 : Int32) (x2 : Int32) : Bool := (if fx_X3_isPerson σ (Int32.toInt64 x1) = true then (if fx_X3_isPerson σ (Int32.toInt64 x2) = true then true else false) else false)
set_option maxHeartbeats 4000000 in
theorem mt_X3_arePeople {l : Launch} {D : gw_D} {a : Nat → Nat} {Wr : va_W → Prop} {σ : gw_S} {x1 : Int32} {x2 : Int32} {res : Bool} (hp : fx_X3_arePeople σ x1 x2 = res) : gw_Ct D l yX3_arePeople cX3_arePeople 3 (some .boolean) rm_X3_arePeople [.ref (a 0), .int x1, .int x2] (gw_st (wM D a σ) Wr) (gw_pI (gw_b res) (gw_st (wM D a σ) Wr)) := by
  refine gw_ct (own := RX3) [(0, .ref (a 0)), (1, .int x1), (2, .int x2)] (by decide) rfl (Nat.le_of_ble_eq_true rfl) rfl ?_
  intro E X
  unfold fx_X3_arePeople at hp
  refine gw_aload_n X 1 0 dX3_arePeople_0 rfl rfl rfl ?_
  refine gw_iload_n X 2 1 dX3_arePeople_1 rfl rfl rfl ?_
  refine gw_i2l X 3 dX3_arePeople_2 rfl ?_
  refine gw_callVi X 6 [.long (Int32.toInt64 x1)] (mt_X3_isPerson rfl) lk_X3_206 ydv_X3_isPerson gM_cl0 gM_at0 rfl rfl rfl dX3_arePeople_3 rfl rfl rfl ?_
  refine gw_if_eqB X 22 9 dX3_arePeople_6 rfl rfl (fun z => ?_) (fun z => ?_)
  · replace hp := gw_f z hp
    refine gw_iconst X 23 dX3_arePeople_22 rfl gw_ci_0 ?_
    cases hp
    exact gw_zret0 X dX3_arePeople_23 (fun _ h => ⟨rfl, h⟩) (Nat.le_of_ble_eq_true rfl) (Nat.le_of_ble_eq_true rfl)
  · replace hp := gw_t z hp
    refine gw_aload_n X 10 0 dX3_arePeople_9 rfl rfl rfl ?_
    refine gw_iload_n X 11 2 dX3_arePeople_10 rfl rfl rfl ?_
    refine gw_i2l X 12 dX3_arePeople_11 rfl ?_
    refine gw_callVi X 15 [.long (Int32.toInt64 x2)] (mt_X3_isPerson rfl) lk_X3_206 ydv_X3_isPerson gM_cl0 gM_at0 rfl rfl rfl dX3_arePeople_12 rfl rfl rfl ?_
    refine gw_if_eqB X 22 18 dX3_arePeople_15 rfl rfl (fun z => ?_) (fun z => ?_)
    · replace hp := gw_f z hp
      refine gw_iconst X 23 dX3_arePeople_22 rfl gw_ci_0 ?_
      cases hp
      exact gw_zret0 X dX3_arePeople_23 (fun _ h => ⟨rfl, h⟩) (Nat.le_of_ble_eq_true rfl) (Nat.le_of_ble_eq_true rfl)
    · replace hp := gw_t z hp
      refine gw_iconst X 19 dX3_arePeople_18 rfl gw_ci_1 ?_
      refine gw_goto X 23 dX3_arePeople_19 rfl ?_
      cases hp
      exact gw_zret1 X dX3_arePeople_23 (fun _ h => ⟨rfl, h⟩) (Nat.le_of_ble_eq_true rfl) (Nat.le_of_ble_eq_true rfl)
abbrev rm_X3_timeOf : Room := { frames := 1, cells := 0, slots := 0, locals := 22 }
def fx_X3_timeOf_L8 (σ : gw_S) (v1 : Int32) : Nat → Int32 → Int32 → Int32 → Option (Int32)
  | 0, _, _, _ => none
  | n + 1, c3, c4, c5 => (if (8 : Int32) ≤ c5 then some (-1) else gw_ck c4 8 ((if (σ.1 11 (Int32.toNatClampNeg c4)) = (-1 : Int32) then some (-1) else gw_b1 (fx_X3_of σ c4 (4 : Int32)) (fun r1 => gw_b1 (if r1 = (1 : Int32) then some (2 : Int32) else some (1 : Int32)) (fun (y3 : Int32) => gw_ck c4 8 ((if (σ.1 11 (Int32.toNatClampNeg c4)) = v1 then some (c3 + y3) else fx_X3_timeOf_L8 σ v1 n (c3 + y3) (σ.1 11 (Int32.toNatClampNeg c4)) (c5 + 1))))))))
def fx_X3_timeOf (σ : gw_S) (x1 : Int32) (x2 : Int32) : Option (Int32) := fx_X3_timeOf_L8 σ x1 1000 (0 : Int32) x2 (0 : Int32)
set_option maxHeartbeats 4000000 in
theorem wk_X3_timeOf_L8 {E : gw_E} {l : Launch} {D : gw_D} {a : Nat → Nat} {Wr : va_W → Prop} {σ : gw_S} {res : Int32} (X : gw_X E cX3_timeOf 6 RX3 (some .int) l D rm_X3_timeOf (some (gw_pI res (gw_st (wM D a σ) Wr)))) {v1 : Int32} : ∀ {n : Nat} {c3 : Int32} {c4 : Int32} {c5 : Int32}, fx_X3_timeOf_L8 σ v1 n c3 c4 c5 = some res → gw_W E 8 [(0, .ref (a 0)), (1, .int v1), (3, .int c3), (4, .int c4), (5, .int c5)] [] (gw_st (wM D a σ) Wr) 0 0 := by
  intro n
  induction n with
  | zero =>
    intro c3 c4 c5 hp
    cases (show none = some res from hp)
  | succ n ih =>
    intro c3 c4 c5 hp
    rw [fx_X3_timeOf_L8] at hp
    refine gw_iload X 10 4 dX3_timeOf_8 rfl rfl ?_
    refine gw_bipush X 12 dX3_timeOf_10 rfl gw_cb_8 ?_
    refine gw_icmp_ge X 70 15 dX3_timeOf_12 rfl rfl (fun z => ?_) (fun z => ?_)
    · replace hp := gw_t z hp
      refine gw_iconst X 71 dX3_timeOf_70 rfl gw_ci_m1 ?_
      cases hp
      exact gw_iret X dX3_timeOf_71 (fun _ h => ⟨rfl, h⟩) (Nat.le_of_ble_eq_true rfl) (Nat.le_of_ble_eq_true rfl)
    · replace hp := gw_f z hp
      refine gw_aload_n X 16 0 dX3_timeOf_15 rfl rfl rfl ?_
      refine gM_g0_21 X 19 q1415 dX3_timeOf_16 rfl ?_
      refine gw_iload X 21 3 dX3_timeOf_19 rfl rfl ?_
      obtain ⟨hc, hp⟩ := gw_ck_some hp
      refine gM_l11 X 22 (Int32.toNatClampNeg c4) hc rfl dX3_timeOf_21 rfl ?_
      refine gw_iconst X 23 dX3_timeOf_22 rfl gw_ci_m1 ?_
      refine gw_icmp_ne X 28 26 dX3_timeOf_23 rfl rfl (fun z => ?_) (fun z => ?_)
      · replace hp := gw_f z hp
        refine gw_iload_n X 29 2 dX3_timeOf_28 rfl rfl rfl ?_
        refine gw_aload_n X 30 0 dX3_timeOf_29 rfl rfl rfl ?_
        refine gw_iload X 32 3 dX3_timeOf_30 rfl rfl ?_
        refine gw_iconst X 33 dX3_timeOf_32 rfl gw_ci_4 ?_
        obtain ⟨r1, h2, hp⟩ := gw_b1_some hp
        refine gw_callVi X 36 [.int c4, .int 4] (mt_X3_of h2) lk_X3_214 ydv_X3_of gM_cl0 gM_at0 rfl rfl rfl dX3_timeOf_33 rfl rfl rfl ?_
        refine gw_iconst X 37 dX3_timeOf_36 rfl gw_ci_1 ?_
        obtain ⟨y3, h4, hp⟩ := gw_b1_some hp
        have kJ : gw_W E 45 [(0, .ref (a 0)), (1, .int v1), (4, .int c4), (5, .int c5)] [.int y3, .int c3] (gw_st (wM D a σ) Wr) 0 0 := by
          refine gw_iadd X 46 dX3_timeOf_45 rfl ?_
          refine gw_istore_n X 47 [(3, .int (c3 + y3)), (0, .ref (a 0)), (1, .int v1), (4, .int c4), (5, .int c5)] dX3_timeOf_46 rfl rfl (by decide) rfl ?_
          refine gw_aload_n X 48 1 dX3_timeOf_47 rfl rfl rfl ?_
          refine gM_g0_21 X 51 q1415 dX3_timeOf_48 rfl ?_
          refine gw_iload X 53 3 dX3_timeOf_51 rfl rfl ?_
          obtain ⟨hc, hp⟩ := gw_ck_some hp
          refine gM_l11 X 54 (Int32.toNatClampNeg c4) hc rfl dX3_timeOf_53 rfl ?_
          refine gw_istore X 56 [(4, .int (σ.1 11 (Int32.toNatClampNeg c4))), (3, .int (c3 + y3)), (0, .ref (a 0)), (1, .int v1), (5, .int c5)] dX3_timeOf_54 rfl (by decide) rfl ?_
          refine gw_iload X 58 0 dX3_timeOf_56 rfl rfl ?_
          refine gw_iload_n X 59 3 dX3_timeOf_58 rfl rfl rfl ?_
          refine gw_icmp_ne X 64 62 dX3_timeOf_59 rfl rfl (fun z => ?_) (fun z => ?_)
          · replace hp := gw_f z hp
            refine gw_iinc X 67 4 [(5, .int (c5 + 1)), (4, .int (σ.1 11 (Int32.toNatClampNeg c4))), (3, .int (c3 + y3)), (0, .ref (a 0)), (1, .int v1)] dX3_timeOf_64 rfl rfl gw_ci_1 (by decide) rfl ?_
            refine gw_goto X 8 dX3_timeOf_67 rfl ?_
            refine gw_lv [3, 4, 2, 1, 0] rfl ?_
            exact ih hp
          · replace hp := gw_t z hp
            refine gw_iload_n X 63 1 dX3_timeOf_62 rfl rfl rfl ?_
            cases hp
            exact gw_iret X dX3_timeOf_63 (fun _ h => ⟨rfl, h⟩) (Nat.le_of_ble_eq_true rfl) (Nat.le_of_ble_eq_true rfl)
        clear hp
        have hp := h4
        clear h4
        refine gw_icmp_ne X 44 40 dX3_timeOf_37 rfl rfl (fun z => ?_) (fun z => ?_)
        · replace hp := gw_f z hp
          refine gw_iconst X 45 dX3_timeOf_44 rfl gw_ci_1 ?_
          cases hp
          exact gw_lv [0, 1, 3, 4] rfl kJ
        · replace hp := gw_t z hp
          refine gw_iconst X 41 dX3_timeOf_40 rfl gw_ci_2 ?_
          refine gw_goto X 45 dX3_timeOf_41 rfl ?_
          cases hp
          exact gw_lv [0, 1, 3, 4] rfl kJ
      · replace hp := gw_t z hp
        refine gw_iconst X 27 dX3_timeOf_26 rfl gw_ci_m1 ?_
        cases hp
        exact gw_iret X dX3_timeOf_27 (fun _ h => ⟨rfl, h⟩) (Nat.le_of_ble_eq_true rfl) (Nat.le_of_ble_eq_true rfl)
set_option maxHeartbeats 4000000 in
theorem mt_X3_timeOf {l : Launch} {D : gw_D} {a : Nat → Nat} {Wr : va_W → Prop} {σ : gw_S} {x1 : Int32} {x2 : Int32} {res : Int32} (hp : fx_X3_timeOf σ x1 x2 = some res) : gw_Ct D l yX3_timeOf cX3_timeOf 6 (some .int) rm_X3_timeOf [.ref (a 0), .int x1, .int x2] (gw_st (wM D a σ) Wr) (gw_pI res (gw_st (wM D a σ) Wr)) := by
  refine gw_ct (own := RX3) [(0, .ref (a 0)), (1, .int x1), (2, .int x2)] (by decide) rfl (Nat.le_of_ble_eq_true rfl) rfl ?_
  intro E X
  unfold fx_X3_timeOf at hp
  refine gw_iconst X 1 dX3_timeOf_0 rfl gw_ci_0 ?_
  refine gw_istore_n X 2 [(3, .int 0), (0, .ref (a 0)), (1, .int x1), (2, .int x2)] dX3_timeOf_1 rfl rfl (by decide) rfl ?_
  refine gw_iload_n X 3 3 dX3_timeOf_2 rfl rfl rfl ?_
  refine gw_istore X 5 [(4, .int x2), (3, .int 0), (0, .ref (a 0)), (1, .int x1), (2, .int x2)] dX3_timeOf_3 rfl (by decide) rfl ?_
  refine gw_iconst X 6 dX3_timeOf_5 rfl gw_ci_0 ?_
  refine gw_istore X 8 [(5, .int 0), (4, .int x2), (3, .int 0), (0, .ref (a 0)), (1, .int x1), (2, .int x2)] dX3_timeOf_6 rfl (by decide) rfl ?_
  refine gw_lv [3, 4, 2, 1, 0] rfl ?_
  exact wk_X3_timeOf_L8 X hp
abbrev rm_X3_time : Room := { frames := 5, cells := 0, slots := 0, locals := 111 }
def fx_X3_time (σ : gw_S) (x1 : Int32) (x2 : Int32) : Option (Int32 × gw_S) := gw_let (gw_u σ 0 0 0) (fun σ1 => (if fx_X3_arePeople σ1 x1 x2 = true then gw_b1 (fx_X3_laysNow σ1) (fun σ3 => gw_b1 (fx_X3_timeOf σ3 x1 x2) (fun r5 => some (r5, σ3))) else some ((-2), σ1)))
set_option maxHeartbeats 4000000 in
theorem mt_X3_time {l : Launch} {D : gw_D} {a : Nat → Nat} {Wr : va_W → Prop} {σ : gw_S} {x1 : Int32} {x2 : Int32} {res : Int32 × gw_S} (hp : fx_X3_time σ x1 x2 = some res) : gw_Ct D l yX3_time cX3_time 3 (some .int) rm_X3_time [.ref (a 0), .int x1, .int x2] (gw_st (wM D a σ) Wr) (gw_pI res.1 (gw_st (wM D a res.2) Wr)) := by
  refine gw_ct (own := RX3) [(0, .ref (a 0)), (1, .int x1), (2, .int x2)] (by decide) rfl (Nat.le_of_ble_eq_true rfl) rfl ?_
  intro E X
  unfold fx_X3_time at hp
  refine gw_aload_n X 1 0 dX3_time_0 rfl rfl rfl ?_
  refine gw_iconst X 2 dX3_time_1 rfl gw_ci_0 ?_
  refine gM_p0_0 X 5 q1394 dX3_time_2 rfl ?_
  refine gw_aload_n X 6 0 dX3_time_5 rfl rfl rfl ?_
  refine gw_iload_n X 7 1 dX3_time_6 rfl rfl rfl ?_
  refine gw_iload_n X 8 2 dX3_time_7 rfl rfl rfl ?_
  obtain ⟨σ1, h2, hp⟩ := gw_let_some hp
  rw [← h2]
  clear h2
  refine gw_callVi X 11 [.int x1, .int x2] (mt_X3_arePeople rfl) lk_X3_266 ydv_X3_arePeople gM_cl0 gM_at0 rfl rfl rfl dX3_time_8 rfl rfl rfl ?_
  refine gw_if_neB X 17 14 dX3_time_11 rfl rfl (fun z => ?_) (fun z => ?_)
  · replace hp := gw_t z hp
    refine gw_aload_n X 18 0 dX3_time_17 rfl rfl rfl ?_
    obtain ⟨σ3, h4, hp⟩ := gw_b1_some hp
    refine gw_callVv X 21 [] (mt_X3_laysNow h4) lk_X3_251 ydv_X3_laysNow gM_cl0 gM_at0 rfl rfl rfl dX3_time_18 rfl rfl rfl ?_
    refine gw_aload_n X 22 0 dX3_time_21 rfl rfl rfl ?_
    refine gw_iload_n X 23 1 dX3_time_22 rfl rfl rfl ?_
    refine gw_iload_n X 24 2 dX3_time_23 rfl rfl rfl ?_
    obtain ⟨r5, h6, hp⟩ := gw_b1_some hp
    refine gw_callVi X 27 [.int x1, .int x2] (mt_X3_timeOf h6) lk_X3_269 ydv_X3_timeOf gM_cl0 gM_at0 rfl rfl rfl dX3_time_24 rfl rfl rfl ?_
    cases hp
    exact gw_iret X dX3_time_27 (fun _ h => ⟨rfl, h⟩) (Nat.le_of_ble_eq_true rfl) (Nat.le_of_ble_eq_true rfl)
  · replace hp := gw_f z hp
    refine gw_bipush X 16 dX3_time_14 rfl gw_cb_m2 ?_
    cases hp
    exact gw_iret X dX3_time_16 (fun _ h => ⟨rfl, h⟩) (Nat.le_of_ble_eq_true rfl) (Nat.le_of_ble_eq_true rfl)
abbrev rm_X3_top : Room := { frames := 5, cells := 0, slots := 0, locals := 111 }
def fx_X3_top_L25 (σ : gw_S)  : Nat → Int32 → Int32 → Option (Int32 × gw_S)
  | 0, _, _ => none
  | n + 1, c2, c3 => (if (8 : Int32) ≤ c3 then some ((-1), σ) else gw_ck c2 8 ((if (σ.1 11 (Int32.toNatClampNeg c2)) = (-1 : Int32) then some (c2, σ) else gw_ck c2 8 (fx_X3_top_L25 σ n (σ.1 11 (Int32.toNatClampNeg c2)) (c3 + 1)))))
def fx_X3_top (σ : gw_S) (x1 : Int32) : Option (Int32 × gw_S) := gw_let (gw_u σ 0 0 0) (fun σ1 => (if fx_X3_isPerson σ1 (Int32.toInt64 x1) = true then gw_b1 (fx_X3_laysNow σ1) (fun σ3 => fx_X3_top_L25 σ3 1000 x1 (0 : Int32)) else some ((-2), σ1)))
set_option maxHeartbeats 4000000 in
theorem wk_X3_top_L25 {E : gw_E} {l : Launch} {D : gw_D} {a : Nat → Nat} {Wr : va_W → Prop} {σ : gw_S} {res : Int32 × gw_S} (X : gw_X E cX3_top 4 RX3 (some .int) l D rm_X3_top (some (gw_pI res.1 (gw_st (wM D a res.2) Wr))))  : ∀ {n : Nat} {c2 : Int32} {c3 : Int32}, fx_X3_top_L25 σ n c2 c3 = some res → gw_W E 25 [(0, .ref (a 0)), (2, .int c2), (3, .int c3)] [] (gw_st (wM D a σ) Wr) 0 0 := by
  intro n
  induction n with
  | zero =>
    intro c2 c3 hp
    cases (show none = some res from hp)
  | succ n ih =>
    intro c2 c3 hp
    rw [fx_X3_top_L25] at hp
    refine gw_iload_n X 26 2 dX3_top_25 rfl rfl rfl ?_
    refine gw_bipush X 28 dX3_top_26 rfl gw_cb_8 ?_
    refine gw_icmp_ge X 56 31 dX3_top_28 rfl rfl (fun z => ?_) (fun z => ?_)
    · replace hp := gw_t z hp
      refine gw_iconst X 57 dX3_top_56 rfl gw_ci_m1 ?_
      cases hp
      exact gw_iret X dX3_top_57 (fun _ h => ⟨rfl, h⟩) (Nat.le_of_ble_eq_true rfl) (Nat.le_of_ble_eq_true rfl)
    · replace hp := gw_f z hp
      refine gw_aload_n X 32 0 dX3_top_31 rfl rfl rfl ?_
      refine gM_g0_21 X 35 q1415 dX3_top_32 rfl ?_
      refine gw_iload_n X 36 1 dX3_top_35 rfl rfl rfl ?_
      obtain ⟨hc, hp⟩ := gw_ck_some hp
      refine gM_l11 X 37 (Int32.toNatClampNeg c2) hc rfl dX3_top_36 rfl ?_
      refine gw_iconst X 38 dX3_top_37 rfl gw_ci_m1 ?_
      refine gw_icmp_ne X 43 41 dX3_top_38 rfl rfl (fun z => ?_) (fun z => ?_)
      · replace hp := gw_f z hp
        refine gw_aload_n X 44 0 dX3_top_43 rfl rfl rfl ?_
        refine gM_g0_21 X 47 q1415 dX3_top_44 rfl ?_
        refine gw_iload_n X 48 1 dX3_top_47 rfl rfl rfl ?_
        obtain ⟨hc, hp⟩ := gw_ck_some hp
        refine gM_l11 X 49 (Int32.toNatClampNeg c2) hc rfl dX3_top_48 rfl ?_
        refine gw_istore_n X 50 [(2, .int (σ.1 11 (Int32.toNatClampNeg c2))), (0, .ref (a 0)), (3, .int c3)] dX3_top_49 rfl rfl (by decide) rfl ?_
        refine gw_iinc X 53 2 [(3, .int (c3 + 1)), (2, .int (σ.1 11 (Int32.toNatClampNeg c2))), (0, .ref (a 0))] dX3_top_50 rfl rfl gw_ci_1 (by decide) rfl ?_
        refine gw_goto X 25 dX3_top_53 rfl ?_
        refine gw_lv [2, 1, 0] rfl ?_
        exact ih hp
      · replace hp := gw_t z hp
        refine gw_iload_n X 42 1 dX3_top_41 rfl rfl rfl ?_
        cases hp
        exact gw_iret X dX3_top_42 (fun _ h => ⟨rfl, h⟩) (Nat.le_of_ble_eq_true rfl) (Nat.le_of_ble_eq_true rfl)
set_option maxHeartbeats 4000000 in
theorem mt_X3_top {l : Launch} {D : gw_D} {a : Nat → Nat} {Wr : va_W → Prop} {σ : gw_S} {x1 : Int32} {res : Int32 × gw_S} (hp : fx_X3_top σ x1 = some res) : gw_Ct D l yX3_top cX3_top 4 (some .int) rm_X3_top [.ref (a 0), .int x1] (gw_st (wM D a σ) Wr) (gw_pI res.1 (gw_st (wM D a res.2) Wr)) := by
  refine gw_ct (own := RX3) [(0, .ref (a 0)), (1, .int x1)] (by decide) rfl (Nat.le_of_ble_eq_true rfl) rfl ?_
  intro E X
  unfold fx_X3_top at hp
  refine gw_aload_n X 1 0 dX3_top_0 rfl rfl rfl ?_
  refine gw_iconst X 2 dX3_top_1 rfl gw_ci_0 ?_
  refine gM_p0_0 X 5 q1394 dX3_top_2 rfl ?_
  refine gw_aload_n X 6 0 dX3_top_5 rfl rfl rfl ?_
  refine gw_iload_n X 7 1 dX3_top_6 rfl rfl rfl ?_
  refine gw_i2l X 8 dX3_top_7 rfl ?_
  obtain ⟨σ1, h2, hp⟩ := gw_let_some hp
  rw [← h2]
  clear h2
  refine gw_callVi X 11 [.long (Int32.toInt64 x1)] (mt_X3_isPerson rfl) lk_X3_206 ydv_X3_isPerson gM_cl0 gM_at0 rfl rfl rfl dX3_top_8 rfl rfl rfl ?_
  refine gw_if_neB X 17 14 dX3_top_11 rfl rfl (fun z => ?_) (fun z => ?_)
  · replace hp := gw_t z hp
    refine gw_aload_n X 18 0 dX3_top_17 rfl rfl rfl ?_
    obtain ⟨σ3, h4, hp⟩ := gw_b1_some hp
    refine gw_callVv X 21 [] (mt_X3_laysNow h4) lk_X3_251 ydv_X3_laysNow gM_cl0 gM_at0 rfl rfl rfl dX3_top_18 rfl rfl rfl ?_
    refine gw_iload_n X 22 1 dX3_top_21 rfl rfl rfl ?_
    refine gw_istore_n X 23 [(2, .int x1), (0, .ref (a 0)), (1, .int x1)] dX3_top_22 rfl rfl (by decide) rfl ?_
    refine gw_iconst X 24 dX3_top_23 rfl gw_ci_0 ?_
    refine gw_istore_n X 25 [(3, .int 0), (2, .int x1), (0, .ref (a 0)), (1, .int x1)] dX3_top_24 rfl rfl (by decide) rfl ?_
    refine gw_lv [2, 1, 0] rfl ?_
    exact wk_X3_top_L25 X hp
  · replace hp := gw_f z hp
    refine gw_bipush X 16 dX3_top_14 rfl gw_cb_m2 ?_
    cases hp
    exact gw_iret X dX3_top_16 (fun _ h => ⟨rfl, h⟩) (Nat.le_of_ble_eq_true rfl) (Nat.le_of_ble_eq_true rfl)
abbrev rm_X3_ringOf : Room := { frames := 0, cells := 0, slots := 0, locals := 0 }
def fx_X3_ringOf_L4 (σ : gw_S) (v1 : Int32) : Nat → Int32 → Int32 → Option (Int32)
  | 0, _, _ => none
  | n + 1, c2, c3 => (if (8 : Int32) < c3 then some 0 else gw_ck c2 8 ((if (σ.1 11 (Int32.toNatClampNeg c2)) = (-1 : Int32) then some 0 else gw_ck c2 8 ((if (σ.1 11 (Int32.toNatClampNeg c2)) = v1 then some c3 else fx_X3_ringOf_L4 σ v1 n (σ.1 11 (Int32.toNatClampNeg c2)) (c3 + 1))))))
def fx_X3_ringOf (σ : gw_S) (x1 : Int32) : Option (Int32) := fx_X3_ringOf_L4 σ x1 1000 x1 (1 : Int32)
set_option maxHeartbeats 4000000 in
theorem wk_X3_ringOf_L4 {E : gw_E} {l : Launch} {D : gw_D} {a : Nat → Nat} {Wr : va_W → Prop} {σ : gw_S} {res : Int32} (X : gw_X E cX3_ringOf 4 RX3 (some .int) l D rm_X3_ringOf (some (gw_pI res (gw_st (wM D a σ) Wr)))) {v1 : Int32} : ∀ {n : Nat} {c2 : Int32} {c3 : Int32}, fx_X3_ringOf_L4 σ v1 n c2 c3 = some res → gw_W E 4 [(0, .ref (a 0)), (1, .int v1), (2, .int c2), (3, .int c3)] [] (gw_st (wM D a σ) Wr) 0 0 := by
  intro n
  induction n with
  | zero =>
    intro c2 c3 hp
    cases (show none = some res from hp)
  | succ n ih =>
    intro c2 c3 hp
    rw [fx_X3_ringOf_L4] at hp
    refine gw_iload_n X 5 3 dX3_ringOf_4 rfl rfl rfl ?_
    refine gw_bipush X 7 dX3_ringOf_5 rfl gw_cb_8 ?_
    refine gw_icmp_gt X 42 10 dX3_ringOf_7 rfl rfl (fun z => ?_) (fun z => ?_)
    · replace hp := gw_t z hp
      refine gw_iconst X 43 dX3_ringOf_42 rfl gw_ci_0 ?_
      cases hp
      exact gw_iret X dX3_ringOf_43 (fun _ h => ⟨rfl, h⟩) (Nat.le_of_ble_eq_true rfl) (Nat.le_of_ble_eq_true rfl)
    · replace hp := gw_f z hp
      refine gw_aload_n X 11 0 dX3_ringOf_10 rfl rfl rfl ?_
      refine gM_g0_21 X 14 q1415 dX3_ringOf_11 rfl ?_
      refine gw_iload_n X 15 2 dX3_ringOf_14 rfl rfl rfl ?_
      obtain ⟨hc, hp⟩ := gw_ck_some hp
      refine gM_l11 X 16 (Int32.toNatClampNeg c2) hc rfl dX3_ringOf_15 rfl ?_
      refine gw_iconst X 17 dX3_ringOf_16 rfl gw_ci_m1 ?_
      refine gw_icmp_ne X 22 20 dX3_ringOf_17 rfl rfl (fun z => ?_) (fun z => ?_)
      · replace hp := gw_f z hp
        refine gw_aload_n X 23 0 dX3_ringOf_22 rfl rfl rfl ?_
        refine gM_g0_21 X 26 q1415 dX3_ringOf_23 rfl ?_
        refine gw_iload_n X 27 2 dX3_ringOf_26 rfl rfl rfl ?_
        obtain ⟨hc, hp⟩ := gw_ck_some hp
        refine gM_l11 X 28 (Int32.toNatClampNeg c2) hc rfl dX3_ringOf_27 rfl ?_
        refine gw_istore_n X 29 [(2, .int (σ.1 11 (Int32.toNatClampNeg c2))), (0, .ref (a 0)), (1, .int v1), (3, .int c3)] dX3_ringOf_28 rfl rfl (by decide) rfl ?_
        refine gw_iload_n X 30 0 dX3_ringOf_29 rfl rfl rfl ?_
        refine gw_iload_n X 31 2 dX3_ringOf_30 rfl rfl rfl ?_
        refine gw_icmp_ne X 36 34 dX3_ringOf_31 rfl rfl (fun z => ?_) (fun z => ?_)
        · replace hp := gw_f z hp
          refine gw_iinc X 39 3 [(3, .int (c3 + 1)), (2, .int (σ.1 11 (Int32.toNatClampNeg c2))), (0, .ref (a 0)), (1, .int v1)] dX3_ringOf_36 rfl rfl gw_ci_1 (by decide) rfl ?_
          refine gw_goto X 4 dX3_ringOf_39 rfl ?_
          refine gw_lv [2, 3, 1, 0] rfl ?_
          exact ih hp
        · replace hp := gw_t z hp
          refine gw_iload_n X 35 3 dX3_ringOf_34 rfl rfl rfl ?_
          cases hp
          exact gw_iret X dX3_ringOf_35 (fun _ h => ⟨rfl, h⟩) (Nat.le_of_ble_eq_true rfl) (Nat.le_of_ble_eq_true rfl)
      · replace hp := gw_t z hp
        refine gw_iconst X 21 dX3_ringOf_20 rfl gw_ci_0 ?_
        cases hp
        exact gw_iret X dX3_ringOf_21 (fun _ h => ⟨rfl, h⟩) (Nat.le_of_ble_eq_true rfl) (Nat.le_of_ble_eq_true rfl)
set_option maxHeartbeats 4000000 in
theorem mt_X3_ringOf {l : Launch} {D : gw_D} {a : Nat → Nat} {Wr : va_W → Prop} {σ : gw_S} {x1 : Int32} {res : Int32} (hp : fx_X3_ringOf σ x1 = some res) : gw_Ct D l yX3_ringOf cX3_ringOf 4 (some .int) rm_X3_ringOf [.ref (a 0), .int x1] (gw_st (wM D a σ) Wr) (gw_pI res (gw_st (wM D a σ) Wr)) := by
  refine gw_ct (own := RX3) [(0, .ref (a 0)), (1, .int x1)] (by decide) rfl (Nat.le_of_ble_eq_true rfl) rfl ?_
  intro E X
  unfold fx_X3_ringOf at hp
  refine gw_iload_n X 1 1 dX3_ringOf_0 rfl rfl rfl ?_
  refine gw_istore_n X 2 [(2, .int x1), (0, .ref (a 0)), (1, .int x1)] dX3_ringOf_1 rfl rfl (by decide) rfl ?_
  refine gw_iconst X 3 dX3_ringOf_2 rfl gw_ci_1 ?_
  refine gw_istore_n X 4 [(3, .int 1), (2, .int x1), (0, .ref (a 0)), (1, .int x1)] dX3_ringOf_3 rfl rfl (by decide) rfl ?_
  refine gw_lv [2, 3, 1, 0] rfl ?_
  exact wk_X3_ringOf_L4 X hp
abbrev rm_X3_ring : Room := { frames := 5, cells := 0, slots := 0, locals := 111 }
def fx_X3_ring (σ : gw_S) (x1 : Int32) : Option (Int32 × gw_S) := gw_let (gw_u σ 0 0 0) (fun σ1 => (if fx_X3_isPerson σ1 (Int32.toInt64 x1) = true then gw_b1 (fx_X3_laysNow σ1) (fun σ3 => gw_b1 (fx_X3_ringOf σ3 x1) (fun r5 => some (r5, σ3))) else some ((-2), σ1)))
set_option maxHeartbeats 4000000 in
theorem mt_X3_ring {l : Launch} {D : gw_D} {a : Nat → Nat} {Wr : va_W → Prop} {σ : gw_S} {x1 : Int32} {res : Int32 × gw_S} (hp : fx_X3_ring σ x1 = some res) : gw_Ct D l yX3_ring cX3_ring 2 (some .int) rm_X3_ring [.ref (a 0), .int x1] (gw_st (wM D a σ) Wr) (gw_pI res.1 (gw_st (wM D a res.2) Wr)) := by
  refine gw_ct (own := RX3) [(0, .ref (a 0)), (1, .int x1)] (by decide) rfl (Nat.le_of_ble_eq_true rfl) rfl ?_
  intro E X
  unfold fx_X3_ring at hp
  refine gw_aload_n X 1 0 dX3_ring_0 rfl rfl rfl ?_
  refine gw_iconst X 2 dX3_ring_1 rfl gw_ci_0 ?_
  refine gM_p0_0 X 5 q1394 dX3_ring_2 rfl ?_
  refine gw_aload_n X 6 0 dX3_ring_5 rfl rfl rfl ?_
  refine gw_iload_n X 7 1 dX3_ring_6 rfl rfl rfl ?_
  refine gw_i2l X 8 dX3_ring_7 rfl ?_
  obtain ⟨σ1, h2, hp⟩ := gw_let_some hp
  rw [← h2]
  clear h2
  refine gw_callVi X 11 [.long (Int32.toInt64 x1)] (mt_X3_isPerson rfl) lk_X3_206 ydv_X3_isPerson gM_cl0 gM_at0 rfl rfl rfl dX3_ring_8 rfl rfl rfl ?_
  refine gw_if_neB X 17 14 dX3_ring_11 rfl rfl (fun z => ?_) (fun z => ?_)
  · replace hp := gw_t z hp
    refine gw_aload_n X 18 0 dX3_ring_17 rfl rfl rfl ?_
    obtain ⟨σ3, h4, hp⟩ := gw_b1_some hp
    refine gw_callVv X 21 [] (mt_X3_laysNow h4) lk_X3_251 ydv_X3_laysNow gM_cl0 gM_at0 rfl rfl rfl dX3_ring_18 rfl rfl rfl ?_
    refine gw_aload_n X 22 0 dX3_ring_21 rfl rfl rfl ?_
    refine gw_iload_n X 23 1 dX3_ring_22 rfl rfl rfl ?_
    obtain ⟨r5, h6, hp⟩ := gw_b1_some hp
    refine gw_callVi X 26 [.int x1] (mt_X3_ringOf h6) lk_X3_272 ydv_X3_ringOf gM_cl0 gM_at0 rfl rfl rfl dX3_ring_23 rfl rfl rfl ?_
    cases hp
    exact gw_iret X dX3_ring_26 (fun _ h => ⟨rfl, h⟩) (Nat.le_of_ble_eq_true rfl) (Nat.le_of_ble_eq_true rfl)
  · replace hp := gw_f z hp
    refine gw_bipush X 16 dX3_ring_14 rfl gw_cb_m2 ?_
    cases hp
    exact gw_iret X dX3_ring_16 (fun _ h => ⟨rfl, h⟩) (Nat.le_of_ble_eq_true rfl) (Nat.le_of_ble_eq_true rfl)
abbrev rm_X3_ringsNow : Room := { frames := 1, cells := 0, slots := 0, locals := 23 }
def fx_X3_ringsNow_L37 {τ : Type} (k : Int32 → Option (τ)) (σ : gw_S) (v1 : Int32) (v2 : Int32) (v3 : Int32) : Nat → Int32 → Int32 → Int32 → Option (τ)
  | 0, _, _, _ => none
  | n + 1, c4, c5, c6 => (if v3 ≤ c6 then k c4 else (if c4 = 0 then k c4 else gw_ck c5 8 ((if (σ.1 11 (Int32.toNatClampNeg c5)) < v2 then fx_X3_ringsNow_L37 k σ v1 v2 v3 n (0 : Int32) (σ.1 11 (Int32.toNatClampNeg c5)) (c6 + 1) else fx_X3_ringsNow_L37 k σ v1 v2 v3 n (1 : Int32) (σ.1 11 (Int32.toNatClampNeg c5)) (c6 + 1)))))
def fx_X3_ringsNow_L4 (σ : gw_S)  : Nat → Int32 → Int32 → Option (Int32)
  | 0, _, _ => none
  | n + 1, c1, c2 => (if (σ.1 7 1) ≤ c2 then some c1 else gw_b1 (fx_X3_ringOf σ c2) (fun r1 => gw_b1 (if r1 ≤ 0 then some (0 : Int32) else some (1 : Int32)) (fun (y3 : Int32) => fx_X3_ringsNow_L37 (fun (e4 : Int32) => (if e4 = 0 then fx_X3_ringsNow_L4 σ n (c1 + (0 : Int32)) (c2 + 1) else fx_X3_ringsNow_L4 σ n (c1 + (1 : Int32)) (c2 + 1))) σ c1 c2 r1 1000 y3 c2 (0 : Int32))))
def fx_X3_ringsNow (σ : gw_S)  : Option (Int32) := fx_X3_ringsNow_L4 σ 1000 (0 : Int32) (0 : Int32)
set_option maxHeartbeats 4000000 in
theorem wk_X3_ringsNow_L37 {E : gw_E} {l : Launch} {D : gw_D} {a : Nat → Nat} {Wr : va_W → Prop} {σ : gw_S} {τ : Type} {res : τ} {post : Option (Option Value → va_W → Prop)} (X : gw_X E cX3_ringsNow 7 RX3 (some .int) l D rm_X3_ringsNow post) {k : Int32 → Option (τ)} {v1 : Int32} {v2 : Int32} {v3 : Int32} : ∀ {n : Nat} {c4 : Int32} {c5 : Int32} {c6 : Int32}, fx_X3_ringsNow_L37 k σ v1 v2 v3 n c4 c5 c6 = some res → (∀ (c4 : Int32), k c4 = some res → gw_W E 76 [(0, .ref (a 0)), (1, .int v1), (2, .int v2), (4, .int c4)] [] (gw_st (wM D a σ) Wr) 0 0) → gw_W E 37 [(0, .ref (a 0)), (1, .int v1), (2, .int v2), (3, .int v3), (4, .int c4), (5, .int c5), (6, .int c6)] [] (gw_st (wM D a σ) Wr) 0 0 := by
  intro n
  induction n with
  | zero =>
    intro c4 c5 c6 hp hk
    cases (show none = some res from hp)
  | succ n ih =>
    intro c4 c5 c6 hp hk
    rw [fx_X3_ringsNow_L37] at hp
    refine gw_iload X 39 6 dX3_ringsNow_37 rfl rfl ?_
    refine gw_iload_n X 40 3 dX3_ringsNow_39 rfl rfl rfl ?_
    refine gw_icmp_ge X 76 43 dX3_ringsNow_40 rfl rfl (fun z => ?_) (fun z => ?_)
    · replace hp := gw_t z hp
      refine gw_lv [0, 1, 2, 4] rfl ?_
      exact hk _ hp
    · replace hp := gw_f z hp
      refine gw_iload X 45 4 dX3_ringsNow_43 rfl rfl ?_
      refine gw_if_eq X 76 48 dX3_ringsNow_45 rfl rfl (fun z => ?_) (fun z => ?_)
      · replace hp := gw_t z hp
        refine gw_lv [0, 1, 2, 4] rfl ?_
        exact hk _ hp
      · replace hp := gw_f z hp
        refine gw_aload_n X 49 0 dX3_ringsNow_48 rfl rfl rfl ?_
        refine gM_g0_21 X 52 q1415 dX3_ringsNow_49 rfl ?_
        refine gw_iload X 54 5 dX3_ringsNow_52 rfl rfl ?_
        obtain ⟨hc, hp⟩ := gw_ck_some hp
        refine gM_l11 X 55 (Int32.toNatClampNeg c5) hc rfl dX3_ringsNow_54 rfl ?_
        refine gw_istore X 57 [(5, .int (σ.1 11 (Int32.toNatClampNeg c5))), (0, .ref (a 0)), (1, .int v1), (2, .int v2), (3, .int v3), (4, .int c4), (6, .int c6)] dX3_ringsNow_55 rfl (by decide) rfl ?_
        refine gw_iload X 59 0 dX3_ringsNow_57 rfl rfl ?_
        refine gw_iload_n X 60 3 dX3_ringsNow_59 rfl rfl rfl ?_
        refine gw_icmp_lt X 67 63 dX3_ringsNow_60 rfl rfl (fun z => ?_) (fun z => ?_)
        · replace hp := gw_t z hp
          refine gw_iconst X 68 dX3_ringsNow_67 rfl gw_ci_0 ?_
          refine gw_istore X 70 [(4, .int 0), (5, .int (σ.1 11 (Int32.toNatClampNeg c5))), (0, .ref (a 0)), (1, .int v1), (2, .int v2), (3, .int v3), (6, .int c6)] dX3_ringsNow_68 rfl (by decide) rfl ?_
          refine gw_iinc X 73 6 [(6, .int (c6 + 1)), (4, .int 0), (5, .int (σ.1 11 (Int32.toNatClampNeg c5))), (0, .ref (a 0)), (1, .int v1), (2, .int v2), (3, .int v3)] dX3_ringsNow_70 rfl rfl gw_ci_1 (by decide) rfl ?_
          refine gw_goto X 37 dX3_ringsNow_73 rfl ?_
          refine gw_lv [3, 4, 5, 6, 1, 2, 0] rfl ?_
          exact ih hp hk
        · replace hp := gw_f z hp
          refine gw_iconst X 64 dX3_ringsNow_63 rfl gw_ci_1 ?_
          refine gw_goto X 68 dX3_ringsNow_64 rfl ?_
          refine gw_istore X 70 [(4, .int 1), (5, .int (σ.1 11 (Int32.toNatClampNeg c5))), (0, .ref (a 0)), (1, .int v1), (2, .int v2), (3, .int v3), (6, .int c6)] dX3_ringsNow_68 rfl (by decide) rfl ?_
          refine gw_iinc X 73 6 [(6, .int (c6 + 1)), (4, .int 1), (5, .int (σ.1 11 (Int32.toNatClampNeg c5))), (0, .ref (a 0)), (1, .int v1), (2, .int v2), (3, .int v3)] dX3_ringsNow_70 rfl rfl gw_ci_1 (by decide) rfl ?_
          refine gw_goto X 37 dX3_ringsNow_73 rfl ?_
          refine gw_lv [3, 4, 5, 6, 1, 2, 0] rfl ?_
          exact ih hp hk
set_option maxHeartbeats 4000000 in
theorem wk_X3_ringsNow_L4 {E : gw_E} {l : Launch} {D : gw_D} {a : Nat → Nat} {Wr : va_W → Prop} {σ : gw_S} {res : Int32} (X : gw_X E cX3_ringsNow 7 RX3 (some .int) l D rm_X3_ringsNow (some (gw_pI res (gw_st (wM D a σ) Wr))))  : ∀ {n : Nat} {c1 : Int32} {c2 : Int32}, fx_X3_ringsNow_L4 σ n c1 c2 = some res → gw_W E 4 [(0, .ref (a 0)), (1, .int c1), (2, .int c2)] [] (gw_st (wM D a σ) Wr) 0 0 := by
  intro n
  induction n with
  | zero =>
    intro c1 c2 hp
    cases (show none = some res from hp)
  | succ n ih =>
    intro c1 c2 hp
    rw [fx_X3_ringsNow_L4] at hp
    refine gw_iload_n X 5 2 dX3_ringsNow_4 rfl rfl rfl ?_
    refine gw_aload_n X 6 0 dX3_ringsNow_5 rfl rfl rfl ?_
    refine gM_g0_17 X 9 q1411 dX3_ringsNow_6 rfl ?_
    refine gw_iconst X 10 dX3_ringsNow_9 rfl gw_ci_1 ?_
    refine gM_l7 X 11 1 (gw_in rfl) rfl dX3_ringsNow_10 rfl ?_
    refine gw_icmp_ge X 95 14 dX3_ringsNow_11 rfl rfl (fun z => ?_) (fun z => ?_)
    · replace hp := gw_t z hp
      refine gw_iload_n X 96 1 dX3_ringsNow_95 rfl rfl rfl ?_
      cases hp
      exact gw_iret X dX3_ringsNow_96 (fun _ h => ⟨rfl, h⟩) (Nat.le_of_ble_eq_true rfl) (Nat.le_of_ble_eq_true rfl)
    · replace hp := gw_f z hp
      refine gw_aload_n X 15 0 dX3_ringsNow_14 rfl rfl rfl ?_
      refine gw_iload_n X 16 2 dX3_ringsNow_15 rfl rfl rfl ?_
      obtain ⟨r1, h2, hp⟩ := gw_b1_some hp
      refine gw_callVi X 19 [.int c2] (mt_X3_ringOf h2) lk_X3_272 ydv_X3_ringOf gM_cl0 gM_at0 rfl rfl rfl dX3_ringsNow_16 rfl rfl rfl ?_
      refine gw_istore_n X 20 [(3, .int r1), (0, .ref (a 0)), (1, .int c1), (2, .int c2)] dX3_ringsNow_19 rfl rfl (by decide) rfl ?_
      refine gw_iload_n X 21 0 dX3_ringsNow_20 rfl rfl rfl ?_
      obtain ⟨y3, h5, hp⟩ := gw_b1_some hp
      have kJ : gw_W E 29 [(0, .ref (a 0)), (1, .int c1), (2, .int c2), (3, .int r1)] [.int y3] (gw_st (wM D a σ) Wr) 0 0 := by
        refine gw_istore X 31 [(4, .int y3), (0, .ref (a 0)), (1, .int c1), (2, .int c2), (3, .int r1)] dX3_ringsNow_29 rfl (by decide) rfl ?_
        refine gw_iload_n X 32 3 dX3_ringsNow_31 rfl rfl rfl ?_
        refine gw_istore X 34 [(5, .int c2), (4, .int y3), (0, .ref (a 0)), (1, .int c1), (2, .int c2), (3, .int r1)] dX3_ringsNow_32 rfl (by decide) rfl ?_
        refine gw_iconst X 35 dX3_ringsNow_34 rfl gw_ci_0 ?_
        refine gw_istore X 37 [(6, .int 0), (5, .int c2), (4, .int y3), (0, .ref (a 0)), (1, .int c1), (2, .int c2), (3, .int r1)] dX3_ringsNow_35 rfl (by decide) rfl ?_
        refine gw_lv [3, 4, 5, 6, 2, 1, 0] rfl ?_
        refine wk_X3_ringsNow_L37 X hp ?_
        clear hp
        intro e4 hp
        refine gw_iload_n X 77 1 dX3_ringsNow_76 rfl rfl rfl ?_
        refine gw_iload X 79 3 dX3_ringsNow_77 rfl rfl ?_
        refine gw_if_eq X 86 82 dX3_ringsNow_79 rfl rfl (fun z => ?_) (fun z => ?_)
        · replace hp := gw_t z hp
          refine gw_iconst X 87 dX3_ringsNow_86 rfl gw_ci_0 ?_
          refine gw_iadd X 88 dX3_ringsNow_87 rfl ?_
          refine gw_istore_n X 89 [(1, .int (c1 + (0 : Int32))), (0, .ref (a 0)), (2, .int c2), (4, .int e4)] dX3_ringsNow_88 rfl rfl (by decide) rfl ?_
          refine gw_iinc X 92 2 [(2, .int (c2 + 1)), (1, .int (c1 + (0 : Int32))), (0, .ref (a 0)), (4, .int e4)] dX3_ringsNow_89 rfl rfl gw_ci_1 (by decide) rfl ?_
          refine gw_goto X 4 dX3_ringsNow_92 rfl ?_
          refine gw_lv [2, 1, 0] rfl ?_
          exact ih hp
        · replace hp := gw_f z hp
          refine gw_iconst X 83 dX3_ringsNow_82 rfl gw_ci_1 ?_
          refine gw_goto X 87 dX3_ringsNow_83 rfl ?_
          refine gw_iadd X 88 dX3_ringsNow_87 rfl ?_
          refine gw_istore_n X 89 [(1, .int (c1 + (1 : Int32))), (0, .ref (a 0)), (2, .int c2), (4, .int e4)] dX3_ringsNow_88 rfl rfl (by decide) rfl ?_
          refine gw_iinc X 92 2 [(2, .int (c2 + 1)), (1, .int (c1 + (1 : Int32))), (0, .ref (a 0)), (4, .int e4)] dX3_ringsNow_89 rfl rfl gw_ci_1 (by decide) rfl ?_
          refine gw_goto X 4 dX3_ringsNow_92 rfl ?_
          refine gw_lv [2, 1, 0] rfl ?_
          exact ih hp
      clear hp
      have hp := h5
      clear h5
      refine gw_if_le X 28 24 dX3_ringsNow_21 rfl rfl (fun z => ?_) (fun z => ?_)
      · replace hp := gw_t z hp
        refine gw_iconst X 29 dX3_ringsNow_28 rfl gw_ci_0 ?_
        cases hp
        exact gw_lv [1, 2, 3, 0] rfl kJ
      · replace hp := gw_f z hp
        refine gw_iconst X 25 dX3_ringsNow_24 rfl gw_ci_1 ?_
        refine gw_goto X 29 dX3_ringsNow_25 rfl ?_
        cases hp
        exact gw_lv [1, 2, 3, 0] rfl kJ
set_option maxHeartbeats 4000000 in
theorem mt_X3_ringsNow {l : Launch} {D : gw_D} {a : Nat → Nat} {Wr : va_W → Prop} {σ : gw_S}  {res : Int32} (hp : fx_X3_ringsNow σ  = some res) : gw_Ct D l yX3_ringsNow cX3_ringsNow 7 (some .int) rm_X3_ringsNow [.ref (a 0)] (gw_st (wM D a σ) Wr) (gw_pI res (gw_st (wM D a σ) Wr)) := by
  refine gw_ct (own := RX3) [(0, .ref (a 0))] (by decide) rfl (Nat.le_of_ble_eq_true rfl) rfl ?_
  intro E X
  unfold fx_X3_ringsNow at hp
  refine gw_iconst X 1 dX3_ringsNow_0 rfl gw_ci_0 ?_
  refine gw_istore_n X 2 [(1, .int 0), (0, .ref (a 0))] dX3_ringsNow_1 rfl rfl (by decide) rfl ?_
  refine gw_iconst X 3 dX3_ringsNow_2 rfl gw_ci_0 ?_
  refine gw_istore_n X 4 [(2, .int 0), (1, .int 0), (0, .ref (a 0))] dX3_ringsNow_3 rfl rfl (by decide) rfl ?_
  refine gw_lv [2, 1, 0] rfl ?_
  exact wk_X3_ringsNow_L4 X hp
abbrev rm_X3_rings : Room := { frames := 5, cells := 0, slots := 0, locals := 111 }
def fx_X3_rings (σ : gw_S)  : Option (Int32 × gw_S) := gw_let (gw_u σ 0 0 0) (fun σ1 => (if fx_X3_isCity σ1 = true then gw_b1 (fx_X3_laysNow σ1) (fun σ3 => gw_b1 (fx_X3_ringsNow σ3) (fun r5 => some (r5, σ3))) else some ((-2), σ1)))
set_option maxHeartbeats 4000000 in
theorem mt_X3_rings {l : Launch} {D : gw_D} {a : Nat → Nat} {Wr : va_W → Prop} {σ : gw_S}  {res : Int32 × gw_S} (hp : fx_X3_rings σ  = some res) : gw_Ct D l yX3_rings cX3_rings 1 (some .int) rm_X3_rings [.ref (a 0)] (gw_st (wM D a σ) Wr) (gw_pI res.1 (gw_st (wM D a res.2) Wr)) := by
  refine gw_ct (own := RX3) [(0, .ref (a 0))] (by decide) rfl (Nat.le_of_ble_eq_true rfl) rfl ?_
  intro E X
  unfold fx_X3_rings at hp
  refine gw_aload_n X 1 0 dX3_rings_0 rfl rfl rfl ?_
  refine gw_iconst X 2 dX3_rings_1 rfl gw_ci_0 ?_
  refine gM_p0_0 X 5 q1394 dX3_rings_2 rfl ?_
  refine gw_aload_n X 6 0 dX3_rings_5 rfl rfl rfl ?_
  obtain ⟨σ1, h2, hp⟩ := gw_let_some hp
  rw [← h2]
  clear h2
  refine gw_callVi X 9 [] (mt_X3_isCity rfl) lk_X3_209 ydv_X3_isCity gM_cl0 gM_at0 rfl rfl rfl dX3_rings_6 rfl rfl rfl ?_
  refine gw_if_neB X 15 12 dX3_rings_9 rfl rfl (fun z => ?_) (fun z => ?_)
  · replace hp := gw_t z hp
    refine gw_aload_n X 16 0 dX3_rings_15 rfl rfl rfl ?_
    obtain ⟨σ3, h4, hp⟩ := gw_b1_some hp
    refine gw_callVv X 19 [] (mt_X3_laysNow h4) lk_X3_251 ydv_X3_laysNow gM_cl0 gM_at0 rfl rfl rfl dX3_rings_16 rfl rfl rfl ?_
    refine gw_aload_n X 20 0 dX3_rings_19 rfl rfl rfl ?_
    obtain ⟨r5, h6, hp⟩ := gw_b1_some hp
    refine gw_callVi X 23 [] (mt_X3_ringsNow h6) lk_X3_275 ydv_X3_ringsNow gM_cl0 gM_at0 rfl rfl rfl dX3_rings_20 rfl rfl rfl ?_
    cases hp
    exact gw_iret X dX3_rings_23 (fun _ h => ⟨rfl, h⟩) (Nat.le_of_ble_eq_true rfl) (Nat.le_of_ble_eq_true rfl)
  · replace hp := gw_f z hp
    refine gw_bipush X 14 dX3_rings_12 rfl gw_cb_m2 ?_
    cases hp
    exact gw_iret X dX3_rings_14 (fun _ h => ⟨rfl, h⟩) (Nat.le_of_ble_eq_true rfl) (Nat.le_of_ble_eq_true rfl)
abbrev rm_X3_isDeed : Room := { frames := 1, cells := 0, slots := 0, locals := 25 }
def fx_X3_isDeed (x0 : Int64) : Bool := fx_X3_in x0 (0 : Int64) (5 : Int64)
set_option maxHeartbeats 4000000 in
theorem mt_X3_isDeed {l : Launch} {D : gw_D} {Ws : va_W → Prop} {x0 : Int64} {res : Bool} (hp : fx_X3_isDeed x0 = res) : gw_Ct D l yX3_isDeed cX3_isDeed 2 (some .boolean) rm_X3_isDeed [.long x0] Ws (gw_pI (gw_b res) Ws) := by
  refine gw_ct (own := RX3) [(0, .long x0)] (by decide) rfl (Nat.le_of_ble_eq_true rfl) rfl ?_
  intro E X
  unfold fx_X3_isDeed at hp
  refine gw_lload_n X 1 0 dX3_isDeed_0 rfl rfl rfl ?_
  refine gw_lconst X 2 dX3_isDeed_1 rfl gw_cl_0 ?_
  refine gw_ldc2 X 5 dX3_isDeed_2 rfl q1739 ?_
  refine gw_callSi X 8 [.long x0, .long 0, .long 5] (mt_X3_in rfl) lk_X3_64 yd_X3_in rfl rfl rfl dX3_isDeed_5 rfl rfl rfl ?_
  cases hp
  exact gw_zret X dX3_isDeed_8 (fun _ h => ⟨rfl, h⟩) (Nat.le_of_ble_eq_true rfl) (Nat.le_of_ble_eq_true rfl)
abbrev rm_X3_isChain : Room := { frames := 2, cells := 0, slots := 0, locals := 47 }
def fx_X3_isChain (σ : gw_S) (x1 : Int32) (x2 : Int32) : Bool := (if fx_X3_isPerson σ (Int32.toInt64 x1) = true then (if fx_X3_isDeed (Int32.toInt64 x2) = true then true else false) else false)
set_option maxHeartbeats 4000000 in
theorem mt_X3_isChain {l : Launch} {D : gw_D} {a : Nat → Nat} {Wr : va_W → Prop} {σ : gw_S} {x1 : Int32} {x2 : Int32} {res : Bool} (hp : fx_X3_isChain σ x1 x2 = res) : gw_Ct D l yX3_isChain cX3_isChain 3 (some .boolean) rm_X3_isChain [.ref (a 0), .int x1, .int x2] (gw_st (wM D a σ) Wr) (gw_pI (gw_b res) (gw_st (wM D a σ) Wr)) := by
  refine gw_ct (own := RX3) [(0, .ref (a 0)), (1, .int x1), (2, .int x2)] (by decide) rfl (Nat.le_of_ble_eq_true rfl) rfl ?_
  intro E X
  unfold fx_X3_isChain at hp
  refine gw_aload_n X 1 0 dX3_isChain_0 rfl rfl rfl ?_
  refine gw_iload_n X 2 1 dX3_isChain_1 rfl rfl rfl ?_
  refine gw_i2l X 3 dX3_isChain_2 rfl ?_
  refine gw_callVi X 6 [.long (Int32.toInt64 x1)] (mt_X3_isPerson rfl) lk_X3_206 ydv_X3_isPerson gM_cl0 gM_at0 rfl rfl rfl dX3_isChain_3 rfl rfl rfl ?_
  refine gw_if_eqB X 21 9 dX3_isChain_6 rfl rfl (fun z => ?_) (fun z => ?_)
  · replace hp := gw_f z hp
    refine gw_iconst X 22 dX3_isChain_21 rfl gw_ci_0 ?_
    cases hp
    exact gw_zret0 X dX3_isChain_22 (fun _ h => ⟨rfl, h⟩) (Nat.le_of_ble_eq_true rfl) (Nat.le_of_ble_eq_true rfl)
  · replace hp := gw_t z hp
    refine gw_iload_n X 10 2 dX3_isChain_9 rfl rfl rfl ?_
    refine gw_i2l X 11 dX3_isChain_10 rfl ?_
    refine gw_callSi X 14 [.long (Int32.toInt64 x2)] (mt_X3_isDeed rfl) lk_X3_278 yd_X3_isDeed rfl rfl rfl dX3_isChain_11 rfl rfl rfl ?_
    refine gw_if_eqB X 21 17 dX3_isChain_14 rfl rfl (fun z => ?_) (fun z => ?_)
    · replace hp := gw_f z hp
      refine gw_iconst X 22 dX3_isChain_21 rfl gw_ci_0 ?_
      cases hp
      exact gw_zret0 X dX3_isChain_22 (fun _ h => ⟨rfl, h⟩) (Nat.le_of_ble_eq_true rfl) (Nat.le_of_ble_eq_true rfl)
    · replace hp := gw_t z hp
      refine gw_iconst X 18 dX3_isChain_17 rfl gw_ci_1 ?_
      refine gw_goto X 22 dX3_isChain_18 rfl ?_
      cases hp
      exact gw_zret1 X dX3_isChain_22 (fun _ h => ⟨rfl, h⟩) (Nat.le_of_ble_eq_true rfl) (Nat.le_of_ble_eq_true rfl)
abbrev rm_X3_doerOf : Room := { frames := 2, cells := 0, slots := 0, locals := 47 }
def fx_X3_doerOf_L5 (σ : gw_S) (v1 : Int32) (v2 : Int32) : Nat → Int32 → Int32 → Option (Int32)
  | 0, _, _ => none
  | n + 1, c3, c4 => (if (σ.1 7 1) ≤ c4 then some c3 else gw_b1 (fx_X3_timeOf σ v1 c4) (fun r1 => gw_b1 (fx_X3_of σ c4 (1 : Int32)) (fun r3 => (if fx_X3_isBit r3 v2 = true then (if r1 = (-1 : Int32) then fx_X3_doerOf_L5 σ v1 v2 n c3 (c4 + 1) else (if c3 = (-1 : Int32) then fx_X3_doerOf_L5 σ v1 v2 n c4 (c4 + 1) else gw_b1 (fx_X3_timeOf σ v1 c3) (fun r5 => (if r5 ≤ r1 then fx_X3_doerOf_L5 σ v1 v2 n c3 (c4 + 1) else fx_X3_doerOf_L5 σ v1 v2 n c4 (c4 + 1))))) else fx_X3_doerOf_L5 σ v1 v2 n c3 (c4 + 1)))))
def fx_X3_doerOf (σ : gw_S) (x1 : Int32) (x2 : Int32) : Option (Int32) := fx_X3_doerOf_L5 σ x1 x2 1000 (-1 : Int32) (0 : Int32)
set_option maxHeartbeats 4000000 in
theorem wk_X3_doerOf_L5 {E : gw_E} {l : Launch} {D : gw_D} {a : Nat → Nat} {Wr : va_W → Prop} {σ : gw_S} {res : Int32} (X : gw_X E cX3_doerOf 6 RX3 (some .int) l D rm_X3_doerOf (some (gw_pI res (gw_st (wM D a σ) Wr)))) {v1 : Int32} {v2 : Int32} : ∀ {n : Nat} {c3 : Int32} {c4 : Int32}, fx_X3_doerOf_L5 σ v1 v2 n c3 c4 = some res → gw_W E 5 [(0, .ref (a 0)), (1, .int v1), (2, .int v2), (3, .int c3), (4, .int c4)] [] (gw_st (wM D a σ) Wr) 0 0 := by
  intro n
  induction n with
  | zero =>
    intro c3 c4 hp
    cases (show none = some res from hp)
  | succ n ih =>
    intro c3 c4 hp
    rw [fx_X3_doerOf_L5] at hp
    refine gw_iload X 7 4 dX3_doerOf_5 rfl rfl ?_
    refine gw_aload_n X 8 0 dX3_doerOf_7 rfl rfl rfl ?_
    refine gM_g0_17 X 11 q1411 dX3_doerOf_8 rfl ?_
    refine gw_iconst X 12 dX3_doerOf_11 rfl gw_ci_1 ?_
    refine gM_l7 X 13 1 (gw_in rfl) rfl dX3_doerOf_12 rfl ?_
    refine gw_icmp_ge X 70 16 dX3_doerOf_13 rfl rfl (fun z => ?_) (fun z => ?_)
    · replace hp := gw_t z hp
      refine gw_iload_n X 71 3 dX3_doerOf_70 rfl rfl rfl ?_
      cases hp
      exact gw_iret X dX3_doerOf_71 (fun _ h => ⟨rfl, h⟩) (Nat.le_of_ble_eq_true rfl) (Nat.le_of_ble_eq_true rfl)
    · replace hp := gw_f z hp
      refine gw_aload_n X 17 0 dX3_doerOf_16 rfl rfl rfl ?_
      refine gw_iload_n X 18 1 dX3_doerOf_17 rfl rfl rfl ?_
      refine gw_iload X 20 4 dX3_doerOf_18 rfl rfl ?_
      obtain ⟨r1, h2, hp⟩ := gw_b1_some hp
      refine gw_callVi X 23 [.int v1, .int c4] (mt_X3_timeOf h2) lk_X3_269 ydv_X3_timeOf gM_cl0 gM_at0 rfl rfl rfl dX3_doerOf_20 rfl rfl rfl ?_
      refine gw_istore X 25 [(5, .int r1), (0, .ref (a 0)), (1, .int v1), (2, .int v2), (3, .int c3), (4, .int c4)] dX3_doerOf_23 rfl (by decide) rfl ?_
      refine gw_aload_n X 26 1 dX3_doerOf_25 rfl rfl rfl ?_
      refine gw_iload X 28 5 dX3_doerOf_26 rfl rfl ?_
      refine gw_iconst X 29 dX3_doerOf_28 rfl gw_ci_1 ?_
      obtain ⟨r3, h4, hp⟩ := gw_b1_some hp
      refine gw_callVi X 32 [.int c4, .int 1] (mt_X3_of h4) lk_X3_214 ydv_X3_of gM_cl0 gM_at0 rfl rfl rfl dX3_doerOf_29 rfl rfl rfl ?_
      refine gw_iload_n X 33 3 dX3_doerOf_32 rfl rfl rfl ?_
      refine gw_callSi X 36 [.int r3, .int v2] (mt_X3_isBit rfl) lk_X3_239 yd_X3_isBit rfl rfl rfl dX3_doerOf_33 rfl rfl rfl ?_
      refine gw_if_eqB X 64 39 dX3_doerOf_36 rfl rfl (fun z => ?_) (fun z => ?_)
      · replace hp := gw_f z hp
        refine gw_iinc X 67 5 [(4, .int (c4 + 1)), (5, .int r1), (0, .ref (a 0)), (1, .int v1), (2, .int v2), (3, .int c3)] dX3_doerOf_64 rfl rfl gw_ci_1 (by decide) rfl ?_
        refine gw_goto X 5 dX3_doerOf_67 rfl ?_
        refine gw_lv [2, 3, 4, 5, 0] rfl ?_
        exact ih hp
      · replace hp := gw_t z hp
        refine gw_iload X 41 0 dX3_doerOf_39 rfl rfl ?_
        refine gw_iconst X 42 dX3_doerOf_41 rfl gw_ci_m1 ?_
        refine gw_icmp_eq X 64 45 dX3_doerOf_42 rfl rfl (fun z => ?_) (fun z => ?_)
        · replace hp := gw_t z hp
          refine gw_iinc X 67 5 [(4, .int (c4 + 1)), (5, .int r1), (0, .ref (a 0)), (1, .int v1), (2, .int v2), (3, .int c3)] dX3_doerOf_64 rfl rfl gw_ci_1 (by decide) rfl ?_
          refine gw_goto X 5 dX3_doerOf_67 rfl ?_
          refine gw_lv [2, 3, 4, 5, 0] rfl ?_
          exact ih hp
        · replace hp := gw_f z hp
          refine gw_iload_n X 46 4 dX3_doerOf_45 rfl rfl rfl ?_
          refine gw_iconst X 47 dX3_doerOf_46 rfl gw_ci_m1 ?_
          refine gw_icmp_eq X 61 50 dX3_doerOf_47 rfl rfl (fun z => ?_) (fun z => ?_)
          · replace hp := gw_t z hp
            refine gw_iload X 63 5 dX3_doerOf_61 rfl rfl ?_
            refine gw_istore_n X 64 [(3, .int c4), (5, .int r1), (0, .ref (a 0)), (1, .int v1), (2, .int v2), (4, .int c4)] dX3_doerOf_63 rfl rfl (by decide) rfl ?_
            refine gw_iinc X 67 5 [(4, .int (c4 + 1)), (3, .int c4), (5, .int r1), (0, .ref (a 0)), (1, .int v1), (2, .int v2)] dX3_doerOf_64 rfl rfl gw_ci_1 (by decide) rfl ?_
            refine gw_goto X 5 dX3_doerOf_67 rfl ?_
            refine gw_lv [3, 4, 5, 1, 0] rfl ?_
            exact ih hp
          · replace hp := gw_f z hp
            refine gw_iload X 52 0 dX3_doerOf_50 rfl rfl ?_
            refine gw_aload_n X 53 1 dX3_doerOf_52 rfl rfl rfl ?_
            refine gw_iload_n X 54 2 dX3_doerOf_53 rfl rfl rfl ?_
            refine gw_iload_n X 55 4 dX3_doerOf_54 rfl rfl rfl ?_
            obtain ⟨r5, h6, hp⟩ := gw_b1_some hp
            refine gw_callVi X 58 [.int v1, .int c3] (mt_X3_timeOf h6) lk_X3_269 ydv_X3_timeOf gM_cl0 gM_at0 rfl rfl rfl dX3_doerOf_55 rfl rfl rfl ?_
            refine gw_icmp_ge X 64 61 dX3_doerOf_58 rfl rfl (fun z => ?_) (fun z => ?_)
            · replace hp := gw_t z hp
              refine gw_iinc X 67 5 [(4, .int (c4 + 1)), (5, .int r1), (0, .ref (a 0)), (1, .int v1), (2, .int v2), (3, .int c3)] dX3_doerOf_64 rfl rfl gw_ci_1 (by decide) rfl ?_
              refine gw_goto X 5 dX3_doerOf_67 rfl ?_
              refine gw_lv [2, 3, 4, 5, 0] rfl ?_
              exact ih hp
            · replace hp := gw_f z hp
              refine gw_iload X 63 5 dX3_doerOf_61 rfl rfl ?_
              refine gw_istore_n X 64 [(3, .int c4), (5, .int r1), (0, .ref (a 0)), (1, .int v1), (2, .int v2), (4, .int c4)] dX3_doerOf_63 rfl rfl (by decide) rfl ?_
              refine gw_iinc X 67 5 [(4, .int (c4 + 1)), (3, .int c4), (5, .int r1), (0, .ref (a 0)), (1, .int v1), (2, .int v2)] dX3_doerOf_64 rfl rfl gw_ci_1 (by decide) rfl ?_
              refine gw_goto X 5 dX3_doerOf_67 rfl ?_
              refine gw_lv [3, 4, 5, 1, 0] rfl ?_
              exact ih hp
set_option maxHeartbeats 4000000 in
theorem mt_X3_doerOf {l : Launch} {D : gw_D} {a : Nat → Nat} {Wr : va_W → Prop} {σ : gw_S} {x1 : Int32} {x2 : Int32} {res : Int32} (hp : fx_X3_doerOf σ x1 x2 = some res) : gw_Ct D l yX3_doerOf cX3_doerOf 6 (some .int) rm_X3_doerOf [.ref (a 0), .int x1, .int x2] (gw_st (wM D a σ) Wr) (gw_pI res (gw_st (wM D a σ) Wr)) := by
  refine gw_ct (own := RX3) [(0, .ref (a 0)), (1, .int x1), (2, .int x2)] (by decide) rfl (Nat.le_of_ble_eq_true rfl) rfl ?_
  intro E X
  unfold fx_X3_doerOf at hp
  refine gw_iconst X 1 dX3_doerOf_0 rfl gw_ci_m1 ?_
  refine gw_istore_n X 2 [(3, .int (-1)), (0, .ref (a 0)), (1, .int x1), (2, .int x2)] dX3_doerOf_1 rfl rfl (by decide) rfl ?_
  refine gw_iconst X 3 dX3_doerOf_2 rfl gw_ci_0 ?_
  refine gw_istore X 5 [(4, .int 0), (3, .int (-1)), (0, .ref (a 0)), (1, .int x1), (2, .int x2)] dX3_doerOf_3 rfl (by decide) rfl ?_
  refine gw_lv [2, 3, 4, 1, 0] rfl ?_
  exact wk_X3_doerOf_L5 X hp
abbrev rm_X3_chain : Room := { frames := 5, cells := 0, slots := 0, locals := 111 }
def fx_X3_chain (σ : gw_S) (x1 : Int32) (x2 : Int32) : Option (Int32 × gw_S) := gw_let (gw_u σ 0 0 0) (fun σ1 => (if fx_X3_isChain σ1 x1 x2 = true then gw_b1 (fx_X3_laysNow σ1) (fun σ3 => gw_b1 (fx_X3_doerOf σ3 x1 x2) (fun r5 => (if r5 = (-1 : Int32) then some ((-1), σ3) else gw_b1 (fx_X3_timeOf σ3 x1 r5) (fun r7 => some (r7, σ3))))) else some ((-2), σ1)))
set_option maxHeartbeats 4000000 in
theorem mt_X3_chain {l : Launch} {D : gw_D} {a : Nat → Nat} {Wr : va_W → Prop} {σ : gw_S} {x1 : Int32} {x2 : Int32} {res : Int32 × gw_S} (hp : fx_X3_chain σ x1 x2 = some res) : gw_Ct D l yX3_chain cX3_chain 4 (some .int) rm_X3_chain [.ref (a 0), .int x1, .int x2] (gw_st (wM D a σ) Wr) (gw_pI res.1 (gw_st (wM D a res.2) Wr)) := by
  refine gw_ct (own := RX3) [(0, .ref (a 0)), (1, .int x1), (2, .int x2)] (by decide) rfl (Nat.le_of_ble_eq_true rfl) rfl ?_
  intro E X
  unfold fx_X3_chain at hp
  refine gw_aload_n X 1 0 dX3_chain_0 rfl rfl rfl ?_
  refine gw_iconst X 2 dX3_chain_1 rfl gw_ci_0 ?_
  refine gM_p0_0 X 5 q1394 dX3_chain_2 rfl ?_
  refine gw_aload_n X 6 0 dX3_chain_5 rfl rfl rfl ?_
  refine gw_iload_n X 7 1 dX3_chain_6 rfl rfl rfl ?_
  refine gw_iload_n X 8 2 dX3_chain_7 rfl rfl rfl ?_
  obtain ⟨σ1, h2, hp⟩ := gw_let_some hp
  rw [← h2]
  clear h2
  refine gw_callVi X 11 [.int x1, .int x2] (mt_X3_isChain rfl) lk_X3_281 ydv_X3_isChain gM_cl0 gM_at0 rfl rfl rfl dX3_chain_8 rfl rfl rfl ?_
  refine gw_if_neB X 17 14 dX3_chain_11 rfl rfl (fun z => ?_) (fun z => ?_)
  · replace hp := gw_t z hp
    refine gw_aload_n X 18 0 dX3_chain_17 rfl rfl rfl ?_
    obtain ⟨σ3, h4, hp⟩ := gw_b1_some hp
    refine gw_callVv X 21 [] (mt_X3_laysNow h4) lk_X3_251 ydv_X3_laysNow gM_cl0 gM_at0 rfl rfl rfl dX3_chain_18 rfl rfl rfl ?_
    refine gw_aload_n X 22 0 dX3_chain_21 rfl rfl rfl ?_
    refine gw_iload_n X 23 1 dX3_chain_22 rfl rfl rfl ?_
    refine gw_iload_n X 24 2 dX3_chain_23 rfl rfl rfl ?_
    obtain ⟨r5, h6, hp⟩ := gw_b1_some hp
    refine gw_callVi X 27 [.int x1, .int x2] (mt_X3_doerOf h6) lk_X3_284 ydv_X3_doerOf gM_cl0 gM_at0 rfl rfl rfl dX3_chain_24 rfl rfl rfl ?_
    refine gw_istore_n X 28 [(3, .int r5), (0, .ref (a 0)), (1, .int x1), (2, .int x2)] dX3_chain_27 rfl rfl (by decide) rfl ?_
    refine gw_iload_n X 29 0 dX3_chain_28 rfl rfl rfl ?_
    refine gw_iconst X 30 dX3_chain_29 rfl gw_ci_m1 ?_
    refine gw_icmp_ne X 37 33 dX3_chain_30 rfl rfl (fun z => ?_) (fun z => ?_)
    · replace hp := gw_f z hp
      refine gw_aload_n X 38 1 dX3_chain_37 rfl rfl rfl ?_
      refine gw_iload_n X 39 2 dX3_chain_38 rfl rfl rfl ?_
      refine gw_iload_n X 40 0 dX3_chain_39 rfl rfl rfl ?_
      obtain ⟨r7, h8, hp⟩ := gw_b1_some hp
      refine gw_callVi X 43 [.int x1, .int r5] (mt_X3_timeOf h8) lk_X3_269 ydv_X3_timeOf gM_cl0 gM_at0 rfl rfl rfl dX3_chain_40 rfl rfl rfl ?_
      cases hp
      exact gw_iret X dX3_chain_43 (fun _ h => ⟨rfl, h⟩) (Nat.le_of_ble_eq_true rfl) (Nat.le_of_ble_eq_true rfl)
    · replace hp := gw_t z hp
      refine gw_iconst X 34 dX3_chain_33 rfl gw_ci_m1 ?_
      refine gw_goto X 43 dX3_chain_34 rfl ?_
      cases hp
      exact gw_iret X dX3_chain_43 (fun _ h => ⟨rfl, h⟩) (Nat.le_of_ble_eq_true rfl) (Nat.le_of_ble_eq_true rfl)
  · replace hp := gw_f z hp
    refine gw_bipush X 16 dX3_chain_14 rfl gw_cb_m2 ?_
    cases hp
    exact gw_iret X dX3_chain_16 (fun _ h => ⟨rfl, h⟩) (Nat.le_of_ble_eq_true rfl) (Nat.le_of_ble_eq_true rfl)
