set_option maxRecDepth 100000
abbrev rm_X3_whyNot : Room := { frames := 2, cells := 0, slots := 0, locals := 46 }
def fx_X3_whyNot_L32 (σ : gw_S) (v1 : Int32) : Nat → Int32 → Option (Int32)
  | 0, _ => none
  | n + 1, c2 => gw_ck v1 4 ((if (σ.1 2 (Int32.toNatClampNeg v1)) ≤ c2 then some 0 else gw_ck (((60 : Int32) * v1) + c2) 240 ((if fx_X3_isDeed (σ.2 3 (Int32.toNatClampNeg (((60 : Int32) * v1) + c2))) = true then fx_X3_whyNot_L32 σ v1 n (c2 + 1) else some (-2)))))
def fx_X3_whyNot (σ : gw_S) (x1 : Int32) : Option (Int32) := (if fx_X3_isSlot x1 = true then (if fx_X3_isCity σ = true then gw_ck x1 4 ((if (σ.1 1 (Int32.toNatClampNeg x1)) = (-1 : Int32) then some (-6) else fx_X3_whyNot_L32 σ x1 1000 (0 : Int32))) else some (-2)) else some (-2))
set_option maxHeartbeats 4000000 in
theorem wk_X3_whyNot_L32 {E : gw_E} {l : Launch} {D : gw_D} {a : Nat → Nat} {Wr : va_W → Prop} {σ : gw_S} {res : Int32} (X : gw_X E cX3_whyNot 3 RX3 (some .int) l D rm_X3_whyNot (some (gw_pI res (gw_st (wM D a σ) Wr)))) {v1 : Int32} : ∀ {n : Nat} {c2 : Int32}, fx_X3_whyNot_L32 σ v1 n c2 = some res → gw_W E 32 [(0, .ref (a 0)), (1, .int v1), (2, .int c2)] [] (gw_st (wM D a σ) Wr) 0 0 := by
  intro n
  induction n with
  | zero =>
    intro c2 hp
    cases (show none = some res from hp)
  | succ n ih =>
    intro c2 hp
    rw [fx_X3_whyNot_L32] at hp
    refine gw_iload_n X 33 2 dX3_whyNot_32 rfl rfl rfl ?_
    refine gw_aload_n X 34 0 dX3_whyNot_33 rfl rfl rfl ?_
    refine gM_g0_2 X 37 q1396 dX3_whyNot_34 rfl ?_
    refine gw_iload_n X 38 1 dX3_whyNot_37 rfl rfl rfl ?_
    obtain ⟨hc, hp⟩ := gw_ck_some hp
    refine gM_l2 X 39 (Int32.toNatClampNeg v1) hc rfl dX3_whyNot_38 rfl ?_
    refine gw_icmp_ge X 68 42 dX3_whyNot_39 rfl rfl (fun z => ?_) (fun z => ?_)
    · replace hp := gw_t z hp
      refine gw_iconst X 69 dX3_whyNot_68 rfl gw_ci_0 ?_
      cases hp
      exact gw_iret X dX3_whyNot_69 (fun _ h => ⟨rfl, h⟩) (Nat.le_of_ble_eq_true rfl) (Nat.le_of_ble_eq_true rfl)
    · replace hp := gw_f z hp
      refine gw_aload_n X 43 0 dX3_whyNot_42 rfl rfl rfl ?_
      refine gM_g0_3 X 46 q1397 dX3_whyNot_43 rfl ?_
      refine gw_bipush X 48 dX3_whyNot_46 rfl gw_cb_60 ?_
      refine gw_iload_n X 49 1 dX3_whyNot_48 rfl rfl rfl ?_
      refine gw_imul X 50 dX3_whyNot_49 rfl ?_
      refine gw_iload_n X 51 2 dX3_whyNot_50 rfl rfl rfl ?_
      refine gw_iadd X 52 dX3_whyNot_51 rfl ?_
      obtain ⟨hc, hp⟩ := gw_ck_some hp
      refine gM_l3 X 53 (Int32.toNatClampNeg (((60 : Int32) * v1) + c2)) hc rfl dX3_whyNot_52 rfl ?_
      refine gw_callSi X 56 [.long (σ.2 3 (Int32.toNatClampNeg (((60 : Int32) * v1) + c2)))] (mt_X3_isDeed rfl) lk_X3_278 yd_X3_isDeed rfl rfl rfl dX3_whyNot_53 rfl rfl rfl ?_
      refine gw_if_neB X 62 59 dX3_whyNot_56 rfl rfl (fun z => ?_) (fun z => ?_)
      · replace hp := gw_t z hp
        refine gw_iinc X 65 2 [(2, .int (c2 + 1)), (0, .ref (a 0)), (1, .int v1)] dX3_whyNot_62 rfl rfl gw_ci_1 (by decide) rfl ?_
        refine gw_goto X 32 dX3_whyNot_65 rfl ?_
        refine gw_lv [1, 2, 0] rfl ?_
        exact ih hp
      · replace hp := gw_f z hp
        refine gw_bipush X 61 dX3_whyNot_59 rfl gw_cb_m2 ?_
        cases hp
        exact gw_iret X dX3_whyNot_61 (fun _ h => ⟨rfl, h⟩) (Nat.le_of_ble_eq_true rfl) (Nat.le_of_ble_eq_true rfl)
set_option maxHeartbeats 4000000 in
theorem mt_X3_whyNot {l : Launch} {D : gw_D} {a : Nat → Nat} {Wr : va_W → Prop} {σ : gw_S} {x1 : Int32} {res : Int32} (hp : fx_X3_whyNot σ x1 = some res) : gw_Ct D l yX3_whyNot cX3_whyNot 3 (some .int) rm_X3_whyNot [.ref (a 0), .int x1] (gw_st (wM D a σ) Wr) (gw_pI res (gw_st (wM D a σ) Wr)) := by
  refine gw_ct (own := RX3) [(0, .ref (a 0)), (1, .int x1)] (by decide) rfl (Nat.le_of_ble_eq_true rfl) rfl ?_
  intro E X
  unfold fx_X3_whyNot at hp
  refine gw_iload_n X 1 1 dX3_whyNot_0 rfl rfl rfl ?_
  refine gw_callSi X 4 [.int x1] (mt_X3_isSlot rfl) lk_X3_68 yd_X3_isSlot rfl rfl rfl dX3_whyNot_1 rfl rfl rfl ?_
  refine gw_if_eqB X 14 7 dX3_whyNot_4 rfl rfl (fun z => ?_) (fun z => ?_)
  · replace hp := gw_f z hp
    refine gw_bipush X 16 dX3_whyNot_14 rfl gw_cb_m2 ?_
    cases hp
    exact gw_iret X dX3_whyNot_16 (fun _ h => ⟨rfl, h⟩) (Nat.le_of_ble_eq_true rfl) (Nat.le_of_ble_eq_true rfl)
  · replace hp := gw_t z hp
    refine gw_aload_n X 8 0 dX3_whyNot_7 rfl rfl rfl ?_
    refine gw_callVi X 11 [] (mt_X3_isCity rfl) lk_X3_209 ydv_X3_isCity gM_cl0 gM_at0 rfl rfl rfl dX3_whyNot_8 rfl rfl rfl ?_
    refine gw_if_neB X 17 14 dX3_whyNot_11 rfl rfl (fun z => ?_) (fun z => ?_)
    · replace hp := gw_t z hp
      refine gw_aload_n X 18 0 dX3_whyNot_17 rfl rfl rfl ?_
      refine gM_g0_1 X 21 q1395 dX3_whyNot_18 rfl ?_
      refine gw_iload_n X 22 1 dX3_whyNot_21 rfl rfl rfl ?_
      obtain ⟨hc, hp⟩ := gw_ck_some hp
      refine gM_l1 X 23 (Int32.toNatClampNeg x1) hc rfl dX3_whyNot_22 rfl ?_
      refine gw_iconst X 24 dX3_whyNot_23 rfl gw_ci_m1 ?_
      refine gw_icmp_ne X 30 27 dX3_whyNot_24 rfl rfl (fun z => ?_) (fun z => ?_)
      · replace hp := gw_f z hp
        refine gw_iconst X 31 dX3_whyNot_30 rfl gw_ci_0 ?_
        refine gw_istore_n X 32 [(2, .int 0), (0, .ref (a 0)), (1, .int x1)] dX3_whyNot_31 rfl rfl (by decide) rfl ?_
        refine gw_lv [1, 2, 0] rfl ?_
        exact wk_X3_whyNot_L32 X hp
      · replace hp := gw_t z hp
        refine gw_bipush X 29 dX3_whyNot_27 rfl gw_cb_m6 ?_
        cases hp
        exact gw_iret X dX3_whyNot_29 (fun _ h => ⟨rfl, h⟩) (Nat.le_of_ble_eq_true rfl) (Nat.le_of_ble_eq_true rfl)
    · replace hp := gw_f z hp
      refine gw_bipush X 16 dX3_whyNot_14 rfl gw_cb_m2 ?_
      cases hp
      exact gw_iret X dX3_whyNot_16 (fun _ h => ⟨rfl, h⟩) (Nat.le_of_ble_eq_true rfl) (Nat.le_of_ble_eq_true rfl)
abbrev rm_X3_rowOf : Room := { frames := 0, cells := 0, slots := 0, locals := 0 }
def fx_X3_rowOf_L4 (σ : gw_S) (v1 : Int32) : Nat → Int32 → Int32 → Option (Int32)
  | 0, _, _ => none
  | n + 1, c2, c3 => gw_ck v1 4 ((if (σ.1 2 (Int32.toNatClampNeg v1)) ≤ c3 then some c2 else gw_ck (((60 : Int32) * v1) + c3) 240 (fx_X3_rowOf_L4 σ v1 n (c2 ||| ((1 : Int32) <<< ((Int64.toInt32 (σ.2 3 (Int32.toNatClampNeg (((60 : Int32) * v1) + c3)))) &&& 31))) (c3 + 1))))
def fx_X3_rowOf (σ : gw_S) (x1 : Int32) : Option (Int32) := fx_X3_rowOf_L4 σ x1 1000 (0 : Int32) (0 : Int32)
set_option maxHeartbeats 4000000 in
theorem wk_X3_rowOf_L4 {E : gw_E} {l : Launch} {D : gw_D} {a : Nat → Nat} {Wr : va_W → Prop} {σ : gw_S} {res : Int32} (X : gw_X E cX3_rowOf 4 RX3 (some .int) l D rm_X3_rowOf (some (gw_pI res (gw_st (wM D a σ) Wr)))) {v1 : Int32} : ∀ {n : Nat} {c2 : Int32} {c3 : Int32}, fx_X3_rowOf_L4 σ v1 n c2 c3 = some res → gw_W E 4 [(0, .ref (a 0)), (1, .int v1), (2, .int c2), (3, .int c3)] [] (gw_st (wM D a σ) Wr) 0 0 := by
  intro n
  induction n with
  | zero =>
    intro c2 c3 hp
    cases (show none = some res from hp)
  | succ n ih =>
    intro c2 c3 hp
    rw [fx_X3_rowOf_L4] at hp
    refine gw_iload_n X 5 3 dX3_rowOf_4 rfl rfl rfl ?_
    refine gw_aload_n X 6 0 dX3_rowOf_5 rfl rfl rfl ?_
    refine gM_g0_2 X 9 q1396 dX3_rowOf_6 rfl ?_
    refine gw_iload_n X 10 1 dX3_rowOf_9 rfl rfl rfl ?_
    obtain ⟨hc, hp⟩ := gw_ck_some hp
    refine gM_l2 X 11 (Int32.toNatClampNeg v1) hc rfl dX3_rowOf_10 rfl ?_
    refine gw_icmp_ge X 37 14 dX3_rowOf_11 rfl rfl (fun z => ?_) (fun z => ?_)
    · replace hp := gw_t z hp
      refine gw_iload_n X 38 2 dX3_rowOf_37 rfl rfl rfl ?_
      cases hp
      exact gw_iret X dX3_rowOf_38 (fun _ h => ⟨rfl, h⟩) (Nat.le_of_ble_eq_true rfl) (Nat.le_of_ble_eq_true rfl)
    · replace hp := gw_f z hp
      refine gw_iload_n X 15 2 dX3_rowOf_14 rfl rfl rfl ?_
      refine gw_iconst X 16 dX3_rowOf_15 rfl gw_ci_1 ?_
      refine gw_aload_n X 17 0 dX3_rowOf_16 rfl rfl rfl ?_
      refine gM_g0_3 X 20 q1397 dX3_rowOf_17 rfl ?_
      refine gw_bipush X 22 dX3_rowOf_20 rfl gw_cb_60 ?_
      refine gw_iload_n X 23 1 dX3_rowOf_22 rfl rfl rfl ?_
      refine gw_imul X 24 dX3_rowOf_23 rfl ?_
      refine gw_iload_n X 25 3 dX3_rowOf_24 rfl rfl rfl ?_
      refine gw_iadd X 26 dX3_rowOf_25 rfl ?_
      obtain ⟨hc, hp⟩ := gw_ck_some hp
      refine gM_l3 X 27 (Int32.toNatClampNeg (((60 : Int32) * v1) + c3)) hc rfl dX3_rowOf_26 rfl ?_
      refine gw_l2i X 28 dX3_rowOf_27 rfl ?_
      refine gw_ishl X 29 dX3_rowOf_28 rfl ?_
      refine gw_ior X 30 dX3_rowOf_29 rfl ?_
      refine gw_istore_n X 31 [(2, .int (c2 ||| ((1 : Int32) <<< ((Int64.toInt32 (σ.2 3 (Int32.toNatClampNeg (((60 : Int32) * v1) + c3)))) &&& 31)))), (0, .ref (a 0)), (1, .int v1), (3, .int c3)] dX3_rowOf_30 rfl rfl (by decide) rfl ?_
      refine gw_iinc X 34 3 [(3, .int (c3 + 1)), (2, .int (c2 ||| ((1 : Int32) <<< ((Int64.toInt32 (σ.2 3 (Int32.toNatClampNeg (((60 : Int32) * v1) + c3)))) &&& 31)))), (0, .ref (a 0)), (1, .int v1)] dX3_rowOf_31 rfl rfl gw_ci_1 (by decide) rfl ?_
      refine gw_goto X 4 dX3_rowOf_34 rfl ?_
      refine gw_lv [2, 3, 1, 0] rfl ?_
      exact ih hp
set_option maxHeartbeats 4000000 in
theorem mt_X3_rowOf {l : Launch} {D : gw_D} {a : Nat → Nat} {Wr : va_W → Prop} {σ : gw_S} {x1 : Int32} {res : Int32} (hp : fx_X3_rowOf σ x1 = some res) : gw_Ct D l yX3_rowOf cX3_rowOf 4 (some .int) rm_X3_rowOf [.ref (a 0), .int x1] (gw_st (wM D a σ) Wr) (gw_pI res (gw_st (wM D a σ) Wr)) := by
  refine gw_ct (own := RX3) [(0, .ref (a 0)), (1, .int x1)] (by decide) rfl (Nat.le_of_ble_eq_true rfl) rfl ?_
  intro E X
  unfold fx_X3_rowOf at hp
  refine gw_iconst X 1 dX3_rowOf_0 rfl gw_ci_0 ?_
  refine gw_istore_n X 2 [(2, .int 0), (0, .ref (a 0)), (1, .int x1)] dX3_rowOf_1 rfl rfl (by decide) rfl ?_
  refine gw_iconst X 3 dX3_rowOf_2 rfl gw_ci_0 ?_
  refine gw_istore_n X 4 [(3, .int 0), (2, .int 0), (0, .ref (a 0)), (1, .int x1)] dX3_rowOf_3 rfl rfl (by decide) rfl ?_
  refine gw_lv [2, 3, 1, 0] rfl ?_
  exact wk_X3_rowOf_L4 X hp
abbrev rm_X3_wishing : Room := { frames := 1, cells := 0, slots := 0, locals := 22 }
def fx_X3_wishing_L4 (σ : gw_S) (v1 : Int32) : Nat → Int32 → Int32 → Option (Int32)
  | 0, _, _ => none
  | n + 1, c2, c3 => (if (σ.1 7 1) ≤ c3 then some c2 else gw_b1 (fx_X3_of σ c3 (2 : Int32)) (fun r1 => (if (v1 &&& (r1 ^^^ (-1 : Int32))) = 0 then fx_X3_wishing_L4 σ v1 n (c2 ||| ((1 : Int32) <<< (c3 &&& 31))) (c3 + 1) else fx_X3_wishing_L4 σ v1 n (c2 ||| (0 : Int32)) (c3 + 1))))
def fx_X3_wishing (σ : gw_S) (x1 : Int32) : Option (Int32) := fx_X3_wishing_L4 σ x1 1000 (0 : Int32) (0 : Int32)
set_option maxHeartbeats 4000000 in
theorem wk_X3_wishing_L4 {E : gw_E} {l : Launch} {D : gw_D} {a : Nat → Nat} {Wr : va_W → Prop} {σ : gw_S} {res : Int32} (X : gw_X E cX3_wishing 4 RX3 (some .int) l D rm_X3_wishing (some (gw_pI res (gw_st (wM D a σ) Wr)))) {v1 : Int32} : ∀ {n : Nat} {c2 : Int32} {c3 : Int32}, fx_X3_wishing_L4 σ v1 n c2 c3 = some res → gw_W E 4 [(0, .ref (a 0)), (1, .int v1), (2, .int c2), (3, .int c3)] [] (gw_st (wM D a σ) Wr) 0 0 := by
  intro n
  induction n with
  | zero =>
    intro c2 c3 hp
    cases (show none = some res from hp)
  | succ n ih =>
    intro c2 c3 hp
    rw [fx_X3_wishing_L4] at hp
    refine gw_iload_n X 5 3 dX3_wishing_4 rfl rfl rfl ?_
    refine gw_aload_n X 6 0 dX3_wishing_5 rfl rfl rfl ?_
    refine gM_g0_17 X 9 q1411 dX3_wishing_6 rfl ?_
    refine gw_iconst X 10 dX3_wishing_9 rfl gw_ci_1 ?_
    refine gM_l7 X 11 1 (gw_in rfl) rfl dX3_wishing_10 rfl ?_
    refine gw_icmp_ge X 43 14 dX3_wishing_11 rfl rfl (fun z => ?_) (fun z => ?_)
    · replace hp := gw_t z hp
      refine gw_iload_n X 44 2 dX3_wishing_43 rfl rfl rfl ?_
      cases hp
      exact gw_iret X dX3_wishing_44 (fun _ h => ⟨rfl, h⟩) (Nat.le_of_ble_eq_true rfl) (Nat.le_of_ble_eq_true rfl)
    · replace hp := gw_f z hp
      refine gw_iload_n X 15 2 dX3_wishing_14 rfl rfl rfl ?_
      refine gw_iload_n X 16 1 dX3_wishing_15 rfl rfl rfl ?_
      refine gw_aload_n X 17 0 dX3_wishing_16 rfl rfl rfl ?_
      refine gw_iload_n X 18 3 dX3_wishing_17 rfl rfl rfl ?_
      refine gw_iconst X 19 dX3_wishing_18 rfl gw_ci_2 ?_
      obtain ⟨r1, h2, hp⟩ := gw_b1_some hp
      refine gw_callVi X 22 [.int c3, .int 2] (mt_X3_of h2) lk_X3_214 ydv_X3_of gM_cl0 gM_at0 rfl rfl rfl dX3_wishing_19 rfl rfl rfl ?_
      refine gw_iconst X 23 dX3_wishing_22 rfl gw_ci_m1 ?_
      refine gw_ixor X 24 dX3_wishing_23 rfl ?_
      refine gw_iand X 25 dX3_wishing_24 rfl ?_
      refine gw_if_ne X 34 28 dX3_wishing_25 rfl rfl (fun z => ?_) (fun z => ?_)
      · replace hp := gw_f z hp
        refine gw_iconst X 35 dX3_wishing_34 rfl gw_ci_0 ?_
        refine gw_ior X 36 dX3_wishing_35 rfl ?_
        refine gw_istore_n X 37 [(2, .int (c2 ||| (0 : Int32))), (0, .ref (a 0)), (1, .int v1), (3, .int c3)] dX3_wishing_36 rfl rfl (by decide) rfl ?_
        refine gw_iinc X 40 3 [(3, .int (c3 + 1)), (2, .int (c2 ||| (0 : Int32))), (0, .ref (a 0)), (1, .int v1)] dX3_wishing_37 rfl rfl gw_ci_1 (by decide) rfl ?_
        refine gw_goto X 4 dX3_wishing_40 rfl ?_
        refine gw_lv [2, 3, 1, 0] rfl ?_
        exact ih hp
      · replace hp := gw_t z hp
        refine gw_iconst X 29 dX3_wishing_28 rfl gw_ci_1 ?_
        refine gw_iload_n X 30 3 dX3_wishing_29 rfl rfl rfl ?_
        refine gw_ishl X 31 dX3_wishing_30 rfl ?_
        refine gw_goto X 35 dX3_wishing_31 rfl ?_
        refine gw_ior X 36 dX3_wishing_35 rfl ?_
        refine gw_istore_n X 37 [(2, .int (c2 ||| ((1 : Int32) <<< (c3 &&& 31)))), (0, .ref (a 0)), (1, .int v1), (3, .int c3)] dX3_wishing_36 rfl rfl (by decide) rfl ?_
        refine gw_iinc X 40 3 [(3, .int (c3 + 1)), (2, .int (c2 ||| ((1 : Int32) <<< (c3 &&& 31)))), (0, .ref (a 0)), (1, .int v1)] dX3_wishing_37 rfl rfl gw_ci_1 (by decide) rfl ?_
        refine gw_goto X 4 dX3_wishing_40 rfl ?_
        refine gw_lv [2, 3, 1, 0] rfl ?_
        exact ih hp
set_option maxHeartbeats 4000000 in
theorem mt_X3_wishing {l : Launch} {D : gw_D} {a : Nat → Nat} {Wr : va_W → Prop} {σ : gw_S} {x1 : Int32} {res : Int32} (hp : fx_X3_wishing σ x1 = some res) : gw_Ct D l yX3_wishing cX3_wishing 4 (some .int) rm_X3_wishing [.ref (a 0), .int x1] (gw_st (wM D a σ) Wr) (gw_pI res (gw_st (wM D a σ) Wr)) := by
  refine gw_ct (own := RX3) [(0, .ref (a 0)), (1, .int x1)] (by decide) rfl (Nat.le_of_ble_eq_true rfl) rfl ?_
  intro E X
  unfold fx_X3_wishing at hp
  refine gw_iconst X 1 dX3_wishing_0 rfl gw_ci_0 ?_
  refine gw_istore_n X 2 [(2, .int 0), (0, .ref (a 0)), (1, .int x1)] dX3_wishing_1 rfl rfl (by decide) rfl ?_
  refine gw_iconst X 3 dX3_wishing_2 rfl gw_ci_0 ?_
  refine gw_istore_n X 4 [(3, .int 0), (2, .int 0), (0, .ref (a 0)), (1, .int x1)] dX3_wishing_3 rfl rfl (by decide) rfl ?_
  refine gw_lv [2, 3, 1, 0] rfl ?_
  exact wk_X3_wishing_L4 X hp
abbrev rm_X3_suspects : Room := { frames := 3, cells := 0, slots := 0, locals := 68 }
def fx_X3_suspects (σ : gw_S) (x1 : Int32) : Option (Int32 × gw_S) := gw_let (gw_u σ 0 0 0) (fun σ1 => gw_b1 (fx_X3_whyNot σ1 x1) (fun r3 => (if r3 = 0 then gw_b1 (fx_X3_rowOf σ1 x1) (fun r5 => gw_b1 (fx_X3_wishing σ1 r5) (fun r7 => some (r7, σ1))) else some (r3, σ1))))
set_option maxHeartbeats 4000000 in
theorem mt_X3_suspects {l : Launch} {D : gw_D} {a : Nat → Nat} {Wr : va_W → Prop} {σ : gw_S} {x1 : Int32} {res : Int32 × gw_S} (hp : fx_X3_suspects σ x1 = some res) : gw_Ct D l yX3_suspects cX3_suspects 3 (some .int) rm_X3_suspects [.ref (a 0), .int x1] (gw_st (wM D a σ) Wr) (gw_pI res.1 (gw_st (wM D a res.2) Wr)) := by
  refine gw_ct (own := RX3) [(0, .ref (a 0)), (1, .int x1)] (by decide) rfl (Nat.le_of_ble_eq_true rfl) rfl ?_
  intro E X
  unfold fx_X3_suspects at hp
  refine gw_aload_n X 1 0 dX3_suspects_0 rfl rfl rfl ?_
  refine gw_iconst X 2 dX3_suspects_1 rfl gw_ci_0 ?_
  refine gM_p0_0 X 5 q1394 dX3_suspects_2 rfl ?_
  refine gw_aload_n X 6 0 dX3_suspects_5 rfl rfl rfl ?_
  refine gw_iload_n X 7 1 dX3_suspects_6 rfl rfl rfl ?_
  obtain ⟨σ1, h2, hp⟩ := gw_let_some hp
  rw [← h2]
  clear h2
  obtain ⟨r3, h4, hp⟩ := gw_b1_some hp
  refine gw_callVi X 10 [.int x1] (mt_X3_whyNot h4) lk_X3_334 ydv_X3_whyNot gM_cl0 gM_at0 rfl rfl rfl dX3_suspects_7 rfl rfl rfl ?_
  refine gw_istore_n X 11 [(2, .int r3), (0, .ref (a 0)), (1, .int x1)] dX3_suspects_10 rfl rfl (by decide) rfl ?_
  refine gw_iload_n X 12 0 dX3_suspects_11 rfl rfl rfl ?_
  refine gw_if_eq X 19 15 dX3_suspects_12 rfl rfl (fun z => ?_) (fun z => ?_)
  · replace hp := gw_t z hp
    refine gw_aload_n X 20 1 dX3_suspects_19 rfl rfl rfl ?_
    refine gw_aload_n X 21 1 dX3_suspects_20 rfl rfl rfl ?_
    refine gw_iload_n X 22 2 dX3_suspects_21 rfl rfl rfl ?_
    obtain ⟨r5, h6, hp⟩ := gw_b1_some hp
    refine gw_callVi X 25 [.int x1] (mt_X3_rowOf h6) lk_X3_337 ydv_X3_rowOf gM_cl0 gM_at0 rfl rfl rfl dX3_suspects_22 rfl rfl rfl ?_
    obtain ⟨r7, h8, hp⟩ := gw_b1_some hp
    refine gw_callVi X 28 [.int r5] (mt_X3_wishing h8) lk_X3_340 ydv_X3_wishing gM_cl0 gM_at0 rfl rfl rfl dX3_suspects_25 rfl rfl rfl ?_
    cases hp
    exact gw_iret X dX3_suspects_28 (fun _ h => ⟨rfl, h⟩) (Nat.le_of_ble_eq_true rfl) (Nat.le_of_ble_eq_true rfl)
  · replace hp := gw_f z hp
    refine gw_iload_n X 16 0 dX3_suspects_15 rfl rfl rfl ?_
    refine gw_goto X 28 dX3_suspects_16 rfl ?_
    cases hp
    exact gw_iret X dX3_suspects_28 (fun _ h => ⟨rfl, h⟩) (Nat.le_of_ble_eq_true rfl) (Nat.le_of_ble_eq_true rfl)
abbrev rm_X3_laysWatch : Room := { frames := 2, cells := 0, slots := 0, locals := 45 }
def fx_X3_laysWatch_L28 (v2 : Int32) (v3 : Int32) : Nat → Int32 → gw_S → Option (gw_S)
  | 0, _, _ => none
  | n + 1, c4, σ => (if (6 : Int32) ≤ c4 then some σ else gw_b1 (fx_X3_wishing σ (v2 ||| ((1 : Int32) <<< (c4 &&& 31)))) (fun r9 => gw_b1 (fx_X3_sizeOf r9) (fun r11 => gw_b1 (if r11 ≤ (v3 - r11) then some (v3 - r11) else some r11) (fun (y13 : Int32) => (if y13 < (σ.1 0 30) then gw_let (gw_u σ 0 29 c4) (fun σ14 => fx_X3_laysWatch_L28 v2 v3 n (c4 + 1) (gw_u σ14 0 30 y13)) else fx_X3_laysWatch_L28 v2 v3 n (c4 + 1) σ)))))
def fx_X3_laysWatch (σ : gw_S) (x1 : Int32) : Option (gw_S) := gw_b1 (fx_X3_rowOf σ x1) (fun r1 => gw_b1 (fx_X3_wishing σ r1) (fun r3 => gw_b1 (fx_X3_sizeOf r3) (fun r5 => gw_let (gw_u σ 0 29 (-1)) (fun σ7 => fx_X3_laysWatch_L28 r1 r5 1000 (0 : Int32) (gw_u σ7 0 30 r5)))))
set_option maxHeartbeats 4000000 in
theorem wk_X3_laysWatch_L28 {E : gw_E} {l : Launch} {D : gw_D} {a : Nat → Nat} {Wr : va_W → Prop} {res : gw_S} (X : gw_X E cX3_laysWatch 7 RX3 none l D rm_X3_laysWatch (some (gw_pV (gw_st (wM D a res) Wr)))) {v2 : Int32} {v3 : Int32} : ∀ {n : Nat} {c4 : Int32} {σ : gw_S}, fx_X3_laysWatch_L28 v2 v3 n c4 σ = some res → gw_W E 28 [(0, .ref (a 0)), (2, .int v2), (3, .int v3), (4, .int c4)] [] (gw_st (wM D a σ) Wr) 0 0 := by
  intro n
  induction n with
  | zero =>
    intro c4 σ hp
    cases (show none = some res from hp)
  | succ n ih =>
    intro c4 σ hp
    rw [fx_X3_laysWatch_L28] at hp
    refine gw_iload X 30 3 dX3_laysWatch_28 rfl rfl ?_
    refine gw_bipush X 32 dX3_laysWatch_30 rfl gw_cb_6 ?_
    refine gw_icmp_ge X 100 35 dX3_laysWatch_32 rfl rfl (fun z => ?_) (fun z => ?_)
    · replace hp := gw_t z hp
      cases hp
      exact gw_vret X dX3_laysWatch_100 (fun _ h => ⟨rfl, h⟩) (Nat.le_of_ble_eq_true rfl) (Nat.le_of_ble_eq_true rfl)
    · replace hp := gw_f z hp
      refine gw_aload_n X 36 0 dX3_laysWatch_35 rfl rfl rfl ?_
      refine gw_iload_n X 37 1 dX3_laysWatch_36 rfl rfl rfl ?_
      refine gw_iconst X 38 dX3_laysWatch_37 rfl gw_ci_1 ?_
      refine gw_iload X 40 3 dX3_laysWatch_38 rfl rfl ?_
      refine gw_ishl X 41 dX3_laysWatch_40 rfl ?_
      refine gw_ior X 42 dX3_laysWatch_41 rfl ?_
      obtain ⟨r9, h10, hp⟩ := gw_b1_some hp
      refine gw_callVi X 45 [.int (v2 ||| ((1 : Int32) <<< (c4 &&& 31)))] (mt_X3_wishing h10) lk_X3_340 ydv_X3_wishing gM_cl0 gM_at0 rfl rfl rfl dX3_laysWatch_42 rfl rfl rfl ?_
      obtain ⟨r11, h12, hp⟩ := gw_b1_some hp
      refine gw_callSi X 48 [.int r9] (mt_X3_sizeOf h12) lk_X3_297 yd_X3_sizeOf rfl rfl rfl dX3_laysWatch_45 rfl rfl rfl ?_
      refine gw_istore X 50 [(5, .int r11), (0, .ref (a 0)), (2, .int v2), (3, .int v3), (4, .int c4)] dX3_laysWatch_48 rfl (by decide) rfl ?_
      refine gw_iload X 52 0 dX3_laysWatch_50 rfl rfl ?_
      refine gw_iload_n X 53 3 dX3_laysWatch_52 rfl rfl rfl ?_
      refine gw_iload X 55 0 dX3_laysWatch_53 rfl rfl ?_
      refine gw_isub X 56 dX3_laysWatch_55 rfl ?_
      obtain ⟨y13, h16, hp⟩ := gw_b1_some hp
      have kJ : gw_W E 68 [(0, .ref (a 0)), (2, .int v2), (3, .int v3), (4, .int c4)] [.int y13] (gw_st (wM D a σ) Wr) 0 0 := by
        refine gw_istore X 70 [(6, .int y13), (0, .ref (a 0)), (2, .int v2), (3, .int v3), (4, .int c4)] dX3_laysWatch_68 rfl (by decide) rfl ?_
        refine gw_iload X 72 0 dX3_laysWatch_70 rfl rfl ?_
        refine gw_aload_n X 73 1 dX3_laysWatch_72 rfl rfl rfl ?_
        refine gM_g0_30 X 76 q1424 dX3_laysWatch_73 rfl ?_
        refine gw_icmp_lt X 82 79 dX3_laysWatch_76 rfl rfl (fun z => ?_) (fun z => ?_)
        · replace hp := gw_t z hp
          refine gw_aload_n X 83 1 dX3_laysWatch_82 rfl rfl rfl ?_
          refine gw_iload X 85 4 dX3_laysWatch_83 rfl rfl ?_
          refine gM_p0_29 X 88 q1423 dX3_laysWatch_85 rfl ?_
          refine gw_aload_n X 89 1 dX3_laysWatch_88 rfl rfl rfl ?_
          refine gw_iload X 91 0 dX3_laysWatch_89 rfl rfl ?_
          obtain ⟨σ14, h15, hp⟩ := gw_let_some hp
          rw [← h15]
          clear h15
          refine gM_p0_30 X 94 q1424 dX3_laysWatch_91 rfl ?_
          refine gw_iinc X 97 4 [(4, .int (c4 + 1)), (6, .int y13), (0, .ref (a 0)), (2, .int v2), (3, .int v3)] dX3_laysWatch_94 rfl rfl gw_ci_1 (by decide) rfl ?_
          refine gw_goto X 28 dX3_laysWatch_97 rfl ?_
          refine gw_lv [2, 3, 4, 0] rfl ?_
          exact ih hp
        · replace hp := gw_f z hp
          refine gw_goto X 94 dX3_laysWatch_79 rfl ?_
          refine gw_iinc X 97 4 [(4, .int (c4 + 1)), (6, .int y13), (0, .ref (a 0)), (2, .int v2), (3, .int v3)] dX3_laysWatch_94 rfl rfl gw_ci_1 (by decide) rfl ?_
          refine gw_goto X 28 dX3_laysWatch_97 rfl ?_
          refine gw_lv [2, 3, 4, 0] rfl ?_
          exact ih hp
      clear hp
      have hp := h16
      clear h16
      refine gw_icmp_le X 64 59 dX3_laysWatch_56 rfl rfl (fun z => ?_) (fun z => ?_)
      · replace hp := gw_t z hp
        refine gw_iload_n X 65 3 dX3_laysWatch_64 rfl rfl rfl ?_
        refine gw_iload X 67 0 dX3_laysWatch_65 rfl rfl ?_
        refine gw_isub X 68 dX3_laysWatch_67 rfl ?_
        cases hp
        exact gw_lv [1, 2, 3, 4] rfl kJ
      · replace hp := gw_f z hp
        refine gw_iload X 61 0 dX3_laysWatch_59 rfl rfl ?_
        refine gw_goto X 68 dX3_laysWatch_61 rfl ?_
        cases hp
        exact gw_lv [1, 2, 3, 4] rfl kJ
set_option maxHeartbeats 4000000 in
theorem mt_X3_laysWatch {l : Launch} {D : gw_D} {a : Nat → Nat} {Wr : va_W → Prop} {σ : gw_S} {x1 : Int32} {res : gw_S} (hp : fx_X3_laysWatch σ x1 = some res) : gw_Ct D l yX3_laysWatch cX3_laysWatch 7 none rm_X3_laysWatch [.ref (a 0), .int x1] (gw_st (wM D a σ) Wr) (gw_pV (gw_st (wM D a res) Wr)) := by
  refine gw_ct (own := RX3) [(0, .ref (a 0)), (1, .int x1)] (by decide) rfl (Nat.le_of_ble_eq_true rfl) rfl ?_
  intro E X
  unfold fx_X3_laysWatch at hp
  refine gw_aload_n X 1 0 dX3_laysWatch_0 rfl rfl rfl ?_
  refine gw_iload_n X 2 1 dX3_laysWatch_1 rfl rfl rfl ?_
  obtain ⟨r1, h2, hp⟩ := gw_b1_some hp
  refine gw_callVi X 5 [.int x1] (mt_X3_rowOf h2) lk_X3_337 ydv_X3_rowOf gM_cl0 gM_at0 rfl rfl rfl dX3_laysWatch_2 rfl rfl rfl ?_
  refine gw_istore_n X 6 [(2, .int r1), (0, .ref (a 0)), (1, .int x1)] dX3_laysWatch_5 rfl rfl (by decide) rfl ?_
  refine gw_aload_n X 7 1 dX3_laysWatch_6 rfl rfl rfl ?_
  refine gw_iload_n X 8 0 dX3_laysWatch_7 rfl rfl rfl ?_
  obtain ⟨r3, h4, hp⟩ := gw_b1_some hp
  refine gw_callVi X 11 [.int r1] (mt_X3_wishing h4) lk_X3_340 ydv_X3_wishing gM_cl0 gM_at0 rfl rfl rfl dX3_laysWatch_8 rfl rfl rfl ?_
  obtain ⟨r5, h6, hp⟩ := gw_b1_some hp
  refine gw_callSi X 14 [.int r3] (mt_X3_sizeOf h6) lk_X3_297 yd_X3_sizeOf rfl rfl rfl dX3_laysWatch_11 rfl rfl rfl ?_
  refine gw_istore_n X 15 [(3, .int r5), (2, .int r1), (0, .ref (a 0)), (1, .int x1)] dX3_laysWatch_14 rfl rfl (by decide) rfl ?_
  refine gw_aload_n X 16 2 dX3_laysWatch_15 rfl rfl rfl ?_
  refine gw_iconst X 17 dX3_laysWatch_16 rfl gw_ci_m1 ?_
  refine gM_p0_29 X 20 q1423 dX3_laysWatch_17 rfl ?_
  refine gw_aload_n X 21 2 dX3_laysWatch_20 rfl rfl rfl ?_
  refine gw_iload_n X 22 0 dX3_laysWatch_21 rfl rfl rfl ?_
  obtain ⟨σ7, h8, hp⟩ := gw_let_some hp
  rw [← h8]
  clear h8
  refine gM_p0_30 X 25 q1424 dX3_laysWatch_22 rfl ?_
  refine gw_iconst X 26 dX3_laysWatch_25 rfl gw_ci_0 ?_
  refine gw_istore X 28 [(4, .int 0), (3, .int r5), (2, .int r1), (0, .ref (a 0)), (1, .int x1)] dX3_laysWatch_26 rfl (by decide) rfl ?_
  refine gw_lv [3, 2, 1, 0] rfl ?_
  exact wk_X3_laysWatch_L28 X hp
abbrev rm_X3_watch : Room := { frames := 3, cells := 0, slots := 0, locals := 71 }
def fx_X3_watch (σ : gw_S) (x1 : Int32) : Option (Int32 × gw_S) := gw_let (gw_u σ 0 0 0) (fun σ1 => gw_b1 (fx_X3_whyNot σ1 x1) (fun r3 => (if r3 = 0 then gw_b1 (fx_X3_laysWatch σ1 x1) (fun σ5 => some (σ5.1 0 29, σ5)) else some (r3, σ1))))
set_option maxHeartbeats 4000000 in
theorem mt_X3_watch {l : Launch} {D : gw_D} {a : Nat → Nat} {Wr : va_W → Prop} {σ : gw_S} {x1 : Int32} {res : Int32 × gw_S} (hp : fx_X3_watch σ x1 = some res) : gw_Ct D l yX3_watch cX3_watch 3 (some .int) rm_X3_watch [.ref (a 0), .int x1] (gw_st (wM D a σ) Wr) (gw_pI res.1 (gw_st (wM D a res.2) Wr)) := by
  refine gw_ct (own := RX3) [(0, .ref (a 0)), (1, .int x1)] (by decide) rfl (Nat.le_of_ble_eq_true rfl) rfl ?_
  intro E X
  unfold fx_X3_watch at hp
  refine gw_aload_n X 1 0 dX3_watch_0 rfl rfl rfl ?_
  refine gw_iconst X 2 dX3_watch_1 rfl gw_ci_0 ?_
  refine gM_p0_0 X 5 q1394 dX3_watch_2 rfl ?_
  refine gw_aload_n X 6 0 dX3_watch_5 rfl rfl rfl ?_
  refine gw_iload_n X 7 1 dX3_watch_6 rfl rfl rfl ?_
  obtain ⟨σ1, h2, hp⟩ := gw_let_some hp
  rw [← h2]
  clear h2
  obtain ⟨r3, h4, hp⟩ := gw_b1_some hp
  refine gw_callVi X 10 [.int x1] (mt_X3_whyNot h4) lk_X3_334 ydv_X3_whyNot gM_cl0 gM_at0 rfl rfl rfl dX3_watch_7 rfl rfl rfl ?_
  refine gw_istore_n X 11 [(2, .int r3), (0, .ref (a 0)), (1, .int x1)] dX3_watch_10 rfl rfl (by decide) rfl ?_
  refine gw_iload_n X 12 0 dX3_watch_11 rfl rfl rfl ?_
  refine gw_if_eq X 17 15 dX3_watch_12 rfl rfl (fun z => ?_) (fun z => ?_)
  · replace hp := gw_t z hp
    refine gw_aload_n X 18 1 dX3_watch_17 rfl rfl rfl ?_
    refine gw_iload_n X 19 2 dX3_watch_18 rfl rfl rfl ?_
    obtain ⟨σ5, h6, hp⟩ := gw_b1_some hp
    refine gw_callVv X 22 [.int x1] (mt_X3_laysWatch h6) lk_X3_349 ydv_X3_laysWatch gM_cl0 gM_at0 rfl rfl rfl dX3_watch_19 rfl rfl rfl ?_
    refine gw_aload_n X 23 1 dX3_watch_22 rfl rfl rfl ?_
    refine gM_g0_29 X 26 q1423 dX3_watch_23 rfl ?_
    cases hp
    exact gw_iret X dX3_watch_26 (fun _ h => ⟨rfl, h⟩) (Nat.le_of_ble_eq_true rfl) (Nat.le_of_ble_eq_true rfl)
  · replace hp := gw_f z hp
    refine gw_iload_n X 16 0 dX3_watch_15 rfl rfl rfl ?_
    cases hp
    exact gw_iret X dX3_watch_16 (fun _ h => ⟨rfl, h⟩) (Nat.le_of_ble_eq_true rfl) (Nat.le_of_ble_eq_true rfl)
abbrev rm_X3_leaves : Room := { frames := 3, cells := 0, slots := 0, locals := 71 }
def fx_X3_leaves (σ : gw_S) (x1 : Int32) : Option (Int32 × gw_S) := gw_let (gw_u σ 0 0 0) (fun σ1 => gw_b1 (fx_X3_whyNot σ1 x1) (fun r3 => (if r3 = 0 then gw_b1 (fx_X3_laysWatch σ1 x1) (fun σ5 => some (σ5.1 0 30, σ5)) else some (r3, σ1))))
set_option maxHeartbeats 4000000 in
theorem mt_X3_leaves {l : Launch} {D : gw_D} {a : Nat → Nat} {Wr : va_W → Prop} {σ : gw_S} {x1 : Int32} {res : Int32 × gw_S} (hp : fx_X3_leaves σ x1 = some res) : gw_Ct D l yX3_leaves cX3_leaves 3 (some .int) rm_X3_leaves [.ref (a 0), .int x1] (gw_st (wM D a σ) Wr) (gw_pI res.1 (gw_st (wM D a res.2) Wr)) := by
  refine gw_ct (own := RX3) [(0, .ref (a 0)), (1, .int x1)] (by decide) rfl (Nat.le_of_ble_eq_true rfl) rfl ?_
  intro E X
  unfold fx_X3_leaves at hp
  refine gw_aload_n X 1 0 dX3_leaves_0 rfl rfl rfl ?_
  refine gw_iconst X 2 dX3_leaves_1 rfl gw_ci_0 ?_
  refine gM_p0_0 X 5 q1394 dX3_leaves_2 rfl ?_
  refine gw_aload_n X 6 0 dX3_leaves_5 rfl rfl rfl ?_
  refine gw_iload_n X 7 1 dX3_leaves_6 rfl rfl rfl ?_
  obtain ⟨σ1, h2, hp⟩ := gw_let_some hp
  rw [← h2]
  clear h2
  obtain ⟨r3, h4, hp⟩ := gw_b1_some hp
  refine gw_callVi X 10 [.int x1] (mt_X3_whyNot h4) lk_X3_334 ydv_X3_whyNot gM_cl0 gM_at0 rfl rfl rfl dX3_leaves_7 rfl rfl rfl ?_
  refine gw_istore_n X 11 [(2, .int r3), (0, .ref (a 0)), (1, .int x1)] dX3_leaves_10 rfl rfl (by decide) rfl ?_
  refine gw_iload_n X 12 0 dX3_leaves_11 rfl rfl rfl ?_
  refine gw_if_eq X 17 15 dX3_leaves_12 rfl rfl (fun z => ?_) (fun z => ?_)
  · replace hp := gw_t z hp
    refine gw_aload_n X 18 1 dX3_leaves_17 rfl rfl rfl ?_
    refine gw_iload_n X 19 2 dX3_leaves_18 rfl rfl rfl ?_
    obtain ⟨σ5, h6, hp⟩ := gw_b1_some hp
    refine gw_callVv X 22 [.int x1] (mt_X3_laysWatch h6) lk_X3_349 ydv_X3_laysWatch gM_cl0 gM_at0 rfl rfl rfl dX3_leaves_19 rfl rfl rfl ?_
    refine gw_aload_n X 23 1 dX3_leaves_22 rfl rfl rfl ?_
    refine gM_g0_30 X 26 q1424 dX3_leaves_23 rfl ?_
    cases hp
    exact gw_iret X dX3_leaves_26 (fun _ h => ⟨rfl, h⟩) (Nat.le_of_ble_eq_true rfl) (Nat.le_of_ble_eq_true rfl)
  · replace hp := gw_f z hp
    refine gw_iload_n X 16 0 dX3_leaves_15 rfl rfl rfl ?_
    cases hp
    exact gw_iret X dX3_leaves_16 (fun _ h => ⟨rfl, h⟩) (Nat.le_of_ble_eq_true rfl) (Nat.le_of_ble_eq_true rfl)
abbrev rm_X3_proof : Room := { frames := 3, cells := 0, slots := 0, locals := 68 }
def fx_X3_proof_L32 (σ : gw_S) (v3 : Int32) : Nat → Int32 → Int32 → Option (Int32 × gw_S)
  | 0, _, _ => none
  | n + 1, c4, c5 => (if (64 : Int32) ≤ c5 then some (c4, σ) else (if (c5 &&& (v3 ^^^ (-1 : Int32))) = 0 then gw_b1 (fx_X3_wishing σ c5) (fun r9 => gw_b1 (fx_X3_wishing σ v3) (fun r11 => (if r9 = r11 then gw_b1 (fx_X3_sizeOf c5) (fun r13 => (if c4 ≤ r13 then fx_X3_proof_L32 σ v3 n c4 (c5 + 1) else gw_b1 (fx_X3_sizeOf c5) (fun r15 => fx_X3_proof_L32 σ v3 n r15 (c5 + 1)))) else fx_X3_proof_L32 σ v3 n c4 (c5 + 1)))) else fx_X3_proof_L32 σ v3 n c4 (c5 + 1)))
def fx_X3_proof (σ : gw_S) (x1 : Int32) : Option (Int32 × gw_S) := gw_let (gw_u σ 0 0 0) (fun σ1 => gw_b1 (fx_X3_whyNot σ1 x1) (fun r3 => (if r3 = 0 then gw_b1 (fx_X3_rowOf σ1 x1) (fun r5 => gw_b1 (fx_X3_sizeOf r5) (fun r7 => fx_X3_proof_L32 σ1 r5 1000 r7 (0 : Int32))) else some (r3, σ1))))
set_option maxHeartbeats 4000000 in
theorem wk_X3_proof_L32 {E : gw_E} {l : Launch} {D : gw_D} {a : Nat → Nat} {Wr : va_W → Prop} {σ : gw_S} {res : Int32 × gw_S} (X : gw_X E cX3_proof 6 RX3 (some .int) l D rm_X3_proof (some (gw_pI res.1 (gw_st (wM D a res.2) Wr)))) {v3 : Int32} : ∀ {n : Nat} {c4 : Int32} {c5 : Int32}, fx_X3_proof_L32 σ v3 n c4 c5 = some res → gw_W E 32 [(0, .ref (a 0)), (3, .int v3), (4, .int c4), (5, .int c5)] [] (gw_st (wM D a σ) Wr) 0 0 := by
  intro n
  induction n with
  | zero =>
    intro c4 c5 hp
    cases (show none = some res from hp)
  | succ n ih =>
    intro c4 c5 hp
    rw [fx_X3_proof_L32] at hp
    refine gw_iload X 34 3 dX3_proof_32 rfl rfl ?_
    refine gw_bipush X 36 dX3_proof_34 rfl gw_cb_64 ?_
    refine gw_icmp_ge X 85 39 dX3_proof_36 rfl rfl (fun z => ?_) (fun z => ?_)
    · replace hp := gw_t z hp
      refine gw_iload X 87 2 dX3_proof_85 rfl rfl ?_
      cases hp
      exact gw_iret X dX3_proof_87 (fun _ h => ⟨rfl, h⟩) (Nat.le_of_ble_eq_true rfl) (Nat.le_of_ble_eq_true rfl)
    · replace hp := gw_f z hp
      refine gw_iload X 41 3 dX3_proof_39 rfl rfl ?_
      refine gw_iload_n X 42 1 dX3_proof_41 rfl rfl rfl ?_
      refine gw_iconst X 43 dX3_proof_42 rfl gw_ci_m1 ?_
      refine gw_ixor X 44 dX3_proof_43 rfl ?_
      refine gw_iand X 45 dX3_proof_44 rfl ?_
      refine gw_if_ne X 79 48 dX3_proof_45 rfl rfl (fun z => ?_) (fun z => ?_)
      · replace hp := gw_f z hp
        refine gw_iinc X 82 3 [(5, .int (c5 + 1)), (0, .ref (a 0)), (3, .int v3), (4, .int c4)] dX3_proof_79 rfl rfl gw_ci_1 (by decide) rfl ?_
        refine gw_goto X 32 dX3_proof_82 rfl ?_
        refine gw_lv [1, 2, 3, 0] rfl ?_
        exact ih hp
      · replace hp := gw_t z hp
        refine gw_aload_n X 49 0 dX3_proof_48 rfl rfl rfl ?_
        refine gw_iload X 51 3 dX3_proof_49 rfl rfl ?_
        obtain ⟨r9, h10, hp⟩ := gw_b1_some hp
        refine gw_callVi X 54 [.int c5] (mt_X3_wishing h10) lk_X3_340 ydv_X3_wishing gM_cl0 gM_at0 rfl rfl rfl dX3_proof_51 rfl rfl rfl ?_
        refine gw_aload_n X 55 0 dX3_proof_54 rfl rfl rfl ?_
        refine gw_iload_n X 56 1 dX3_proof_55 rfl rfl rfl ?_
        obtain ⟨r11, h12, hp⟩ := gw_b1_some hp
        refine gw_callVi X 59 [.int v3] (mt_X3_wishing h12) lk_X3_340 ydv_X3_wishing gM_cl0 gM_at0 rfl rfl rfl dX3_proof_56 rfl rfl rfl ?_
        refine gw_icmp_ne X 79 62 dX3_proof_59 rfl rfl (fun z => ?_) (fun z => ?_)
        · replace hp := gw_f z hp
          refine gw_iinc X 82 3 [(5, .int (c5 + 1)), (0, .ref (a 0)), (3, .int v3), (4, .int c4)] dX3_proof_79 rfl rfl gw_ci_1 (by decide) rfl ?_
          refine gw_goto X 32 dX3_proof_82 rfl ?_
          refine gw_lv [1, 2, 3, 0] rfl ?_
          exact ih hp
        · replace hp := gw_t z hp
          refine gw_iload X 64 3 dX3_proof_62 rfl rfl ?_
          obtain ⟨r13, h14, hp⟩ := gw_b1_some hp
          refine gw_callSi X 67 [.int c5] (mt_X3_sizeOf h14) lk_X3_297 yd_X3_sizeOf rfl rfl rfl dX3_proof_64 rfl rfl rfl ?_
          refine gw_iload X 69 2 dX3_proof_67 rfl rfl ?_
          refine gw_icmp_ge X 79 72 dX3_proof_69 rfl rfl (fun z => ?_) (fun z => ?_)
          · replace hp := gw_t z hp
            refine gw_iinc X 82 3 [(5, .int (c5 + 1)), (0, .ref (a 0)), (3, .int v3), (4, .int c4)] dX3_proof_79 rfl rfl gw_ci_1 (by decide) rfl ?_
            refine gw_goto X 32 dX3_proof_82 rfl ?_
            refine gw_lv [1, 2, 3, 0] rfl ?_
            exact ih hp
          · replace hp := gw_f z hp
            refine gw_iload X 74 3 dX3_proof_72 rfl rfl ?_
            obtain ⟨r15, h16, hp⟩ := gw_b1_some hp
            refine gw_callSi X 77 [.int c5] (mt_X3_sizeOf h16) lk_X3_297 yd_X3_sizeOf rfl rfl rfl dX3_proof_74 rfl rfl rfl ?_
            refine gw_istore X 79 [(4, .int r15), (0, .ref (a 0)), (3, .int v3), (5, .int c5)] dX3_proof_77 rfl (by decide) rfl ?_
            refine gw_iinc X 82 3 [(5, .int (c5 + 1)), (4, .int r15), (0, .ref (a 0)), (3, .int v3)] dX3_proof_79 rfl rfl gw_ci_1 (by decide) rfl ?_
            refine gw_goto X 32 dX3_proof_82 rfl ?_
            refine gw_lv [2, 3, 1, 0] rfl ?_
            exact ih hp
set_option maxHeartbeats 4000000 in
theorem mt_X3_proof {l : Launch} {D : gw_D} {a : Nat → Nat} {Wr : va_W → Prop} {σ : gw_S} {x1 : Int32} {res : Int32 × gw_S} (hp : fx_X3_proof σ x1 = some res) : gw_Ct D l yX3_proof cX3_proof 6 (some .int) rm_X3_proof [.ref (a 0), .int x1] (gw_st (wM D a σ) Wr) (gw_pI res.1 (gw_st (wM D a res.2) Wr)) := by
  refine gw_ct (own := RX3) [(0, .ref (a 0)), (1, .int x1)] (by decide) rfl (Nat.le_of_ble_eq_true rfl) rfl ?_
  intro E X
  unfold fx_X3_proof at hp
  refine gw_aload_n X 1 0 dX3_proof_0 rfl rfl rfl ?_
  refine gw_iconst X 2 dX3_proof_1 rfl gw_ci_0 ?_
  refine gM_p0_0 X 5 q1394 dX3_proof_2 rfl ?_
  refine gw_aload_n X 6 0 dX3_proof_5 rfl rfl rfl ?_
  refine gw_iload_n X 7 1 dX3_proof_6 rfl rfl rfl ?_
  obtain ⟨σ1, h2, hp⟩ := gw_let_some hp
  rw [← h2]
  clear h2
  obtain ⟨r3, h4, hp⟩ := gw_b1_some hp
  refine gw_callVi X 10 [.int x1] (mt_X3_whyNot h4) lk_X3_334 ydv_X3_whyNot gM_cl0 gM_at0 rfl rfl rfl dX3_proof_7 rfl rfl rfl ?_
  refine gw_istore_n X 11 [(2, .int r3), (0, .ref (a 0)), (1, .int x1)] dX3_proof_10 rfl rfl (by decide) rfl ?_
  refine gw_iload_n X 12 0 dX3_proof_11 rfl rfl rfl ?_
  refine gw_if_eq X 17 15 dX3_proof_12 rfl rfl (fun z => ?_) (fun z => ?_)
  · replace hp := gw_t z hp
    refine gw_aload_n X 18 1 dX3_proof_17 rfl rfl rfl ?_
    refine gw_iload_n X 19 2 dX3_proof_18 rfl rfl rfl ?_
    obtain ⟨r5, h6, hp⟩ := gw_b1_some hp
    refine gw_callVi X 22 [.int x1] (mt_X3_rowOf h6) lk_X3_337 ydv_X3_rowOf gM_cl0 gM_at0 rfl rfl rfl dX3_proof_19 rfl rfl rfl ?_
    refine gw_istore_n X 23 [(3, .int r5), (2, .int r3), (0, .ref (a 0)), (1, .int x1)] dX3_proof_22 rfl rfl (by decide) rfl ?_
    refine gw_iload_n X 24 0 dX3_proof_23 rfl rfl rfl ?_
    obtain ⟨r7, h8, hp⟩ := gw_b1_some hp
    refine gw_callSi X 27 [.int r5] (mt_X3_sizeOf h8) lk_X3_297 yd_X3_sizeOf rfl rfl rfl dX3_proof_24 rfl rfl rfl ?_
    refine gw_istore X 29 [(4, .int r7), (3, .int r5), (2, .int r3), (0, .ref (a 0)), (1, .int x1)] dX3_proof_27 rfl (by decide) rfl ?_
    refine gw_iconst X 30 dX3_proof_29 rfl gw_ci_0 ?_
    refine gw_istore X 32 [(5, .int 0), (4, .int r7), (3, .int r5), (2, .int r3), (0, .ref (a 0)), (1, .int x1)] dX3_proof_30 rfl (by decide) rfl ?_
    refine gw_lv [4, 2, 1, 0] rfl ?_
    exact wk_X3_proof_L32 X hp
  · replace hp := gw_f z hp
    refine gw_iload_n X 16 0 dX3_proof_15 rfl rfl rfl ?_
    cases hp
    exact gw_iret X dX3_proof_16 (fun _ h => ⟨rfl, h⟩) (Nat.le_of_ble_eq_true rfl) (Nat.le_of_ble_eq_true rfl)
abbrev rm_X3_isDuel : Room := { frames := 5, cells := 0, slots := 0, locals := 111 }
def fx_X3_isDuel (σ : gw_S) (x1 : Int32) (x2 : Int32) : Option (Bool × gw_S) := (if fx_X3_arePeople σ x1 x2 = true then (if x1 = x2 then some (false, σ) else gw_b1 (fx_X3_laysNow σ) (fun σ1 => gw_b1 (fx_X3_handOf σ1 x1) (fun r3 => (if r3 = 0 then some (false, σ1) else gw_b1 (fx_X3_handOf σ1 x2) (fun r5 => (if r5 = 0 then some (false, σ1) else some (true, σ1))))))) else some (false, σ))
set_option maxHeartbeats 4000000 in
theorem mt_X3_isDuel {l : Launch} {D : gw_D} {a : Nat → Nat} {Wr : va_W → Prop} {σ : gw_S} {x1 : Int32} {x2 : Int32} {res : Bool × gw_S} (hp : fx_X3_isDuel σ x1 x2 = some res) : gw_Ct D l yX3_isDuel cX3_isDuel 3 (some .boolean) rm_X3_isDuel [.ref (a 0), .int x1, .int x2] (gw_st (wM D a σ) Wr) (gw_pI (gw_b res.1) (gw_st (wM D a res.2) Wr)) := by
  refine gw_ct (own := RX3) [(0, .ref (a 0)), (1, .int x1), (2, .int x2)] (by decide) rfl (Nat.le_of_ble_eq_true rfl) rfl ?_
  intro E X
  unfold fx_X3_isDuel at hp
  refine gw_aload_n X 1 0 dX3_isDuel_0 rfl rfl rfl ?_
  refine gw_iload_n X 2 1 dX3_isDuel_1 rfl rfl rfl ?_
  refine gw_iload_n X 3 2 dX3_isDuel_2 rfl rfl rfl ?_
  refine gw_callVi X 6 [.int x1, .int x2] (mt_X3_arePeople rfl) lk_X3_266 ydv_X3_arePeople gM_cl0 gM_at0 rfl rfl rfl dX3_isDuel_3 rfl rfl rfl ?_
  refine gw_if_eqB X 14 9 dX3_isDuel_6 rfl rfl (fun z => ?_) (fun z => ?_)
  · replace hp := gw_f z hp
    refine gw_iconst X 15 dX3_isDuel_14 rfl gw_ci_0 ?_
    cases hp
    exact gw_zret0 X dX3_isDuel_15 (fun _ h => ⟨rfl, h⟩) (Nat.le_of_ble_eq_true rfl) (Nat.le_of_ble_eq_true rfl)
  · replace hp := gw_t z hp
    refine gw_iload_n X 10 1 dX3_isDuel_9 rfl rfl rfl ?_
    refine gw_iload_n X 11 2 dX3_isDuel_10 rfl rfl rfl ?_
    refine gw_icmp_ne X 16 14 dX3_isDuel_11 rfl rfl (fun z => ?_) (fun z => ?_)
    · replace hp := gw_f z hp
      refine gw_aload_n X 17 0 dX3_isDuel_16 rfl rfl rfl ?_
      obtain ⟨σ1, h2, hp⟩ := gw_b1_some hp
      refine gw_callVv X 20 [] (mt_X3_laysNow h2) lk_X3_251 ydv_X3_laysNow gM_cl0 gM_at0 rfl rfl rfl dX3_isDuel_17 rfl rfl rfl ?_
      refine gw_aload_n X 21 0 dX3_isDuel_20 rfl rfl rfl ?_
      refine gw_iload_n X 22 1 dX3_isDuel_21 rfl rfl rfl ?_
      obtain ⟨r3, h4, hp⟩ := gw_b1_some hp
      refine gw_callVi X 25 [.int x1] (mt_X3_handOf h4) lk_X3_254 ydv_X3_handOf gM_cl0 gM_at0 rfl rfl rfl dX3_isDuel_22 rfl rfl rfl ?_
      refine gw_if_eq X 40 28 dX3_isDuel_25 rfl rfl (fun z => ?_) (fun z => ?_)
      · replace hp := gw_t z hp
        refine gw_iconst X 41 dX3_isDuel_40 rfl gw_ci_0 ?_
        cases hp
        exact gw_zret0 X dX3_isDuel_41 (fun _ h => ⟨rfl, h⟩) (Nat.le_of_ble_eq_true rfl) (Nat.le_of_ble_eq_true rfl)
      · replace hp := gw_f z hp
        refine gw_aload_n X 29 0 dX3_isDuel_28 rfl rfl rfl ?_
        refine gw_iload_n X 30 2 dX3_isDuel_29 rfl rfl rfl ?_
        obtain ⟨r5, h6, hp⟩ := gw_b1_some hp
        refine gw_callVi X 33 [.int x2] (mt_X3_handOf h6) lk_X3_254 ydv_X3_handOf gM_cl0 gM_at0 rfl rfl rfl dX3_isDuel_30 rfl rfl rfl ?_
        refine gw_if_eq X 40 36 dX3_isDuel_33 rfl rfl (fun z => ?_) (fun z => ?_)
        · replace hp := gw_t z hp
          refine gw_iconst X 41 dX3_isDuel_40 rfl gw_ci_0 ?_
          cases hp
          exact gw_zret0 X dX3_isDuel_41 (fun _ h => ⟨rfl, h⟩) (Nat.le_of_ble_eq_true rfl) (Nat.le_of_ble_eq_true rfl)
        · replace hp := gw_f z hp
          refine gw_iconst X 37 dX3_isDuel_36 rfl gw_ci_1 ?_
          refine gw_goto X 41 dX3_isDuel_37 rfl ?_
          cases hp
          exact gw_zret1 X dX3_isDuel_41 (fun _ h => ⟨rfl, h⟩) (Nat.le_of_ble_eq_true rfl) (Nat.le_of_ble_eq_true rfl)
    · replace hp := gw_t z hp
      refine gw_iconst X 15 dX3_isDuel_14 rfl gw_ci_0 ?_
      cases hp
      exact gw_zret0 X dX3_isDuel_15 (fun _ h => ⟨rfl, h⟩) (Nat.le_of_ble_eq_true rfl) (Nat.le_of_ble_eq_true rfl)
abbrev rm_X3_duel : Room := { frames := 1001, cells := 0, slots := 0, locals := 40021 }
def fx_X3_duel_L66 {τ : Type} (k : Int32 → Option (τ)) (σ : gw_S) (v1 : Int32) (v2 : Int32) (v3 : Int32) (v5 : Int32) (v6 : Int32) : Nat → Int32 → Int32 → Option (τ)
  | 0, _, _ => none
  | n + 1, c4, c7 => (if (σ.1 7 1) ≤ c7 then k c4 else gw_ck v6 8 ((if (σ.1 11 (Int32.toNatClampNeg v6)) = v1 then gw_ck c7 8 ((if (σ.1 11 (Int32.toNatClampNeg c7)) = v2 then gw_b1 (fx_X3_of σ v6 (0 : Int32)) (fun r14 => gw_b1 (fx_X3_of σ c7 (0 : Int32)) (fun r16 => (if r14 ≤ r16 then fx_X3_duel_L66 k σ v1 v2 v3 v5 v6 n c4 (c7 + 1) else fx_X3_duel_L66 k σ v1 v2 v3 v5 v6 n (c4 + 1) (c7 + 1)))) else fx_X3_duel_L66 k σ v1 v2 v3 v5 v6 n c4 (c7 + 1))) else fx_X3_duel_L66 k σ v1 v2 v3 v5 v6 n c4 (c7 + 1))))
def fx_X3_duel_L52 {τ : Type} (k : Int32 → Option (τ)) (σ : gw_S) (v1 : Int32) (v2 : Int32) (v3 : Int32) (v5 : Int32) : Nat → Int32 → Int32 → Option (τ)
  | 0, _, _ => none
  | n + 1, c4, c6 => (if (σ.1 7 1) ≤ c6 then k c4 else fx_X3_duel_L66 (fun (e18 : Int32) => fx_X3_duel_L52 k σ v1 v2 v3 v5 n e18 (c6 + 1)) σ v1 v2 v3 v5 c6 1000 c4 (0 : Int32))
def fx_X3_duel (σ : gw_S) (x1 : Int32) (x2 : Int32) (x3 : Int32) : Option (Int32 × gw_S) := gw_let (gw_u σ 0 0 0) (fun σ1 => gw_b2 (fx_X3_isDuel σ1 x1 x2) (fun r3 σ4 => (if r3 = true then (if fx_X3_in (Int32.toInt64 x3) (0 : Int64) (1 : Int64) = true then gw_b1 (fx_X3_handOf σ4 x1) (fun r6 => gw_b1 (fx_X3_sizeOf r6) (fun r8 => gw_b1 (fx_X3_handOf σ4 x2) (fun r10 => gw_b1 (fx_X3_sizeOf r10) (fun r12 => fx_X3_duel_L52 (fun (e19 : Int32) => gw_b1 (if x3 = 0 then some e19 else some (r8 * r12)) (fun (y20 : Int32) => gw_b1 (fx_X3_common e19 (r8 * r12)) (fun r21 => gw_cz r21 (some (y20 / r21, σ4))))) σ4 x1 x2 x3 (r8 * r12) 1000 (0 : Int32) (0 : Int32))))) else some ((-2), σ4)) else some ((-2), σ4))))
set_option maxHeartbeats 4000000 in
theorem wk_X3_duel_L66 {E : gw_E} {l : Launch} {D : gw_D} {a : Nat → Nat} {Wr : va_W → Prop} {σ : gw_S} {τ : Type} {res : τ} {post : Option (Option Value → va_W → Prop)} (X : gw_X E cX3_duel 8 RX3 (some .int) l D rm_X3_duel post) {k : Int32 → Option (τ)} {v1 : Int32} {v2 : Int32} {v3 : Int32} {v5 : Int32} {v6 : Int32} : ∀ {n : Nat} {c4 : Int32} {c7 : Int32}, fx_X3_duel_L66 k σ v1 v2 v3 v5 v6 n c4 c7 = some res → (∀ (c4 : Int32), k c4 = some res → gw_W E 125 [(0, .ref (a 0)), (1, .int v1), (2, .int v2), (3, .int v3), (4, .int c4), (5, .int v5), (6, .int v6)] [] (gw_st (wM D a σ) Wr) 0 0) → gw_W E 66 [(0, .ref (a 0)), (1, .int v1), (2, .int v2), (3, .int v3), (4, .int c4), (5, .int v5), (6, .int v6), (7, .int c7)] [] (gw_st (wM D a σ) Wr) 0 0 := by
  intro n
  induction n with
  | zero =>
    intro c4 c7 hp hk
    cases (show none = some res from hp)
  | succ n ih =>
    intro c4 c7 hp hk
    rw [fx_X3_duel_L66] at hp
    refine gw_iload X 68 7 dX3_duel_66 rfl rfl ?_
    refine gw_aload_n X 69 0 dX3_duel_68 rfl rfl rfl ?_
    refine gM_g0_17 X 72 q1411 dX3_duel_69 rfl ?_
    refine gw_iconst X 73 dX3_duel_72 rfl gw_ci_1 ?_
    refine gM_l7 X 74 1 (gw_in rfl) rfl dX3_duel_73 rfl ?_
    refine gw_icmp_ge X 125 77 dX3_duel_74 rfl rfl (fun z => ?_) (fun z => ?_)
    · replace hp := gw_t z hp
      refine gw_lv [0, 1, 2, 3, 4, 5, 6] rfl ?_
      exact hk _ hp
    · replace hp := gw_f z hp
      refine gw_aload_n X 78 0 dX3_duel_77 rfl rfl rfl ?_
      refine gM_g0_21 X 81 q1415 dX3_duel_78 rfl ?_
      refine gw_iload X 83 6 dX3_duel_81 rfl rfl ?_
      obtain ⟨hc, hp⟩ := gw_ck_some hp
      refine gM_l11 X 84 (Int32.toNatClampNeg v6) hc rfl dX3_duel_83 rfl ?_
      refine gw_iload_n X 85 1 dX3_duel_84 rfl rfl rfl ?_
      refine gw_icmp_ne X 119 88 dX3_duel_85 rfl rfl (fun z => ?_) (fun z => ?_)
      · replace hp := gw_f z hp
        refine gw_iinc X 122 7 [(7, .int (c7 + 1)), (0, .ref (a 0)), (1, .int v1), (2, .int v2), (3, .int v3), (4, .int c4), (5, .int v5), (6, .int v6)] dX3_duel_119 rfl rfl gw_ci_1 (by decide) rfl ?_
        refine gw_goto X 66 dX3_duel_122 rfl ?_
        refine gw_lv [1, 2, 3, 4, 5, 6, 7, 0] rfl ?_
        exact ih hp hk
      · replace hp := gw_t z hp
        refine gw_aload_n X 89 0 dX3_duel_88 rfl rfl rfl ?_
        refine gM_g0_21 X 92 q1415 dX3_duel_89 rfl ?_
        refine gw_iload X 94 7 dX3_duel_92 rfl rfl ?_
        obtain ⟨hc, hp⟩ := gw_ck_some hp
        refine gM_l11 X 95 (Int32.toNatClampNeg c7) hc rfl dX3_duel_94 rfl ?_
        refine gw_iload_n X 96 2 dX3_duel_95 rfl rfl rfl ?_
        refine gw_icmp_ne X 119 99 dX3_duel_96 rfl rfl (fun z => ?_) (fun z => ?_)
        · replace hp := gw_f z hp
          refine gw_iinc X 122 7 [(7, .int (c7 + 1)), (0, .ref (a 0)), (1, .int v1), (2, .int v2), (3, .int v3), (4, .int c4), (5, .int v5), (6, .int v6)] dX3_duel_119 rfl rfl gw_ci_1 (by decide) rfl ?_
          refine gw_goto X 66 dX3_duel_122 rfl ?_
          refine gw_lv [1, 2, 3, 4, 5, 6, 7, 0] rfl ?_
          exact ih hp hk
        · replace hp := gw_t z hp
          refine gw_aload_n X 100 0 dX3_duel_99 rfl rfl rfl ?_
          refine gw_iload X 102 6 dX3_duel_100 rfl rfl ?_
          refine gw_iconst X 103 dX3_duel_102 rfl gw_ci_0 ?_
          obtain ⟨r14, h15, hp⟩ := gw_b1_some hp
          refine gw_callVi X 106 [.int v6, .int 0] (mt_X3_of h15) lk_X3_214 ydv_X3_of gM_cl0 gM_at0 rfl rfl rfl dX3_duel_103 rfl rfl rfl ?_
          refine gw_aload_n X 107 0 dX3_duel_106 rfl rfl rfl ?_
          refine gw_iload X 109 7 dX3_duel_107 rfl rfl ?_
          refine gw_iconst X 110 dX3_duel_109 rfl gw_ci_0 ?_
          obtain ⟨r16, h17, hp⟩ := gw_b1_some hp
          refine gw_callVi X 113 [.int c7, .int 0] (mt_X3_of h17) lk_X3_214 ydv_X3_of gM_cl0 gM_at0 rfl rfl rfl dX3_duel_110 rfl rfl rfl ?_
          refine gw_icmp_le X 119 116 dX3_duel_113 rfl rfl (fun z => ?_) (fun z => ?_)
          · replace hp := gw_t z hp
            refine gw_iinc X 122 7 [(7, .int (c7 + 1)), (0, .ref (a 0)), (1, .int v1), (2, .int v2), (3, .int v3), (4, .int c4), (5, .int v5), (6, .int v6)] dX3_duel_119 rfl rfl gw_ci_1 (by decide) rfl ?_
            refine gw_goto X 66 dX3_duel_122 rfl ?_
            refine gw_lv [1, 2, 3, 4, 5, 6, 7, 0] rfl ?_
            exact ih hp hk
          · replace hp := gw_f z hp
            refine gw_iinc X 119 4 [(4, .int (c4 + 1)), (0, .ref (a 0)), (1, .int v1), (2, .int v2), (3, .int v3), (5, .int v5), (6, .int v6), (7, .int c7)] dX3_duel_116 rfl rfl gw_ci_1 (by decide) rfl ?_
            refine gw_iinc X 122 7 [(7, .int (c7 + 1)), (4, .int (c4 + 1)), (0, .ref (a 0)), (1, .int v1), (2, .int v2), (3, .int v3), (5, .int v5), (6, .int v6)] dX3_duel_119 rfl rfl gw_ci_1 (by decide) rfl ?_
            refine gw_goto X 66 dX3_duel_122 rfl ?_
            refine gw_lv [2, 3, 4, 5, 1, 6, 7, 0] rfl ?_
            exact ih hp hk
set_option maxHeartbeats 4000000 in
theorem wk_X3_duel_L52 {E : gw_E} {l : Launch} {D : gw_D} {a : Nat → Nat} {Wr : va_W → Prop} {σ : gw_S} {τ : Type} {res : τ} {post : Option (Option Value → va_W → Prop)} (X : gw_X E cX3_duel 8 RX3 (some .int) l D rm_X3_duel post) {k : Int32 → Option (τ)} {v1 : Int32} {v2 : Int32} {v3 : Int32} {v5 : Int32} : ∀ {n : Nat} {c4 : Int32} {c6 : Int32}, fx_X3_duel_L52 k σ v1 v2 v3 v5 n c4 c6 = some res → (∀ (c4 : Int32), k c4 = some res → gw_W E 131 [(3, .int v3), (4, .int c4), (5, .int v5)] [] (gw_st (wM D a σ) Wr) 0 0) → gw_W E 52 [(0, .ref (a 0)), (1, .int v1), (2, .int v2), (3, .int v3), (4, .int c4), (5, .int v5), (6, .int c6)] [] (gw_st (wM D a σ) Wr) 0 0 := by
  intro n
  induction n with
  | zero =>
    intro c4 c6 hp hk
    cases (show none = some res from hp)
  | succ n ih =>
    intro c4 c6 hp hk
    rw [fx_X3_duel_L52] at hp
    refine gw_iload X 54 6 dX3_duel_52 rfl rfl ?_
    refine gw_aload_n X 55 0 dX3_duel_54 rfl rfl rfl ?_
    refine gM_g0_17 X 58 q1411 dX3_duel_55 rfl ?_
    refine gw_iconst X 59 dX3_duel_58 rfl gw_ci_1 ?_
    refine gM_l7 X 60 1 (gw_in rfl) rfl dX3_duel_59 rfl ?_
    refine gw_icmp_ge X 131 63 dX3_duel_60 rfl rfl (fun z => ?_) (fun z => ?_)
    · replace hp := gw_t z hp
      refine gw_lv [3, 4, 5] rfl ?_
      exact hk _ hp
    · replace hp := gw_f z hp
      refine gw_iconst X 64 dX3_duel_63 rfl gw_ci_0 ?_
      refine gw_istore X 66 [(7, .int 0), (0, .ref (a 0)), (1, .int v1), (2, .int v2), (3, .int v3), (4, .int c4), (5, .int v5), (6, .int c6)] dX3_duel_64 rfl (by decide) rfl ?_
      refine gw_lv [1, 2, 3, 4, 5, 6, 7, 0] rfl ?_
      refine wk_X3_duel_L66 X hp ?_
      clear hp
      intro e18 hp
      refine gw_iinc X 128 6 [(6, .int (c6 + 1)), (0, .ref (a 0)), (1, .int v1), (2, .int v2), (3, .int v3), (4, .int e18), (5, .int v5)] dX3_duel_125 rfl rfl gw_ci_1 (by decide) rfl ?_
      refine gw_goto X 52 dX3_duel_128 rfl ?_
      refine gw_lv [1, 2, 3, 4, 5, 6, 0] rfl ?_
      exact ih hp hk
set_option maxHeartbeats 4000000 in
theorem mt_X3_duel {l : Launch} {D : gw_D} {a : Nat → Nat} {Wr : va_W → Prop} {σ : gw_S} {x1 : Int32} {x2 : Int32} {x3 : Int32} {res : Int32 × gw_S} (hp : fx_X3_duel σ x1 x2 x3 = some res) : gw_Ct D l yX3_duel cX3_duel 8 (some .int) rm_X3_duel [.ref (a 0), .int x1, .int x2, .int x3] (gw_st (wM D a σ) Wr) (gw_pI res.1 (gw_st (wM D a res.2) Wr)) := by
  refine gw_ct (own := RX3) [(0, .ref (a 0)), (1, .int x1), (2, .int x2), (3, .int x3)] (by decide) rfl (Nat.le_of_ble_eq_true rfl) rfl ?_
  intro E X
  unfold fx_X3_duel at hp
  refine gw_aload_n X 1 0 dX3_duel_0 rfl rfl rfl ?_
  refine gw_iconst X 2 dX3_duel_1 rfl gw_ci_0 ?_
  refine gM_p0_0 X 5 q1394 dX3_duel_2 rfl ?_
  refine gw_aload_n X 6 0 dX3_duel_5 rfl rfl rfl ?_
  refine gw_iload_n X 7 1 dX3_duel_6 rfl rfl rfl ?_
  refine gw_iload_n X 8 2 dX3_duel_7 rfl rfl rfl ?_
  obtain ⟨σ1, h2, hp⟩ := gw_let_some hp
  rw [← h2]
  clear h2
  obtain ⟨r3, σ4, h5, hp⟩ := gw_b2_some hp
  refine gw_callVi X 11 [.int x1, .int x2] (mt_X3_isDuel h5) lk_X3_355 ydv_X3_isDuel gM_cl0 gM_at0 rfl rfl rfl dX3_duel_8 rfl rfl rfl ?_
  refine gw_if_eqB X 24 14 dX3_duel_11 rfl rfl (fun z => ?_) (fun z => ?_)
  · replace hp := gw_f z hp
    refine gw_bipush X 26 dX3_duel_24 rfl gw_cb_m2 ?_
    cases hp
    exact gw_iret X dX3_duel_26 (fun _ h => ⟨rfl, h⟩) (Nat.le_of_ble_eq_true rfl) (Nat.le_of_ble_eq_true rfl)
  · replace hp := gw_t z hp
    refine gw_iload_n X 15 3 dX3_duel_14 rfl rfl rfl ?_
    refine gw_i2l X 16 dX3_duel_15 rfl ?_
    refine gw_lconst X 17 dX3_duel_16 rfl gw_cl_0 ?_
    refine gw_lconst X 18 dX3_duel_17 rfl gw_cl_1 ?_
    refine gw_callSi X 21 [.long (Int32.toInt64 x3), .long 0, .long 1] (mt_X3_in rfl) lk_X3_64 yd_X3_in rfl rfl rfl dX3_duel_18 rfl rfl rfl ?_
    refine gw_if_neB X 27 24 dX3_duel_21 rfl rfl (fun z => ?_) (fun z => ?_)
    · replace hp := gw_t z hp
      refine gw_iconst X 28 dX3_duel_27 rfl gw_ci_0 ?_
      refine gw_istore X 30 [(4, .int 0), (0, .ref (a 0)), (1, .int x1), (2, .int x2), (3, .int x3)] dX3_duel_28 rfl (by decide) rfl ?_
      refine gw_aload_n X 31 1 dX3_duel_30 rfl rfl rfl ?_
      refine gw_iload_n X 32 2 dX3_duel_31 rfl rfl rfl ?_
      obtain ⟨r6, h7, hp⟩ := gw_b1_some hp
      refine gw_callVi X 35 [.int x1] (mt_X3_handOf h7) lk_X3_254 ydv_X3_handOf gM_cl0 gM_at0 rfl rfl rfl dX3_duel_32 rfl rfl rfl ?_
      obtain ⟨r8, h9, hp⟩ := gw_b1_some hp
      refine gw_callSi X 38 [.int r6] (mt_X3_sizeOf h9) lk_X3_297 yd_X3_sizeOf rfl rfl rfl dX3_duel_35 rfl rfl rfl ?_
      refine gw_aload_n X 39 1 dX3_duel_38 rfl rfl rfl ?_
      refine gw_iload_n X 40 3 dX3_duel_39 rfl rfl rfl ?_
      obtain ⟨r10, h11, hp⟩ := gw_b1_some hp
      refine gw_callVi X 43 [.int x2] (mt_X3_handOf h11) lk_X3_254 ydv_X3_handOf gM_cl0 gM_at0 rfl rfl rfl dX3_duel_40 rfl rfl rfl ?_
      obtain ⟨r12, h13, hp⟩ := gw_b1_some hp
      refine gw_callSi X 46 [.int r10] (mt_X3_sizeOf h13) lk_X3_297 yd_X3_sizeOf rfl rfl rfl dX3_duel_43 rfl rfl rfl ?_
      refine gw_imul X 47 dX3_duel_46 rfl ?_
      refine gw_istore X 49 [(5, .int (r8 * r12)), (4, .int 0), (0, .ref (a 0)), (1, .int x1), (2, .int x2), (3, .int x3)] dX3_duel_47 rfl (by decide) rfl ?_
      refine gw_iconst X 50 dX3_duel_49 rfl gw_ci_0 ?_
      refine gw_istore X 52 [(6, .int 0), (5, .int (r8 * r12)), (4, .int 0), (0, .ref (a 0)), (1, .int x1), (2, .int x2), (3, .int x3)] dX3_duel_50 rfl (by decide) rfl ?_
      refine gw_lv [3, 4, 5, 6, 2, 1, 0] rfl ?_
      refine wk_X3_duel_L52 X hp ?_
      clear hp
      intro e19 hp
      refine gw_iload_n X 132 0 dX3_duel_131 rfl rfl rfl ?_
      obtain ⟨y20, h23, hp⟩ := gw_b1_some hp
      have kJ : gw_W E 142 [(4, .int e19), (5, .int (r8 * r12))] [.int y20] (gw_st (wM D a σ4) Wr) 0 0 := by
        refine gw_iload X 144 0 dX3_duel_142 rfl rfl ?_
        refine gw_iload X 146 1 dX3_duel_144 rfl rfl ?_
        obtain ⟨r21, h22, hp⟩ := gw_b1_some hp
        refine gw_callSi X 149 [.int e19, .int (r8 * r12)] (mt_X3_common h22) lk_X3_352 yd_X3_common rfl rfl rfl dX3_duel_146 rfl rfl rfl ?_
        obtain ⟨hz, hp⟩ := gw_cz_some hp
        refine gw_idiv X 150 dX3_duel_149 rfl hz ?_
        cases hp
        exact gw_iret X dX3_duel_150 (fun _ h => ⟨rfl, h⟩) (Nat.le_of_ble_eq_true rfl) (Nat.le_of_ble_eq_true rfl)
      clear hp
      have hp := h23
      clear h23
      refine gw_if_ne X 140 135 dX3_duel_132 rfl rfl (fun z => ?_) (fun z => ?_)
      · replace hp := gw_f z hp
        refine gw_iload X 142 2 dX3_duel_140 rfl rfl ?_
        cases hp
        exact gw_lv [1, 2] rfl kJ
      · replace hp := gw_t z hp
        refine gw_iload X 137 1 dX3_duel_135 rfl rfl ?_
        refine gw_goto X 142 dX3_duel_137 rfl ?_
        cases hp
        exact gw_lv [1, 2] rfl kJ
    · replace hp := gw_f z hp
      refine gw_bipush X 26 dX3_duel_24 rfl gw_cb_m2 ?_
      cases hp
      exact gw_iret X dX3_duel_26 (fun _ h => ⟨rfl, h⟩) (Nat.le_of_ble_eq_true rfl) (Nat.le_of_ble_eq_true rfl)
abbrev rm_X3_wonBy : Room := { frames := 1, cells := 0, slots := 0, locals := 22 }
def fx_X3_wonBy (σ : gw_S) (x1 : Int32) (x2 : Int32) : Option (Int32) := gw_b1 (fx_X3_of σ x1 (0 : Int32)) (fun r1 => gw_b1 (fx_X3_of σ x2 (0 : Int32)) (fun r3 => (if r1 ≤ r3 then gw_b1 (fx_X3_of σ x1 (0 : Int32)) (fun r5 => gw_b1 (fx_X3_of σ x2 (0 : Int32)) (fun r7 => (if r7 ≤ r5 then some 0 else gw_b1 (fx_X3_of σ x1 (0 : Int32)) (fun r9 => some (-r9))))) else gw_b1 (fx_X3_of σ x2 (0 : Int32)) (fun r11 => some r11))))
set_option maxHeartbeats 4000000 in
theorem mt_X3_wonBy {l : Launch} {D : gw_D} {a : Nat → Nat} {Wr : va_W → Prop} {σ : gw_S} {x1 : Int32} {x2 : Int32} {res : Int32} (hp : fx_X3_wonBy σ x1 x2 = some res) : gw_Ct D l yX3_wonBy cX3_wonBy 3 (some .int) rm_X3_wonBy [.ref (a 0), .int x1, .int x2] (gw_st (wM D a σ) Wr) (gw_pI res (gw_st (wM D a σ) Wr)) := by
  refine gw_ct (own := RX3) [(0, .ref (a 0)), (1, .int x1), (2, .int x2)] (by decide) rfl (Nat.le_of_ble_eq_true rfl) rfl ?_
  intro E X
  unfold fx_X3_wonBy at hp
  refine gw_aload_n X 1 0 dX3_wonBy_0 rfl rfl rfl ?_
  refine gw_iload_n X 2 1 dX3_wonBy_1 rfl rfl rfl ?_
  refine gw_iconst X 3 dX3_wonBy_2 rfl gw_ci_0 ?_
  obtain ⟨r1, h2, hp⟩ := gw_b1_some hp
  refine gw_callVi X 6 [.int x1, .int 0] (mt_X3_of h2) lk_X3_214 ydv_X3_of gM_cl0 gM_at0 rfl rfl rfl dX3_wonBy_3 rfl rfl rfl ?_
  refine gw_aload_n X 7 0 dX3_wonBy_6 rfl rfl rfl ?_
  refine gw_iload_n X 8 2 dX3_wonBy_7 rfl rfl rfl ?_
  refine gw_iconst X 9 dX3_wonBy_8 rfl gw_ci_0 ?_
  obtain ⟨r3, h4, hp⟩ := gw_b1_some hp
  refine gw_callVi X 12 [.int x2, .int 0] (mt_X3_of h4) lk_X3_214 ydv_X3_of gM_cl0 gM_at0 rfl rfl rfl dX3_wonBy_9 rfl rfl rfl ?_
  refine gw_icmp_le X 24 15 dX3_wonBy_12 rfl rfl (fun z => ?_) (fun z => ?_)
  · replace hp := gw_t z hp
    refine gw_aload_n X 25 0 dX3_wonBy_24 rfl rfl rfl ?_
    refine gw_iload_n X 26 1 dX3_wonBy_25 rfl rfl rfl ?_
    refine gw_iconst X 27 dX3_wonBy_26 rfl gw_ci_0 ?_
    obtain ⟨r5, h6, hp⟩ := gw_b1_some hp
    refine gw_callVi X 30 [.int x1, .int 0] (mt_X3_of h6) lk_X3_214 ydv_X3_of gM_cl0 gM_at0 rfl rfl rfl dX3_wonBy_27 rfl rfl rfl ?_
    refine gw_aload_n X 31 0 dX3_wonBy_30 rfl rfl rfl ?_
    refine gw_iload_n X 32 2 dX3_wonBy_31 rfl rfl rfl ?_
    refine gw_iconst X 33 dX3_wonBy_32 rfl gw_ci_0 ?_
    obtain ⟨r7, h8, hp⟩ := gw_b1_some hp
    refine gw_callVi X 36 [.int x2, .int 0] (mt_X3_of h8) lk_X3_214 ydv_X3_of gM_cl0 gM_at0 rfl rfl rfl dX3_wonBy_33 rfl rfl rfl ?_
    refine gw_icmp_ge X 49 39 dX3_wonBy_36 rfl rfl (fun z => ?_) (fun z => ?_)
    · replace hp := gw_t z hp
      refine gw_iconst X 50 dX3_wonBy_49 rfl gw_ci_0 ?_
      cases hp
      exact gw_iret X dX3_wonBy_50 (fun _ h => ⟨rfl, h⟩) (Nat.le_of_ble_eq_true rfl) (Nat.le_of_ble_eq_true rfl)
    · replace hp := gw_f z hp
      refine gw_aload_n X 40 0 dX3_wonBy_39 rfl rfl rfl ?_
      refine gw_iload_n X 41 1 dX3_wonBy_40 rfl rfl rfl ?_
      refine gw_iconst X 42 dX3_wonBy_41 rfl gw_ci_0 ?_
      obtain ⟨r9, h10, hp⟩ := gw_b1_some hp
      refine gw_callVi X 45 [.int x1, .int 0] (mt_X3_of h10) lk_X3_214 ydv_X3_of gM_cl0 gM_at0 rfl rfl rfl dX3_wonBy_42 rfl rfl rfl ?_
      refine gw_ineg X 46 dX3_wonBy_45 rfl ?_
      refine gw_goto X 50 dX3_wonBy_46 rfl ?_
      cases hp
      exact gw_iret X dX3_wonBy_50 (fun _ h => ⟨rfl, h⟩) (Nat.le_of_ble_eq_true rfl) (Nat.le_of_ble_eq_true rfl)
  · replace hp := gw_f z hp
    refine gw_aload_n X 16 0 dX3_wonBy_15 rfl rfl rfl ?_
    refine gw_iload_n X 17 2 dX3_wonBy_16 rfl rfl rfl ?_
    refine gw_iconst X 18 dX3_wonBy_17 rfl gw_ci_0 ?_
    obtain ⟨r11, h12, hp⟩ := gw_b1_some hp
    refine gw_callVi X 21 [.int x2, .int 0] (mt_X3_of h12) lk_X3_214 ydv_X3_of gM_cl0 gM_at0 rfl rfl rfl dX3_wonBy_18 rfl rfl rfl ?_
    refine gw_goto X 50 dX3_wonBy_21 rfl ?_
    cases hp
    exact gw_iret X dX3_wonBy_50 (fun _ h => ⟨rfl, h⟩) (Nat.le_of_ble_eq_true rfl) (Nat.le_of_ble_eq_true rfl)
abbrev rm_X3_replyTo : Room := { frames := 2, cells := 0, slots := 0, locals := 44 }
def fx_X3_replyTo_L5 (σ : gw_S) (v1 : Int32) (v2 : Int32) : Nat → Int32 → Int32 → Option (Int32)
  | 0, _, _ => none
  | n + 1, c3, c4 => (if (σ.1 7 1) ≤ c4 then some c3 else gw_ck c4 8 ((if (σ.1 11 (Int32.toNatClampNeg c4)) = v2 then (if c3 = (-1 : Int32) then fx_X3_replyTo_L5 σ v1 v2 n c4 (c4 + 1) else gw_b1 (fx_X3_wonBy σ v1 c4) (fun r1 => gw_b1 (fx_X3_wonBy σ v1 c3) (fun r3 => (if r3 ≤ r1 then fx_X3_replyTo_L5 σ v1 v2 n c3 (c4 + 1) else fx_X3_replyTo_L5 σ v1 v2 n c4 (c4 + 1))))) else fx_X3_replyTo_L5 σ v1 v2 n c3 (c4 + 1))))
def fx_X3_replyTo (σ : gw_S) (x1 : Int32) (x2 : Int32) : Option (Int32) := fx_X3_replyTo_L5 σ x1 x2 1000 (-1 : Int32) (0 : Int32)
set_option maxHeartbeats 4000000 in
theorem wk_X3_replyTo_L5 {E : gw_E} {l : Launch} {D : gw_D} {a : Nat → Nat} {Wr : va_W → Prop} {σ : gw_S} {res : Int32} (X : gw_X E cX3_replyTo 5 RX3 (some .int) l D rm_X3_replyTo (some (gw_pI res (gw_st (wM D a σ) Wr)))) {v1 : Int32} {v2 : Int32} : ∀ {n : Nat} {c3 : Int32} {c4 : Int32}, fx_X3_replyTo_L5 σ v1 v2 n c3 c4 = some res → gw_W E 5 [(0, .ref (a 0)), (1, .int v1), (2, .int v2), (3, .int c3), (4, .int c4)] [] (gw_st (wM D a σ) Wr) 0 0 := by
  intro n
  induction n with
  | zero =>
    intro c3 c4 hp
    cases (show none = some res from hp)
  | succ n ih =>
    intro c3 c4 hp
    rw [fx_X3_replyTo_L5] at hp
    refine gw_iload X 7 4 dX3_replyTo_5 rfl rfl ?_
    refine gw_aload_n X 8 0 dX3_replyTo_7 rfl rfl rfl ?_
    refine gM_g0_17 X 11 q1411 dX3_replyTo_8 rfl ?_
    refine gw_iconst X 12 dX3_replyTo_11 rfl gw_ci_1 ?_
    refine gM_l7 X 13 1 (gw_in rfl) rfl dX3_replyTo_12 rfl ?_
    refine gw_icmp_ge X 57 16 dX3_replyTo_13 rfl rfl (fun z => ?_) (fun z => ?_)
    · replace hp := gw_t z hp
      refine gw_iload_n X 58 3 dX3_replyTo_57 rfl rfl rfl ?_
      cases hp
      exact gw_iret X dX3_replyTo_58 (fun _ h => ⟨rfl, h⟩) (Nat.le_of_ble_eq_true rfl) (Nat.le_of_ble_eq_true rfl)
    · replace hp := gw_f z hp
      refine gw_aload_n X 17 0 dX3_replyTo_16 rfl rfl rfl ?_
      refine gM_g0_21 X 20 q1415 dX3_replyTo_17 rfl ?_
      refine gw_iload X 22 4 dX3_replyTo_20 rfl rfl ?_
      obtain ⟨hc, hp⟩ := gw_ck_some hp
      refine gM_l11 X 23 (Int32.toNatClampNeg c4) hc rfl dX3_replyTo_22 rfl ?_
      refine gw_iload_n X 24 2 dX3_replyTo_23 rfl rfl rfl ?_
      refine gw_icmp_ne X 51 27 dX3_replyTo_24 rfl rfl (fun z => ?_) (fun z => ?_)
      · replace hp := gw_f z hp
        refine gw_iinc X 54 4 [(4, .int (c4 + 1)), (0, .ref (a 0)), (1, .int v1), (2, .int v2), (3, .int c3)] dX3_replyTo_51 rfl rfl gw_ci_1 (by decide) rfl ?_
        refine gw_goto X 5 dX3_replyTo_54 rfl ?_
        refine gw_lv [1, 2, 3, 4, 0] rfl ?_
        exact ih hp
      · replace hp := gw_t z hp
        refine gw_iload_n X 28 3 dX3_replyTo_27 rfl rfl rfl ?_
        refine gw_iconst X 29 dX3_replyTo_28 rfl gw_ci_m1 ?_
        refine gw_icmp_eq X 48 32 dX3_replyTo_29 rfl rfl (fun z => ?_) (fun z => ?_)
        · replace hp := gw_t z hp
          refine gw_iload X 50 4 dX3_replyTo_48 rfl rfl ?_
          refine gw_istore_n X 51 [(3, .int c4), (0, .ref (a 0)), (1, .int v1), (2, .int v2), (4, .int c4)] dX3_replyTo_50 rfl rfl (by decide) rfl ?_
          refine gw_iinc X 54 4 [(4, .int (c4 + 1)), (3, .int c4), (0, .ref (a 0)), (1, .int v1), (2, .int v2)] dX3_replyTo_51 rfl rfl gw_ci_1 (by decide) rfl ?_
          refine gw_goto X 5 dX3_replyTo_54 rfl ?_
          refine gw_lv [2, 3, 4, 1, 0] rfl ?_
          exact ih hp
        · replace hp := gw_f z hp
          refine gw_aload_n X 33 0 dX3_replyTo_32 rfl rfl rfl ?_
          refine gw_iload_n X 34 1 dX3_replyTo_33 rfl rfl rfl ?_
          refine gw_iload X 36 4 dX3_replyTo_34 rfl rfl ?_
          obtain ⟨r1, h2, hp⟩ := gw_b1_some hp
          refine gw_callVi X 39 [.int v1, .int c4] (mt_X3_wonBy h2) lk_X3_358 ydv_X3_wonBy gM_cl0 gM_at0 rfl rfl rfl dX3_replyTo_36 rfl rfl rfl ?_
          refine gw_aload_n X 40 0 dX3_replyTo_39 rfl rfl rfl ?_
          refine gw_iload_n X 41 1 dX3_replyTo_40 rfl rfl rfl ?_
          refine gw_iload_n X 42 3 dX3_replyTo_41 rfl rfl rfl ?_
          obtain ⟨r3, h4, hp⟩ := gw_b1_some hp
          refine gw_callVi X 45 [.int v1, .int c3] (mt_X3_wonBy h4) lk_X3_358 ydv_X3_wonBy gM_cl0 gM_at0 rfl rfl rfl dX3_replyTo_42 rfl rfl rfl ?_
          refine gw_icmp_ge X 51 48 dX3_replyTo_45 rfl rfl (fun z => ?_) (fun z => ?_)
          · replace hp := gw_t z hp
            refine gw_iinc X 54 4 [(4, .int (c4 + 1)), (0, .ref (a 0)), (1, .int v1), (2, .int v2), (3, .int c3)] dX3_replyTo_51 rfl rfl gw_ci_1 (by decide) rfl ?_
            refine gw_goto X 5 dX3_replyTo_54 rfl ?_
            refine gw_lv [1, 2, 3, 4, 0] rfl ?_
            exact ih hp
          · replace hp := gw_f z hp
            refine gw_iload X 50 4 dX3_replyTo_48 rfl rfl ?_
            refine gw_istore_n X 51 [(3, .int c4), (0, .ref (a 0)), (1, .int v1), (2, .int v2), (4, .int c4)] dX3_replyTo_50 rfl rfl (by decide) rfl ?_
            refine gw_iinc X 54 4 [(4, .int (c4 + 1)), (3, .int c4), (0, .ref (a 0)), (1, .int v1), (2, .int v2)] dX3_replyTo_51 rfl rfl gw_ci_1 (by decide) rfl ?_
            refine gw_goto X 5 dX3_replyTo_54 rfl ?_
            refine gw_lv [2, 3, 4, 1, 0] rfl ?_
            exact ih hp
set_option maxHeartbeats 4000000 in
theorem mt_X3_replyTo {l : Launch} {D : gw_D} {a : Nat → Nat} {Wr : va_W → Prop} {σ : gw_S} {x1 : Int32} {x2 : Int32} {res : Int32} (hp : fx_X3_replyTo σ x1 x2 = some res) : gw_Ct D l yX3_replyTo cX3_replyTo 5 (some .int) rm_X3_replyTo [.ref (a 0), .int x1, .int x2] (gw_st (wM D a σ) Wr) (gw_pI res (gw_st (wM D a σ) Wr)) := by
  refine gw_ct (own := RX3) [(0, .ref (a 0)), (1, .int x1), (2, .int x2)] (by decide) rfl (Nat.le_of_ble_eq_true rfl) rfl ?_
  intro E X
  unfold fx_X3_replyTo at hp
  refine gw_iconst X 1 dX3_replyTo_0 rfl gw_ci_m1 ?_
  refine gw_istore_n X 2 [(3, .int (-1)), (0, .ref (a 0)), (1, .int x1), (2, .int x2)] dX3_replyTo_1 rfl rfl (by decide) rfl ?_
  refine gw_iconst X 3 dX3_replyTo_2 rfl gw_ci_0 ?_
  refine gw_istore X 5 [(4, .int 0), (3, .int (-1)), (0, .ref (a 0)), (1, .int x1), (2, .int x2)] dX3_replyTo_3 rfl (by decide) rfl ?_
  refine gw_lv [2, 3, 4, 1, 0] rfl ?_
  exact wk_X3_replyTo_L5 X hp
abbrev rm_X3_laidBy : Room := { frames := 3, cells := 0, slots := 0, locals := 68 }
def fx_X3_laidBy_L5 (σ : gw_S) (v1 : Int32) (v2 : Int32) : Nat → Int32 → Int32 → Option (Int32)
  | 0, _, _ => none
  | n + 1, c3, c4 => (if (σ.1 7 1) ≤ c4 then some c3 else gw_ck c4 8 ((if (σ.1 11 (Int32.toNatClampNeg c4)) = v1 then (if c3 = (-1 : Int32) then fx_X3_laidBy_L5 σ v1 v2 n c4 (c4 + 1) else gw_b1 (fx_X3_replyTo σ c4 v2) (fun r1 => gw_b1 (fx_X3_wonBy σ c4 r1) (fun r3 => gw_b1 (fx_X3_replyTo σ c3 v2) (fun r5 => gw_b1 (fx_X3_wonBy σ c3 r5) (fun r7 => (if r3 ≤ r7 then fx_X3_laidBy_L5 σ v1 v2 n c3 (c4 + 1) else fx_X3_laidBy_L5 σ v1 v2 n c4 (c4 + 1))))))) else fx_X3_laidBy_L5 σ v1 v2 n c3 (c4 + 1))))
def fx_X3_laidBy (σ : gw_S) (x1 : Int32) (x2 : Int32) : Option (Int32) := fx_X3_laidBy_L5 σ x1 x2 1000 (-1 : Int32) (0 : Int32)
set_option maxHeartbeats 4000000 in
theorem wk_X3_laidBy_L5 {E : gw_E} {l : Launch} {D : gw_D} {a : Nat → Nat} {Wr : va_W → Prop} {σ : gw_S} {res : Int32} (X : gw_X E cX3_laidBy 5 RX3 (some .int) l D rm_X3_laidBy (some (gw_pI res (gw_st (wM D a σ) Wr)))) {v1 : Int32} {v2 : Int32} : ∀ {n : Nat} {c3 : Int32} {c4 : Int32}, fx_X3_laidBy_L5 σ v1 v2 n c3 c4 = some res → gw_W E 5 [(0, .ref (a 0)), (1, .int v1), (2, .int v2), (3, .int c3), (4, .int c4)] [] (gw_st (wM D a σ) Wr) 0 0 := by
  intro n
  induction n with
  | zero =>
    intro c3 c4 hp
    cases (show none = some res from hp)
  | succ n ih =>
    intro c3 c4 hp
    rw [fx_X3_laidBy_L5] at hp
    refine gw_iload X 7 4 dX3_laidBy_5 rfl rfl ?_
    refine gw_aload_n X 8 0 dX3_laidBy_7 rfl rfl rfl ?_
    refine gM_g0_17 X 11 q1411 dX3_laidBy_8 rfl ?_
    refine gw_iconst X 12 dX3_laidBy_11 rfl gw_ci_1 ?_
    refine gM_l7 X 13 1 (gw_in rfl) rfl dX3_laidBy_12 rfl ?_
    refine gw_icmp_ge X 68 16 dX3_laidBy_13 rfl rfl (fun z => ?_) (fun z => ?_)
    · replace hp := gw_t z hp
      refine gw_iload_n X 69 3 dX3_laidBy_68 rfl rfl rfl ?_
      cases hp
      exact gw_iret X dX3_laidBy_69 (fun _ h => ⟨rfl, h⟩) (Nat.le_of_ble_eq_true rfl) (Nat.le_of_ble_eq_true rfl)
    · replace hp := gw_f z hp
      refine gw_aload_n X 17 0 dX3_laidBy_16 rfl rfl rfl ?_
      refine gM_g0_21 X 20 q1415 dX3_laidBy_17 rfl ?_
      refine gw_iload X 22 4 dX3_laidBy_20 rfl rfl ?_
      obtain ⟨hc, hp⟩ := gw_ck_some hp
      refine gM_l11 X 23 (Int32.toNatClampNeg c4) hc rfl dX3_laidBy_22 rfl ?_
      refine gw_iload_n X 24 1 dX3_laidBy_23 rfl rfl rfl ?_
      refine gw_icmp_ne X 62 27 dX3_laidBy_24 rfl rfl (fun z => ?_) (fun z => ?_)
      · replace hp := gw_f z hp
        refine gw_iinc X 65 4 [(4, .int (c4 + 1)), (0, .ref (a 0)), (1, .int v1), (2, .int v2), (3, .int c3)] dX3_laidBy_62 rfl rfl gw_ci_1 (by decide) rfl ?_
        refine gw_goto X 5 dX3_laidBy_65 rfl ?_
        refine gw_lv [1, 2, 3, 4, 0] rfl ?_
        exact ih hp
      · replace hp := gw_t z hp
        refine gw_iload_n X 28 3 dX3_laidBy_27 rfl rfl rfl ?_
        refine gw_iconst X 29 dX3_laidBy_28 rfl gw_ci_m1 ?_
        refine gw_icmp_eq X 59 32 dX3_laidBy_29 rfl rfl (fun z => ?_) (fun z => ?_)
        · replace hp := gw_t z hp
          refine gw_iload X 61 4 dX3_laidBy_59 rfl rfl ?_
          refine gw_istore_n X 62 [(3, .int c4), (0, .ref (a 0)), (1, .int v1), (2, .int v2), (4, .int c4)] dX3_laidBy_61 rfl rfl (by decide) rfl ?_
          refine gw_iinc X 65 4 [(4, .int (c4 + 1)), (3, .int c4), (0, .ref (a 0)), (1, .int v1), (2, .int v2)] dX3_laidBy_62 rfl rfl gw_ci_1 (by decide) rfl ?_
          refine gw_goto X 5 dX3_laidBy_65 rfl ?_
          refine gw_lv [2, 3, 4, 1, 0] rfl ?_
          exact ih hp
        · replace hp := gw_f z hp
          refine gw_aload_n X 33 0 dX3_laidBy_32 rfl rfl rfl ?_
          refine gw_iload X 35 4 dX3_laidBy_33 rfl rfl ?_
          refine gw_aload_n X 36 0 dX3_laidBy_35 rfl rfl rfl ?_
          refine gw_iload X 38 4 dX3_laidBy_36 rfl rfl ?_
          refine gw_iload_n X 39 2 dX3_laidBy_38 rfl rfl rfl ?_
          obtain ⟨r1, h2, hp⟩ := gw_b1_some hp
          refine gw_callVi X 42 [.int c4, .int v2] (mt_X3_replyTo h2) lk_X3_361 ydv_X3_replyTo gM_cl0 gM_at0 rfl rfl rfl dX3_laidBy_39 rfl rfl rfl ?_
          obtain ⟨r3, h4, hp⟩ := gw_b1_some hp
          refine gw_callVi X 45 [.int c4, .int r1] (mt_X3_wonBy h4) lk_X3_358 ydv_X3_wonBy gM_cl0 gM_at0 rfl rfl rfl dX3_laidBy_42 rfl rfl rfl ?_
          refine gw_aload_n X 46 0 dX3_laidBy_45 rfl rfl rfl ?_
          refine gw_iload_n X 47 3 dX3_laidBy_46 rfl rfl rfl ?_
          refine gw_aload_n X 48 0 dX3_laidBy_47 rfl rfl rfl ?_
          refine gw_iload_n X 49 3 dX3_laidBy_48 rfl rfl rfl ?_
          refine gw_iload_n X 50 2 dX3_laidBy_49 rfl rfl rfl ?_
          obtain ⟨r5, h6, hp⟩ := gw_b1_some hp
          refine gw_callVi X 53 [.int c3, .int v2] (mt_X3_replyTo h6) lk_X3_361 ydv_X3_replyTo gM_cl0 gM_at0 rfl rfl rfl dX3_laidBy_50 rfl rfl rfl ?_
          obtain ⟨r7, h8, hp⟩ := gw_b1_some hp
          refine gw_callVi X 56 [.int c3, .int r5] (mt_X3_wonBy h8) lk_X3_358 ydv_X3_wonBy gM_cl0 gM_at0 rfl rfl rfl dX3_laidBy_53 rfl rfl rfl ?_
          refine gw_icmp_le X 62 59 dX3_laidBy_56 rfl rfl (fun z => ?_) (fun z => ?_)
          · replace hp := gw_t z hp
            refine gw_iinc X 65 4 [(4, .int (c4 + 1)), (0, .ref (a 0)), (1, .int v1), (2, .int v2), (3, .int c3)] dX3_laidBy_62 rfl rfl gw_ci_1 (by decide) rfl ?_
            refine gw_goto X 5 dX3_laidBy_65 rfl ?_
            refine gw_lv [1, 2, 3, 4, 0] rfl ?_
            exact ih hp
          · replace hp := gw_f z hp
            refine gw_iload X 61 4 dX3_laidBy_59 rfl rfl ?_
            refine gw_istore_n X 62 [(3, .int c4), (0, .ref (a 0)), (1, .int v1), (2, .int v2), (4, .int c4)] dX3_laidBy_61 rfl rfl (by decide) rfl ?_
            refine gw_iinc X 65 4 [(4, .int (c4 + 1)), (3, .int c4), (0, .ref (a 0)), (1, .int v1), (2, .int v2)] dX3_laidBy_62 rfl rfl gw_ci_1 (by decide) rfl ?_
            refine gw_goto X 5 dX3_laidBy_65 rfl ?_
            refine gw_lv [2, 3, 4, 1, 0] rfl ?_
            exact ih hp
set_option maxHeartbeats 4000000 in
theorem mt_X3_laidBy {l : Launch} {D : gw_D} {a : Nat → Nat} {Wr : va_W → Prop} {σ : gw_S} {x1 : Int32} {x2 : Int32} {res : Int32} (hp : fx_X3_laidBy σ x1 x2 = some res) : gw_Ct D l yX3_laidBy cX3_laidBy 5 (some .int) rm_X3_laidBy [.ref (a 0), .int x1, .int x2] (gw_st (wM D a σ) Wr) (gw_pI res (gw_st (wM D a σ) Wr)) := by
  refine gw_ct (own := RX3) [(0, .ref (a 0)), (1, .int x1), (2, .int x2)] (by decide) rfl (Nat.le_of_ble_eq_true rfl) rfl ?_
  intro E X
  unfold fx_X3_laidBy at hp
  refine gw_iconst X 1 dX3_laidBy_0 rfl gw_ci_m1 ?_
  refine gw_istore_n X 2 [(3, .int (-1)), (0, .ref (a 0)), (1, .int x1), (2, .int x2)] dX3_laidBy_1 rfl rfl (by decide) rfl ?_
  refine gw_iconst X 3 dX3_laidBy_2 rfl gw_ci_0 ?_
  refine gw_istore X 5 [(4, .int 0), (3, .int (-1)), (0, .ref (a 0)), (1, .int x1), (2, .int x2)] dX3_laidBy_3 rfl (by decide) rfl ?_
  refine gw_lv [2, 3, 4, 1, 0] rfl ?_
  exact wk_X3_laidBy_L5 X hp
abbrev rm_X3_lay : Room := { frames := 6, cells := 0, slots := 0, locals := 133 }
def fx_X3_lay (σ : gw_S) (x1 : Int32) (x2 : Int32) : Option (Int32 × gw_S) := gw_let (gw_u σ 0 0 0) (fun σ1 => gw_b2 (fx_X3_isDuel σ1 x1 x2) (fun r3 σ4 => (if r3 = true then gw_b1 (fx_X3_laidBy σ4 x1 x2) (fun r6 => gw_b1 (fx_X3_replyTo σ4 r6 x2) (fun r8 => gw_b1 (fx_X3_wonBy σ4 r6 r8) (fun r10 => some (r10, σ4)))) else some ((-1000), σ4))))
set_option maxHeartbeats 4000000 in
theorem mt_X3_lay {l : Launch} {D : gw_D} {a : Nat → Nat} {Wr : va_W → Prop} {σ : gw_S} {x1 : Int32} {x2 : Int32} {res : Int32 × gw_S} (hp : fx_X3_lay σ x1 x2 = some res) : gw_Ct D l yX3_lay cX3_lay 4 (some .int) rm_X3_lay [.ref (a 0), .int x1, .int x2] (gw_st (wM D a σ) Wr) (gw_pI res.1 (gw_st (wM D a res.2) Wr)) := by
  refine gw_ct (own := RX3) [(0, .ref (a 0)), (1, .int x1), (2, .int x2)] (by decide) rfl (Nat.le_of_ble_eq_true rfl) rfl ?_
  intro E X
  unfold fx_X3_lay at hp
  refine gw_aload_n X 1 0 dX3_lay_0 rfl rfl rfl ?_
  refine gw_iconst X 2 dX3_lay_1 rfl gw_ci_0 ?_
  refine gM_p0_0 X 5 q1394 dX3_lay_2 rfl ?_
  refine gw_aload_n X 6 0 dX3_lay_5 rfl rfl rfl ?_
  refine gw_iload_n X 7 1 dX3_lay_6 rfl rfl rfl ?_
  refine gw_iload_n X 8 2 dX3_lay_7 rfl rfl rfl ?_
  obtain ⟨σ1, h2, hp⟩ := gw_let_some hp
  rw [← h2]
  clear h2
  obtain ⟨r3, σ4, h5, hp⟩ := gw_b2_some hp
  refine gw_callVi X 11 [.int x1, .int x2] (mt_X3_isDuel h5) lk_X3_355 ydv_X3_isDuel gM_cl0 gM_at0 rfl rfl rfl dX3_lay_8 rfl rfl rfl ?_
  refine gw_if_neB X 18 14 dX3_lay_11 rfl rfl (fun z => ?_) (fun z => ?_)
  · replace hp := gw_t z hp
    refine gw_aload_n X 19 0 dX3_lay_18 rfl rfl rfl ?_
    refine gw_iload_n X 20 1 dX3_lay_19 rfl rfl rfl ?_
    refine gw_iload_n X 21 2 dX3_lay_20 rfl rfl rfl ?_
    obtain ⟨r6, h7, hp⟩ := gw_b1_some hp
    refine gw_callVi X 24 [.int x1, .int x2] (mt_X3_laidBy h7) lk_X3_364 ydv_X3_laidBy gM_cl0 gM_at0 rfl rfl rfl dX3_lay_21 rfl rfl rfl ?_
    refine gw_istore_n X 25 [(3, .int r6), (0, .ref (a 0)), (1, .int x1), (2, .int x2)] dX3_lay_24 rfl rfl (by decide) rfl ?_
    refine gw_aload_n X 26 1 dX3_lay_25 rfl rfl rfl ?_
    refine gw_iload_n X 27 0 dX3_lay_26 rfl rfl rfl ?_
    refine gw_aload_n X 28 1 dX3_lay_27 rfl rfl rfl ?_
    refine gw_iload_n X 29 0 dX3_lay_28 rfl rfl rfl ?_
    refine gw_iload_n X 30 3 dX3_lay_29 rfl rfl rfl ?_
    obtain ⟨r8, h9, hp⟩ := gw_b1_some hp
    refine gw_callVi X 33 [.int r6, .int x2] (mt_X3_replyTo h9) lk_X3_361 ydv_X3_replyTo gM_cl0 gM_at0 rfl rfl rfl dX3_lay_30 rfl rfl rfl ?_
    obtain ⟨r10, h11, hp⟩ := gw_b1_some hp
    refine gw_callVi X 36 [.int r6, .int r8] (mt_X3_wonBy h11) lk_X3_358 ydv_X3_wonBy gM_cl0 gM_at0 rfl rfl rfl dX3_lay_33 rfl rfl rfl ?_
    cases hp
    exact gw_iret X dX3_lay_36 (fun _ h => ⟨rfl, h⟩) (Nat.le_of_ble_eq_true rfl) (Nat.le_of_ble_eq_true rfl)
  · replace hp := gw_f z hp
    refine gw_sipush X 17 dX3_lay_14 rfl gw_cs_m1000 ?_
    cases hp
    exact gw_iret X dX3_lay_17 (fun _ h => ⟨rfl, h⟩) (Nat.le_of_ble_eq_true rfl) (Nat.le_of_ble_eq_true rfl)
abbrev rm_X3_lays : Room := { frames := 6, cells := 0, slots := 0, locals := 133 }
def fx_X3_lays (σ : gw_S) (x1 : Int32) (x2 : Int32) : Option (Int32 × gw_S) := gw_let (gw_u σ 0 0 0) (fun σ1 => gw_b2 (fx_X3_isDuel σ1 x1 x2) (fun r3 σ4 => (if r3 = true then gw_b1 (fx_X3_laidBy σ4 x1 x2) (fun r6 => some (r6, σ4)) else some ((-2), σ4))))
set_option maxHeartbeats 4000000 in
theorem mt_X3_lays {l : Launch} {D : gw_D} {a : Nat → Nat} {Wr : va_W → Prop} {σ : gw_S} {x1 : Int32} {x2 : Int32} {res : Int32 × gw_S} (hp : fx_X3_lays σ x1 x2 = some res) : gw_Ct D l yX3_lays cX3_lays 3 (some .int) rm_X3_lays [.ref (a 0), .int x1, .int x2] (gw_st (wM D a σ) Wr) (gw_pI res.1 (gw_st (wM D a res.2) Wr)) := by
  refine gw_ct (own := RX3) [(0, .ref (a 0)), (1, .int x1), (2, .int x2)] (by decide) rfl (Nat.le_of_ble_eq_true rfl) rfl ?_
  intro E X
  unfold fx_X3_lays at hp
  refine gw_aload_n X 1 0 dX3_lays_0 rfl rfl rfl ?_
  refine gw_iconst X 2 dX3_lays_1 rfl gw_ci_0 ?_
  refine gM_p0_0 X 5 q1394 dX3_lays_2 rfl ?_
  refine gw_aload_n X 6 0 dX3_lays_5 rfl rfl rfl ?_
  refine gw_iload_n X 7 1 dX3_lays_6 rfl rfl rfl ?_
  refine gw_iload_n X 8 2 dX3_lays_7 rfl rfl rfl ?_
  obtain ⟨σ1, h2, hp⟩ := gw_let_some hp
  rw [← h2]
  clear h2
  obtain ⟨r3, σ4, h5, hp⟩ := gw_b2_some hp
  refine gw_callVi X 11 [.int x1, .int x2] (mt_X3_isDuel h5) lk_X3_355 ydv_X3_isDuel gM_cl0 gM_at0 rfl rfl rfl dX3_lays_8 rfl rfl rfl ?_
  refine gw_if_eqB X 23 14 dX3_lays_11 rfl rfl (fun z => ?_) (fun z => ?_)
  · replace hp := gw_f z hp
    refine gw_bipush X 25 dX3_lays_23 rfl gw_cb_m2 ?_
    cases hp
    exact gw_iret X dX3_lays_25 (fun _ h => ⟨rfl, h⟩) (Nat.le_of_ble_eq_true rfl) (Nat.le_of_ble_eq_true rfl)
  · replace hp := gw_t z hp
    refine gw_aload_n X 15 0 dX3_lays_14 rfl rfl rfl ?_
    refine gw_iload_n X 16 1 dX3_lays_15 rfl rfl rfl ?_
    refine gw_iload_n X 17 2 dX3_lays_16 rfl rfl rfl ?_
    obtain ⟨r6, h7, hp⟩ := gw_b1_some hp
    refine gw_callVi X 20 [.int x1, .int x2] (mt_X3_laidBy h7) lk_X3_364 ydv_X3_laidBy gM_cl0 gM_at0 rfl rfl rfl dX3_lays_17 rfl rfl rfl ?_
    refine gw_goto X 25 dX3_lays_20 rfl ?_
    cases hp
    exact gw_iret X dX3_lays_25 (fun _ h => ⟨rfl, h⟩) (Nat.le_of_ble_eq_true rfl) (Nat.le_of_ble_eq_true rfl)
abbrev rm_X3_reply : Room := { frames := 6, cells := 0, slots := 0, locals := 133 }
def fx_X3_reply (σ : gw_S) (x1 : Int32) (x2 : Int32) : Option (Int32 × gw_S) := gw_let (gw_u σ 0 0 0) (fun σ1 => gw_b2 (fx_X3_isDuel σ1 x1 x2) (fun r3 σ4 => (if r3 = true then gw_b1 (fx_X3_laidBy σ4 x1 x2) (fun r6 => gw_b1 (fx_X3_replyTo σ4 r6 x2) (fun r8 => some (r8, σ4))) else some ((-2), σ4))))
set_option maxHeartbeats 4000000 in
theorem mt_X3_reply {l : Launch} {D : gw_D} {a : Nat → Nat} {Wr : va_W → Prop} {σ : gw_S} {x1 : Int32} {x2 : Int32} {res : Int32 × gw_S} (hp : fx_X3_reply σ x1 x2 = some res) : gw_Ct D l yX3_reply cX3_reply 3 (some .int) rm_X3_reply [.ref (a 0), .int x1, .int x2] (gw_st (wM D a σ) Wr) (gw_pI res.1 (gw_st (wM D a res.2) Wr)) := by
  refine gw_ct (own := RX3) [(0, .ref (a 0)), (1, .int x1), (2, .int x2)] (by decide) rfl (Nat.le_of_ble_eq_true rfl) rfl ?_
  intro E X
  unfold fx_X3_reply at hp
  refine gw_aload_n X 1 0 dX3_reply_0 rfl rfl rfl ?_
  refine gw_iconst X 2 dX3_reply_1 rfl gw_ci_0 ?_
  refine gM_p0_0 X 5 q1394 dX3_reply_2 rfl ?_
  refine gw_aload_n X 6 0 dX3_reply_5 rfl rfl rfl ?_
  refine gw_iload_n X 7 1 dX3_reply_6 rfl rfl rfl ?_
  refine gw_iload_n X 8 2 dX3_reply_7 rfl rfl rfl ?_
  obtain ⟨σ1, h2, hp⟩ := gw_let_some hp
  rw [← h2]
  clear h2
  obtain ⟨r3, σ4, h5, hp⟩ := gw_b2_some hp
  refine gw_callVi X 11 [.int x1, .int x2] (mt_X3_isDuel h5) lk_X3_355 ydv_X3_isDuel gM_cl0 gM_at0 rfl rfl rfl dX3_reply_8 rfl rfl rfl ?_
  refine gw_if_eqB X 28 14 dX3_reply_11 rfl rfl (fun z => ?_) (fun z => ?_)
  · replace hp := gw_f z hp
    refine gw_bipush X 30 dX3_reply_28 rfl gw_cb_m2 ?_
    cases hp
    exact gw_iret X dX3_reply_30 (fun _ h => ⟨rfl, h⟩) (Nat.le_of_ble_eq_true rfl) (Nat.le_of_ble_eq_true rfl)
  · replace hp := gw_t z hp
    refine gw_aload_n X 15 0 dX3_reply_14 rfl rfl rfl ?_
    refine gw_aload_n X 16 0 dX3_reply_15 rfl rfl rfl ?_
    refine gw_iload_n X 17 1 dX3_reply_16 rfl rfl rfl ?_
    refine gw_iload_n X 18 2 dX3_reply_17 rfl rfl rfl ?_
    obtain ⟨r6, h7, hp⟩ := gw_b1_some hp
    refine gw_callVi X 21 [.int x1, .int x2] (mt_X3_laidBy h7) lk_X3_364 ydv_X3_laidBy gM_cl0 gM_at0 rfl rfl rfl dX3_reply_18 rfl rfl rfl ?_
    refine gw_iload_n X 22 2 dX3_reply_21 rfl rfl rfl ?_
    obtain ⟨r8, h9, hp⟩ := gw_b1_some hp
    refine gw_callVi X 25 [.int r6, .int x2] (mt_X3_replyTo h9) lk_X3_361 ydv_X3_replyTo gM_cl0 gM_at0 rfl rfl rfl dX3_reply_22 rfl rfl rfl ?_
    refine gw_goto X 30 dX3_reply_25 rfl ?_
    cases hp
    exact gw_iret X dX3_reply_30 (fun _ h => ⟨rfl, h⟩) (Nat.le_of_ble_eq_true rfl) (Nat.le_of_ble_eq_true rfl)
abbrev rm_X3_isSet : Room := { frames := 1, cells := 0, slots := 0, locals := 25 }
def fx_X3_isSet (σ : gw_S) (x1 : Int32) : Bool := (if fx_X3_isCity σ = true then (if fx_X3_in (Int32.toInt64 x1) (0 : Int64) (Int32.toInt64 (((1 : Int32) <<< ((σ.1 7 1) &&& 31)) - (1 : Int32))) = true then true else false) else false)
set_option maxHeartbeats 4000000 in
theorem mt_X3_isSet {l : Launch} {D : gw_D} {a : Nat → Nat} {Wr : va_W → Prop} {σ : gw_S} {x1 : Int32} {res : Bool} (hp : fx_X3_isSet σ x1 = res) : gw_Ct D l yX3_isSet cX3_isSet 2 (some .boolean) rm_X3_isSet [.ref (a 0), .int x1] (gw_st (wM D a σ) Wr) (gw_pI (gw_b res) (gw_st (wM D a σ) Wr)) := by
  refine gw_ct (own := RX3) [(0, .ref (a 0)), (1, .int x1)] (by decide) rfl (Nat.le_of_ble_eq_true rfl) rfl ?_
  intro E X
  unfold fx_X3_isSet at hp
  refine gw_aload_n X 1 0 dX3_isSet_0 rfl rfl rfl ?_
  refine gw_callVi X 4 [] (mt_X3_isCity rfl) lk_X3_209 ydv_X3_isCity gM_cl0 gM_at0 rfl rfl rfl dX3_isSet_1 rfl rfl rfl ?_
  refine gw_if_eqB X 31 7 dX3_isSet_4 rfl rfl (fun z => ?_) (fun z => ?_)
  · replace hp := gw_f z hp
    refine gw_iconst X 32 dX3_isSet_31 rfl gw_ci_0 ?_
    cases hp
    exact gw_zret0 X dX3_isSet_32 (fun _ h => ⟨rfl, h⟩) (Nat.le_of_ble_eq_true rfl) (Nat.le_of_ble_eq_true rfl)
  · replace hp := gw_t z hp
    refine gw_iload_n X 8 1 dX3_isSet_7 rfl rfl rfl ?_
    refine gw_i2l X 9 dX3_isSet_8 rfl ?_
    refine gw_lconst X 10 dX3_isSet_9 rfl gw_cl_0 ?_
    refine gw_iconst X 11 dX3_isSet_10 rfl gw_ci_1 ?_
    refine gw_aload_n X 12 0 dX3_isSet_11 rfl rfl rfl ?_
    refine gM_g0_17 X 15 q1411 dX3_isSet_12 rfl ?_
    refine gw_iconst X 16 dX3_isSet_15 rfl gw_ci_1 ?_
    refine gM_l7 X 17 1 (gw_in rfl) rfl dX3_isSet_16 rfl ?_
    refine gw_ishl X 18 dX3_isSet_17 rfl ?_
    refine gw_iconst X 19 dX3_isSet_18 rfl gw_ci_1 ?_
    refine gw_isub X 20 dX3_isSet_19 rfl ?_
    refine gw_i2l X 21 dX3_isSet_20 rfl ?_
    refine gw_callSi X 24 [.long (Int32.toInt64 x1), .long 0, .long (Int32.toInt64 (((1 : Int32) <<< ((σ.1 7 1) &&& 31)) - (1 : Int32)))] (mt_X3_in rfl) lk_X3_64 yd_X3_in rfl rfl rfl dX3_isSet_21 rfl rfl rfl ?_
    refine gw_if_eqB X 31 27 dX3_isSet_24 rfl rfl (fun z => ?_) (fun z => ?_)
    · replace hp := gw_f z hp
      refine gw_iconst X 32 dX3_isSet_31 rfl gw_ci_0 ?_
      cases hp
      exact gw_zret0 X dX3_isSet_32 (fun _ h => ⟨rfl, h⟩) (Nat.le_of_ble_eq_true rfl) (Nat.le_of_ble_eq_true rfl)
    · replace hp := gw_t z hp
      refine gw_iconst X 28 dX3_isSet_27 rfl gw_ci_1 ?_
      refine gw_goto X 32 dX3_isSet_28 rfl ?_
      cases hp
      exact gw_zret1 X dX3_isSet_32 (fun _ h => ⟨rfl, h⟩) (Nat.le_of_ble_eq_true rfl) (Nat.le_of_ble_eq_true rfl)
abbrev rm_X3_winsOf : Room := { frames := 2, cells := 0, slots := 0, locals := 45 }
def fx_X3_winsOf (σ : gw_S) (x1 : Int32) (x2 : Int32) : Option (Int32) := gw_ck x2 8 (gw_b1 (if (σ.1 11 (Int32.toNatClampNeg x2)) = (-1 : Int32) then some (0 : Int32) else gw_ck x2 8 ((if (σ.1 11 (Int32.toNatClampNeg x2)) = x2 then some (0 : Int32) else gw_ck x2 8 ((if fx_X3_isBit x1 (σ.1 11 (Int32.toNatClampNeg x2)) = true then some (1 : Int32) else some (0 : Int32)))))) (fun (y1 : Int32) => gw_b1 (if y1 = 0 then some (0 : Int32) else gw_b1 (fx_X3_of σ x2 (0 : Int32)) (fun r3 => some r3)) (fun (y2 : Int32) => gw_b1 (fx_X3_handOf σ x2) (fun r5 => gw_b1 (fx_X3_worthOf σ (r5 &&& (((1 : Int32) <<< (x2 &&& 31)) ^^^ (-1 : Int32)))) (fun r7 => some (y2 - r7))))))
set_option maxHeartbeats 4000000 in
theorem mt_X3_winsOf {l : Launch} {D : gw_D} {a : Nat → Nat} {Wr : va_W → Prop} {σ : gw_S} {x1 : Int32} {x2 : Int32} {res : Int32} (hp : fx_X3_winsOf σ x1 x2 = some res) : gw_Ct D l yX3_winsOf cX3_winsOf 4 (some .int) rm_X3_winsOf [.ref (a 0), .int x1, .int x2] (gw_st (wM D a σ) Wr) (gw_pI res (gw_st (wM D a σ) Wr)) := by
  refine gw_ct (own := RX3) [(0, .ref (a 0)), (1, .int x1), (2, .int x2)] (by decide) rfl (Nat.le_of_ble_eq_true rfl) rfl ?_
  intro E X
  unfold fx_X3_winsOf at hp
  refine gw_aload_n X 1 0 dX3_winsOf_0 rfl rfl rfl ?_
  refine gM_g0_21 X 4 q1415 dX3_winsOf_1 rfl ?_
  refine gw_iload_n X 5 2 dX3_winsOf_4 rfl rfl rfl ?_
  obtain ⟨hc, hp⟩ := gw_ck_some hp
  refine gM_l11 X 6 (Int32.toNatClampNeg x2) hc rfl dX3_winsOf_5 rfl ?_
  refine gw_iconst X 7 dX3_winsOf_6 rfl gw_ci_m1 ?_
  obtain ⟨y1, h10, hp⟩ := gw_b1_some hp
  have kJ : gw_W E 38 [(0, .ref (a 0)), (2, .int x2)] [.int y1] (gw_st (wM D a σ) Wr) 0 0 := by
    refine gw_istore_n X 39 [(3, .int y1), (0, .ref (a 0)), (2, .int x2)] dX3_winsOf_38 rfl rfl (by decide) rfl ?_
    refine gw_iload_n X 40 0 dX3_winsOf_39 rfl rfl rfl ?_
    obtain ⟨y2, h9, hp⟩ := gw_b1_some hp
    have kJ : gw_W E 53 [(0, .ref (a 0)), (2, .int x2)] [.int y2] (gw_st (wM D a σ) Wr) 0 0 := by
      refine gw_aload_n X 54 0 dX3_winsOf_53 rfl rfl rfl ?_
      refine gw_aload_n X 55 0 dX3_winsOf_54 rfl rfl rfl ?_
      refine gw_iload_n X 56 1 dX3_winsOf_55 rfl rfl rfl ?_
      obtain ⟨r5, h6, hp⟩ := gw_b1_some hp
      refine gw_callVi X 59 [.int x2] (mt_X3_handOf h6) lk_X3_254 ydv_X3_handOf gM_cl0 gM_at0 rfl rfl rfl dX3_winsOf_56 rfl rfl rfl ?_
      refine gw_iconst X 60 dX3_winsOf_59 rfl gw_ci_1 ?_
      refine gw_iload_n X 61 1 dX3_winsOf_60 rfl rfl rfl ?_
      refine gw_ishl X 62 dX3_winsOf_61 rfl ?_
      refine gw_iconst X 63 dX3_winsOf_62 rfl gw_ci_m1 ?_
      refine gw_ixor X 64 dX3_winsOf_63 rfl ?_
      refine gw_iand X 65 dX3_winsOf_64 rfl ?_
      obtain ⟨r7, h8, hp⟩ := gw_b1_some hp
      refine gw_callVi X 68 [.int (r5 &&& (((1 : Int32) <<< (x2 &&& 31)) ^^^ (-1 : Int32)))] (mt_X3_worthOf h8) lk_X3_323 ydv_X3_worthOf gM_cl0 gM_at0 rfl rfl rfl dX3_winsOf_65 rfl rfl rfl ?_
      refine gw_isub X 69 dX3_winsOf_68 rfl ?_
      cases hp
      exact gw_iret X dX3_winsOf_69 (fun _ h => ⟨rfl, h⟩) (Nat.le_of_ble_eq_true rfl) (Nat.le_of_ble_eq_true rfl)
    clear hp
    have hp := h9
    clear h9
    refine gw_if_eq X 52 43 dX3_winsOf_40 rfl rfl (fun z => ?_) (fun z => ?_)
    · replace hp := gw_t z hp
      refine gw_iconst X 53 dX3_winsOf_52 rfl gw_ci_0 ?_
      cases hp
      exact gw_lv [1, 2] rfl kJ
    · replace hp := gw_f z hp
      refine gw_aload_n X 44 1 dX3_winsOf_43 rfl rfl rfl ?_
      refine gw_iload_n X 45 2 dX3_winsOf_44 rfl rfl rfl ?_
      refine gw_iconst X 46 dX3_winsOf_45 rfl gw_ci_0 ?_
      obtain ⟨r3, h4, hp⟩ := gw_b1_some hp
      refine gw_callVi X 49 [.int x2, .int 0] (mt_X3_of h4) lk_X3_214 ydv_X3_of gM_cl0 gM_at0 rfl rfl rfl dX3_winsOf_46 rfl rfl rfl ?_
      refine gw_goto X 53 dX3_winsOf_49 rfl ?_
      cases hp
      exact gw_lv [1, 2] rfl kJ
  clear hp
  have hp := h10
  clear h10
  refine gw_icmp_eq X 37 10 dX3_winsOf_7 rfl rfl (fun z => ?_) (fun z => ?_)
  · replace hp := gw_t z hp
    refine gw_iconst X 38 dX3_winsOf_37 rfl gw_ci_0 ?_
    cases hp
    exact gw_lv [0, 2] rfl kJ
  · replace hp := gw_f z hp
    refine gw_aload_n X 11 0 dX3_winsOf_10 rfl rfl rfl ?_
    refine gM_g0_21 X 14 q1415 dX3_winsOf_11 rfl ?_
    refine gw_iload_n X 15 2 dX3_winsOf_14 rfl rfl rfl ?_
    obtain ⟨hc, hp⟩ := gw_ck_some hp
    refine gM_l11 X 16 (Int32.toNatClampNeg x2) hc rfl dX3_winsOf_15 rfl ?_
    refine gw_iload_n X 17 2 dX3_winsOf_16 rfl rfl rfl ?_
    refine gw_icmp_eq X 37 20 dX3_winsOf_17 rfl rfl (fun z => ?_) (fun z => ?_)
    · replace hp := gw_t z hp
      refine gw_iconst X 38 dX3_winsOf_37 rfl gw_ci_0 ?_
      cases hp
      exact gw_lv [0, 2] rfl kJ
    · replace hp := gw_f z hp
      refine gw_iload_n X 21 1 dX3_winsOf_20 rfl rfl rfl ?_
      refine gw_aload_n X 22 0 dX3_winsOf_21 rfl rfl rfl ?_
      refine gM_g0_21 X 25 q1415 dX3_winsOf_22 rfl ?_
      refine gw_iload_n X 26 2 dX3_winsOf_25 rfl rfl rfl ?_
      obtain ⟨hc, hp⟩ := gw_ck_some hp
      refine gM_l11 X 27 (Int32.toNatClampNeg x2) hc rfl dX3_winsOf_26 rfl ?_
      refine gw_callSi X 30 [.int x1, .int (σ.1 11 (Int32.toNatClampNeg x2))] (mt_X3_isBit rfl) lk_X3_239 yd_X3_isBit rfl rfl rfl dX3_winsOf_27 rfl rfl rfl ?_
      refine gw_if_eqB X 37 33 dX3_winsOf_30 rfl rfl (fun z => ?_) (fun z => ?_)
      · replace hp := gw_f z hp
        refine gw_iconst X 38 dX3_winsOf_37 rfl gw_ci_0 ?_
        cases hp
        exact gw_lv [0, 2] rfl kJ
      · replace hp := gw_t z hp
        refine gw_iconst X 34 dX3_winsOf_33 rfl gw_ci_1 ?_
        refine gw_goto X 38 dX3_winsOf_34 rfl ?_
        cases hp
        exact gw_lv [0, 2] rfl kJ
