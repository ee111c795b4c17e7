set_option maxRecDepth 100000
abbrev rm_X0_wins : Room := { frames := 16, cells := 384, slots := 1024, locals := 821 }
def fx_X0_wins (σ : gw_S) (x1 : Int32) (x2 : Int32) : Option (Int32 × gw_S) := (if fx_X0_isSet σ x1 = true then (if fx_X0_isPerson σ (Int32.toInt64 x2) = true then (if fx_X0_isOf x1 x2 = true then gw_b1 (fx_X0_asItIs σ) (fun σ1 => gw_b1 (fx_X0_winsBy σ1 x1 x2) (fun r3 => some (r3, σ1))) else some ((-10000), σ)) else some ((-10000), σ)) else some ((-10000), σ))
set_option maxHeartbeats 4000000 in
theorem mt_X0_wins {l : Launch} {D : gw_D} {a : Nat → Nat} {Wr : va_W → Prop} {σ : gw_S} {x1 : Int32} {x2 : Int32} {res : Int32 × gw_S} (hp : fx_X0_wins σ x1 x2 = some res) : gw_Ct D l yX0_wins cX0_wins 3 (some .int) rm_X0_wins [.ref (a 0), .int x1, .int x2] (gw_st (wX D a σ) (gw_sp (gK D a) Wr)) (gw_pI res.1 (gw_st (wX D a res.2) (gw_sp (gK D a) Wr))) := by
  refine gw_ct (own := RX0) [(0, .ref (a 0)), (1, .int x1), (2, .int x2)] (by decide) rfl (Nat.le_of_ble_eq_true rfl) rfl ?_
  intro E X
  unfold fx_X0_wins at hp
  refine gw_aload_n X 1 0 dX0_wins_0 rfl rfl rfl ?_
  refine gw_iload_n X 2 1 dX0_wins_1 rfl rfl rfl ?_
  refine gw_callVi X 5 [.int x1] (mt_X0_isSet rfl) lk_X0_361 ydv_X0_isSet gX_cl0 gX_at0 rfl rfl rfl dX0_wins_2 rfl rfl rfl ?_
  refine gw_if_eqB X 25 8 dX0_wins_5 rfl rfl (fun z => ?_) (fun z => ?_)
  · replace hp := gw_f z hp
    refine gw_sipush X 28 dX0_wins_25 rfl gw_cs_m10000 ?_
    cases hp
    exact gw_iret X dX0_wins_28 (fun _ h => ⟨rfl, h⟩) (Nat.le_of_ble_eq_true rfl) (Nat.le_of_ble_eq_true rfl)
  · replace hp := gw_t z hp
    refine gw_aload_n X 9 0 dX0_wins_8 rfl rfl rfl ?_
    refine gw_iload_n X 10 2 dX0_wins_9 rfl rfl rfl ?_
    refine gw_i2l X 11 dX0_wins_10 rfl ?_
    refine gw_callVi X 14 [.long (Int32.toInt64 x2)] (mt_X0_isPerson rfl) lk_X0_186 ydv_X0_isPerson gX_cl0 gX_at0 rfl rfl rfl dX0_wins_11 rfl rfl rfl ?_
    refine gw_if_eqB X 25 17 dX0_wins_14 rfl rfl (fun z => ?_) (fun z => ?_)
    · replace hp := gw_f z hp
      refine gw_sipush X 28 dX0_wins_25 rfl gw_cs_m10000 ?_
      cases hp
      exact gw_iret X dX0_wins_28 (fun _ h => ⟨rfl, h⟩) (Nat.le_of_ble_eq_true rfl) (Nat.le_of_ble_eq_true rfl)
    · replace hp := gw_t z hp
      refine gw_iload_n X 18 1 dX0_wins_17 rfl rfl rfl ?_
      refine gw_iload_n X 19 2 dX0_wins_18 rfl rfl rfl ?_
      refine gw_callSi X 22 [.int x1, .int x2] (mt_X0_isOf rfl) lk_X0_114 yd_X0_isOf rfl rfl rfl dX0_wins_19 rfl rfl rfl ?_
      refine gw_if_neB X 29 25 dX0_wins_22 rfl rfl (fun z => ?_) (fun z => ?_)
      · replace hp := gw_t z hp
        refine gw_aload_n X 30 0 dX0_wins_29 rfl rfl rfl ?_
        obtain ⟨σ1, h2, hp⟩ := gw_b1_some hp
        refine gw_callVv X 33 [] (mt_X0_asItIs h2) lk_X0_190 ydv_X0_asItIs gX_cl0 gX_at0 rfl rfl rfl dX0_wins_30 rfl rfl rfl ?_
        refine gw_aload_n X 34 0 dX0_wins_33 rfl rfl rfl ?_
        refine gw_iload_n X 35 1 dX0_wins_34 rfl rfl rfl ?_
        refine gw_iload_n X 36 2 dX0_wins_35 rfl rfl rfl ?_
        obtain ⟨r3, h4, hp⟩ := gw_b1_some hp
        refine gw_callVi X 39 [.int x1, .int x2] (mt_X0_winsBy h4) lk_X0_358 ydv_X0_winsBy gX_cl0 gX_at0 rfl rfl rfl dX0_wins_36 rfl rfl rfl ?_
        cases hp
        exact gw_iret X dX0_wins_39 (fun _ h => ⟨rfl, h⟩) (Nat.le_of_ble_eq_true rfl) (Nat.le_of_ble_eq_true rfl)
      · replace hp := gw_f z hp
        refine gw_sipush X 28 dX0_wins_25 rfl gw_cs_m10000 ?_
        cases hp
        exact gw_iret X dX0_wins_28 (fun _ h => ⟨rfl, h⟩) (Nat.le_of_ble_eq_true rfl) (Nat.le_of_ble_eq_true rfl)
abbrev rm_X0_leave : Room := { frames := 16, cells := 384, slots := 1024, locals := 821 }
def fx_X0_leave (σ : gw_S) (x1 : Int32) : Option (Int32 × gw_S) := (if fx_X0_isSet σ x1 = true then gw_b1 (fx_X0_asItIs σ) (fun σ1 => gw_b1 (fx_X0_leaving σ1 x1) (fun r3 => some (r3, σ1))) else some ((-2), σ))
set_option maxHeartbeats 4000000 in
theorem mt_X0_leave {l : Launch} {D : gw_D} {a : Nat → Nat} {Wr : va_W → Prop} {σ : gw_S} {x1 : Int32} {res : Int32 × gw_S} (hp : fx_X0_leave σ x1 = some res) : gw_Ct D l yX0_leave cX0_leave 2 (some .int) rm_X0_leave [.ref (a 0), .int x1] (gw_st (wX D a σ) (gw_sp (gK D a) Wr)) (gw_pI res.1 (gw_st (wX D a res.2) (gw_sp (gK D a) Wr))) := by
  refine gw_ct (own := RX0) [(0, .ref (a 0)), (1, .int x1)] (by decide) rfl (Nat.le_of_ble_eq_true rfl) rfl ?_
  intro E X
  unfold fx_X0_leave at hp
  refine gw_aload_n X 1 0 dX0_leave_0 rfl rfl rfl ?_
  refine gw_iload_n X 2 1 dX0_leave_1 rfl rfl rfl ?_
  refine gw_callVi X 5 [.int x1] (mt_X0_isSet rfl) lk_X0_361 ydv_X0_isSet gX_cl0 gX_at0 rfl rfl rfl dX0_leave_2 rfl rfl rfl ?_
  refine gw_if_neB X 11 8 dX0_leave_5 rfl rfl (fun z => ?_) (fun z => ?_)
  · replace hp := gw_t z hp
    refine gw_aload_n X 12 0 dX0_leave_11 rfl rfl rfl ?_
    obtain ⟨σ1, h2, hp⟩ := gw_b1_some hp
    refine gw_callVv X 15 [] (mt_X0_asItIs h2) lk_X0_190 ydv_X0_asItIs gX_cl0 gX_at0 rfl rfl rfl dX0_leave_12 rfl rfl rfl ?_
    refine gw_aload_n X 16 0 dX0_leave_15 rfl rfl rfl ?_
    refine gw_iload_n X 17 1 dX0_leave_16 rfl rfl rfl ?_
    obtain ⟨r3, h4, hp⟩ := gw_b1_some hp
    refine gw_callVi X 20 [.int x1] (mt_X0_leaving h4) lk_X0_364 ydv_X0_leaving gX_cl0 gX_at0 rfl rfl rfl dX0_leave_17 rfl rfl rfl ?_
    cases hp
    exact gw_iret X dX0_leave_20 (fun _ h => ⟨rfl, h⟩) (Nat.le_of_ble_eq_true rfl) (Nat.le_of_ble_eq_true rfl)
  · replace hp := gw_f z hp
    refine gw_bipush X 10 dX0_leave_8 rfl gw_cb_m2 ?_
    cases hp
    exact gw_iret X dX0_leave_10 (fun _ h => ⟨rfl, h⟩) (Nat.le_of_ble_eq_true rfl) (Nat.le_of_ble_eq_true rfl)
abbrev rm_X0_ransom : Room := { frames := 16, cells := 384, slots := 1024, locals := 821 }
def fx_X0_ransom (σ : gw_S) (x1 : Int32) (x2 : Int32) : Option (Int32 × gw_S) := (if fx_X0_isPerson σ (Int32.toInt64 x1) = true then (if fx_X0_isPerson σ (Int32.toInt64 x2) = true then gw_b1 (fx_X0_asItIs σ) (fun σ1 => gw_b1 (fx_X0_ransomOf σ1 x1 x2) (fun r3 => (if r3 = (-1 : Int32) then some ((-1), σ1) else gw_ck r3 8 (some (σ1.1 9 (Int32.toNatClampNeg r3), σ1))))) else some ((-2), σ)) else some ((-2), σ))
set_option maxHeartbeats 4000000 in
theorem mt_X0_ransom {l : Launch} {D : gw_D} {a : Nat → Nat} {Wr : va_W → Prop} {σ : gw_S} {x1 : Int32} {x2 : Int32} {res : Int32 × gw_S} (hp : fx_X0_ransom σ x1 x2 = some res) : gw_Ct D l yX0_ransom cX0_ransom 4 (some .int) rm_X0_ransom [.ref (a 0), .int x1, .int x2] (gw_st (wX D a σ) (gw_sp (gK D a) Wr)) (gw_pI res.1 (gw_st (wX D a res.2) (gw_sp (gK D a) Wr))) := by
  refine gw_ct (own := RX0) [(0, .ref (a 0)), (1, .int x1), (2, .int x2)] (by decide) rfl (Nat.le_of_ble_eq_true rfl) rfl ?_
  intro E X
  unfold fx_X0_ransom at hp
  refine gw_aload_n X 1 0 dX0_ransom_0 rfl rfl rfl ?_
  refine gw_iload_n X 2 1 dX0_ransom_1 rfl rfl rfl ?_
  refine gw_i2l X 3 dX0_ransom_2 rfl ?_
  refine gw_callVi X 6 [.long (Int32.toInt64 x1)] (mt_X0_isPerson rfl) lk_X0_186 ydv_X0_isPerson gX_cl0 gX_at0 rfl rfl rfl dX0_ransom_3 rfl rfl rfl ?_
  refine gw_if_eqB X 18 9 dX0_ransom_6 rfl rfl (fun z => ?_) (fun z => ?_)
  · replace hp := gw_f z hp
    refine gw_bipush X 20 dX0_ransom_18 rfl gw_cb_m2 ?_
    cases hp
    exact gw_iret X dX0_ransom_20 (fun _ h => ⟨rfl, h⟩) (Nat.le_of_ble_eq_true rfl) (Nat.le_of_ble_eq_true rfl)
  · replace hp := gw_t z hp
    refine gw_aload_n X 10 0 dX0_ransom_9 rfl rfl rfl ?_
    refine gw_iload_n X 11 2 dX0_ransom_10 rfl rfl rfl ?_
    refine gw_i2l X 12 dX0_ransom_11 rfl ?_
    refine gw_callVi X 15 [.long (Int32.toInt64 x2)] (mt_X0_isPerson rfl) lk_X0_186 ydv_X0_isPerson gX_cl0 gX_at0 rfl rfl rfl dX0_ransom_12 rfl rfl rfl ?_
    refine gw_if_neB X 21 18 dX0_ransom_15 rfl rfl (fun z => ?_) (fun z => ?_)
    · replace hp := gw_t z hp
      refine gw_aload_n X 22 0 dX0_ransom_21 rfl rfl rfl ?_
      obtain ⟨σ1, h2, hp⟩ := gw_b1_some hp
      refine gw_callVv X 25 [] (mt_X0_asItIs h2) lk_X0_190 ydv_X0_asItIs gX_cl0 gX_at0 rfl rfl rfl dX0_ransom_22 rfl rfl rfl ?_
      refine gw_aload_n X 26 0 dX0_ransom_25 rfl rfl rfl ?_
      refine gw_iload_n X 27 1 dX0_ransom_26 rfl rfl rfl ?_
      refine gw_iload_n X 28 2 dX0_ransom_27 rfl rfl rfl ?_
      obtain ⟨r3, h4, hp⟩ := gw_b1_some hp
      refine gw_callVi X 31 [.int x1, .int x2] (mt_X0_ransomOf h4) lk_X0_367 ydv_X0_ransomOf gX_cl0 gX_at0 rfl rfl rfl dX0_ransom_28 rfl rfl rfl ?_
      refine gw_istore_n X 32 [(3, .int r3), (0, .ref (a 0)), (1, .int x1), (2, .int x2)] dX0_ransom_31 rfl rfl (by decide) rfl ?_
      refine gw_iload_n X 33 0 dX0_ransom_32 rfl rfl rfl ?_
      refine gw_iconst X 34 dX0_ransom_33 rfl gw_ci_m1 ?_
      refine gw_icmp_ne X 41 37 dX0_ransom_34 rfl rfl (fun z => ?_) (fun z => ?_)
      · replace hp := gw_f z hp
        refine gw_aload_n X 42 1 dX0_ransom_41 rfl rfl rfl ?_
        refine gX_g0_0 X 45 q280 dX0_ransom_42 rfl ?_
        refine gX_g1_6N X 48 q204 dX0_ransom_45 rfl ?_
        refine gw_iload_n X 49 0 dX0_ransom_48 rfl rfl rfl ?_
        obtain ⟨hc, hp⟩ := gw_ck_some hp
        refine gX_l9 X 50 (Int32.toNatClampNeg r3) hc rfl dX0_ransom_49 rfl ?_
        cases hp
        exact gw_iret X dX0_ransom_50 (fun _ h => ⟨rfl, h⟩) (Nat.le_of_ble_eq_true rfl) (Nat.le_of_ble_eq_true rfl)
      · replace hp := gw_t z hp
        refine gw_iconst X 38 dX0_ransom_37 rfl gw_ci_m1 ?_
        refine gw_goto X 50 dX0_ransom_38 rfl ?_
        cases hp
        exact gw_iret X dX0_ransom_50 (fun _ h => ⟨rfl, h⟩) (Nat.le_of_ble_eq_true rfl) (Nat.le_of_ble_eq_true rfl)
    · replace hp := gw_f z hp
      refine gw_bipush X 20 dX0_ransom_18 rfl gw_cb_m2 ?_
      cases hp
      exact gw_iret X dX0_ransom_20 (fun _ h => ⟨rfl, h⟩) (Nat.le_of_ble_eq_true rfl) (Nat.le_of_ble_eq_true rfl)
abbrev rm_X0_ransomed : Room := { frames := 16, cells := 384, slots := 1024, locals := 821 }
def fx_X0_ransomed (σ : gw_S) (x1 : Int32) (x2 : Int32) : Option (Int32 × gw_S) := (if fx_X0_isPerson σ (Int32.toInt64 x1) = true then (if fx_X0_isPerson σ (Int32.toInt64 x2) = true then gw_b1 (fx_X0_asItIs σ) (fun σ1 => gw_b1 (fx_X0_ransomOf σ1 x1 x2) (fun r3 => some (r3, σ1))) else some ((-2), σ)) else some ((-2), σ))
set_option maxHeartbeats 4000000 in
theorem mt_X0_ransomed {l : Launch} {D : gw_D} {a : Nat → Nat} {Wr : va_W → Prop} {σ : gw_S} {x1 : Int32} {x2 : Int32} {res : Int32 × gw_S} (hp : fx_X0_ransomed σ x1 x2 = some res) : gw_Ct D l yX0_ransomed cX0_ransomed 3 (some .int) rm_X0_ransomed [.ref (a 0), .int x1, .int x2] (gw_st (wX D a σ) (gw_sp (gK D a) Wr)) (gw_pI res.1 (gw_st (wX D a res.2) (gw_sp (gK D a) Wr))) := by
  refine gw_ct (own := RX0) [(0, .ref (a 0)), (1, .int x1), (2, .int x2)] (by decide) rfl (Nat.le_of_ble_eq_true rfl) rfl ?_
  intro E X
  unfold fx_X0_ransomed at hp
  refine gw_aload_n X 1 0 dX0_ransomed_0 rfl rfl rfl ?_
  refine gw_iload_n X 2 1 dX0_ransomed_1 rfl rfl rfl ?_
  refine gw_i2l X 3 dX0_ransomed_2 rfl ?_
  refine gw_callVi X 6 [.long (Int32.toInt64 x1)] (mt_X0_isPerson rfl) lk_X0_186 ydv_X0_isPerson gX_cl0 gX_at0 rfl rfl rfl dX0_ransomed_3 rfl rfl rfl ?_
  refine gw_if_eqB X 18 9 dX0_ransomed_6 rfl rfl (fun z => ?_) (fun z => ?_)
  · replace hp := gw_f z hp
    refine gw_bipush X 20 dX0_ransomed_18 rfl gw_cb_m2 ?_
    cases hp
    exact gw_iret X dX0_ransomed_20 (fun _ h => ⟨rfl, h⟩) (Nat.le_of_ble_eq_true rfl) (Nat.le_of_ble_eq_true rfl)
  · replace hp := gw_t z hp
    refine gw_aload_n X 10 0 dX0_ransomed_9 rfl rfl rfl ?_
    refine gw_iload_n X 11 2 dX0_ransomed_10 rfl rfl rfl ?_
    refine gw_i2l X 12 dX0_ransomed_11 rfl ?_
    refine gw_callVi X 15 [.long (Int32.toInt64 x2)] (mt_X0_isPerson rfl) lk_X0_186 ydv_X0_isPerson gX_cl0 gX_at0 rfl rfl rfl dX0_ransomed_12 rfl rfl rfl ?_
    refine gw_if_neB X 21 18 dX0_ransomed_15 rfl rfl (fun z => ?_) (fun z => ?_)
    · replace hp := gw_t z hp
      refine gw_aload_n X 22 0 dX0_ransomed_21 rfl rfl rfl ?_
      obtain ⟨σ1, h2, hp⟩ := gw_b1_some hp
      refine gw_callVv X 25 [] (mt_X0_asItIs h2) lk_X0_190 ydv_X0_asItIs gX_cl0 gX_at0 rfl rfl rfl dX0_ransomed_22 rfl rfl rfl ?_
      refine gw_aload_n X 26 0 dX0_ransomed_25 rfl rfl rfl ?_
      refine gw_iload_n X 27 1 dX0_ransomed_26 rfl rfl rfl ?_
      refine gw_iload_n X 28 2 dX0_ransomed_27 rfl rfl rfl ?_
      obtain ⟨r3, h4, hp⟩ := gw_b1_some hp
      refine gw_callVi X 31 [.int x1, .int x2] (mt_X0_ransomOf h4) lk_X0_367 ydv_X0_ransomOf gX_cl0 gX_at0 rfl rfl rfl dX0_ransomed_28 rfl rfl rfl ?_
      cases hp
      exact gw_iret X dX0_ransomed_31 (fun _ h => ⟨rfl, h⟩) (Nat.le_of_ble_eq_true rfl) (Nat.le_of_ble_eq_true rfl)
    · replace hp := gw_f z hp
      refine gw_bipush X 20 dX0_ransomed_18 rfl gw_cb_m2 ?_
      cases hp
      exact gw_iret X dX0_ransomed_20 (fun _ h => ⟨rfl, h⟩) (Nat.le_of_ble_eq_true rfl) (Nat.le_of_ble_eq_true rfl)
abbrev rm_X0_power : Room := { frames := 16, cells := 384, slots := 1024, locals := 821 }
def fx_X0_power (σ : gw_S) (x1 : Int32) : Option (Int32 × gw_S) := (if fx_X0_isPerson σ (Int32.toInt64 x1) = true then gw_b1 (fx_X0_asItIs σ) (fun σ1 => gw_b1 (fx_X0_powerOf σ1 x1) (fun r3 => some (r3, σ1))) else some ((-2), σ))
set_option maxHeartbeats 4000000 in
theorem mt_X0_power {l : Launch} {D : gw_D} {a : Nat → Nat} {Wr : va_W → Prop} {σ : gw_S} {x1 : Int32} {res : Int32 × gw_S} (hp : fx_X0_power σ x1 = some res) : gw_Ct D l yX0_power cX0_power 2 (some .int) rm_X0_power [.ref (a 0), .int x1] (gw_st (wX D a σ) (gw_sp (gK D a) Wr)) (gw_pI res.1 (gw_st (wX D a res.2) (gw_sp (gK D a) Wr))) := by
  refine gw_ct (own := RX0) [(0, .ref (a 0)), (1, .int x1)] (by decide) rfl (Nat.le_of_ble_eq_true rfl) rfl ?_
  intro E X
  unfold fx_X0_power at hp
  refine gw_aload_n X 1 0 dX0_power_0 rfl rfl rfl ?_
  refine gw_iload_n X 2 1 dX0_power_1 rfl rfl rfl ?_
  refine gw_i2l X 3 dX0_power_2 rfl ?_
  refine gw_callVi X 6 [.long (Int32.toInt64 x1)] (mt_X0_isPerson rfl) lk_X0_186 ydv_X0_isPerson gX_cl0 gX_at0 rfl rfl rfl dX0_power_3 rfl rfl rfl ?_
  refine gw_if_neB X 12 9 dX0_power_6 rfl rfl (fun z => ?_) (fun z => ?_)
  · replace hp := gw_t z hp
    refine gw_aload_n X 13 0 dX0_power_12 rfl rfl rfl ?_
    obtain ⟨σ1, h2, hp⟩ := gw_b1_some hp
    refine gw_callVv X 16 [] (mt_X0_asItIs h2) lk_X0_190 ydv_X0_asItIs gX_cl0 gX_at0 rfl rfl rfl dX0_power_13 rfl rfl rfl ?_
    refine gw_aload_n X 17 0 dX0_power_16 rfl rfl rfl ?_
    refine gw_iload_n X 18 1 dX0_power_17 rfl rfl rfl ?_
    obtain ⟨r3, h4, hp⟩ := gw_b1_some hp
    refine gw_callVi X 21 [.int x1] (mt_X0_powerOf h4) lk_X0_370 ydv_X0_powerOf gX_cl0 gX_at0 rfl rfl rfl dX0_power_18 rfl rfl rfl ?_
    cases hp
    exact gw_iret X dX0_power_21 (fun _ h => ⟨rfl, h⟩) (Nat.le_of_ble_eq_true rfl) (Nat.le_of_ble_eq_true rfl)
  · replace hp := gw_f z hp
    refine gw_bipush X 11 dX0_power_9 rfl gw_cb_m2 ?_
    cases hp
    exact gw_iret X dX0_power_11 (fun _ h => ⟨rfl, h⟩) (Nat.le_of_ble_eq_true rfl) (Nat.le_of_ble_eq_true rfl)
abbrev rm_X0_mighty : Room := { frames := 16, cells := 384, slots := 1024, locals := 821 }
def fx_X0_mighty_L18 (σ : gw_S)  : Nat → Int32 → Int32 → Option (Int32 × gw_S)
  | 0, _, _ => none
  | n + 1, c1, c2 => (if (σ.1 1 2) ≤ c2 then some (c1, σ) else (if c1 = (-1 : Int32) then fx_X0_mighty_L18 σ n c2 (c2 + 1) else gw_b1 (fx_X0_powerOf σ c2) (fun r3 => gw_b1 (fx_X0_powerOf σ c1) (fun r5 => (if r3 ≤ r5 then fx_X0_mighty_L18 σ n c1 (c2 + 1) else fx_X0_mighty_L18 σ n c2 (c2 + 1))))))
def fx_X0_mighty (σ : gw_S)  : Option (Int32 × gw_S) := (if fx_X0_isCity σ = true then gw_b1 (fx_X0_asItIs σ) (fun σ1 => fx_X0_mighty_L18 σ1 1000 (-1 : Int32) (0 : Int32)) else some ((-2), σ))
set_option maxHeartbeats 4000000 in
theorem wk_X0_mighty_L18 {E : gw_E} {l : Launch} {D : gw_D} {a : Nat → Nat} {Wr : va_W → Prop} {σ : gw_S} {res : Int32 × gw_S} (X : gw_X E cX0_mighty 3 RX0 (some .int) l D rm_X0_mighty (some (gw_pI res.1 (gw_st (wX D a res.2) (gw_sp (gK D a) Wr)))))  : ∀ {n : Nat} {c1 : Int32} {c2 : Int32}, fx_X0_mighty_L18 σ n c1 c2 = some res → gw_W E 18 [(0, .ref (a 0)), (1, .int c1), (2, .int c2)] [] (gw_st (wX D a σ) (gw_sp (gK D a) Wr)) 384 1024 := by
  intro n
  induction n with
  | zero =>
    intro c1 c2 hp
    cases (show none = some res from hp)
  | succ n ih =>
    intro c1 c2 hp
    rw [fx_X0_mighty_L18] at hp
    refine gw_iload_n X 19 2 dX0_mighty_18 rfl rfl rfl ?_
    refine gw_aload_n X 20 0 dX0_mighty_19 rfl rfl rfl ?_
    refine gX_g0_0 X 23 q280 dX0_mighty_20 rfl ?_
    refine gX_g1_2N X 26 q193 dX0_mighty_23 rfl ?_
    refine gw_icmp_ge X 59 29 dX0_mighty_26 rfl rfl (fun z => ?_) (fun z => ?_)
    · replace hp := gw_t z hp
      refine gw_iload_n X 60 1 dX0_mighty_59 rfl rfl rfl ?_
      cases hp
      exact gw_iret X dX0_mighty_60 (fun _ h => ⟨rfl, h⟩) (Nat.le_of_ble_eq_true rfl) (Nat.le_of_ble_eq_true rfl)
    · replace hp := gw_f z hp
      refine gw_iload_n X 30 1 dX0_mighty_29 rfl rfl rfl ?_
      refine gw_iconst X 31 dX0_mighty_30 rfl gw_ci_m1 ?_
      refine gw_icmp_eq X 47 34 dX0_mighty_31 rfl rfl (fun z => ?_) (fun z => ?_)
      · replace hp := gw_t z hp
        refine gw_iload_n X 48 2 dX0_mighty_47 rfl rfl rfl ?_
        refine gw_goto X 52 dX0_mighty_48 rfl ?_
        refine gw_istore_n X 53 [(1, .int c2), (0, .ref (a 0)), (2, .int c2)] dX0_mighty_52 rfl rfl (by decide) rfl ?_
        refine gw_iinc X 56 2 [(2, .int (c2 + 1)), (1, .int c2), (0, .ref (a 0))] dX0_mighty_53 rfl rfl gw_ci_1 (by decide) rfl ?_
        refine gw_goto X 18 dX0_mighty_56 rfl ?_
        refine gw_lv [2, 1, 0] rfl ?_
        exact ih hp
      · replace hp := gw_f z hp
        refine gw_aload_n X 35 0 dX0_mighty_34 rfl rfl rfl ?_
        refine gw_iload_n X 36 2 dX0_mighty_35 rfl rfl rfl ?_
        obtain ⟨r3, h4, hp⟩ := gw_b1_some hp
        refine gw_callVi X 39 [.int c2] (mt_X0_powerOf h4) lk_X0_370 ydv_X0_powerOf gX_cl0 gX_at0 rfl rfl rfl dX0_mighty_36 rfl rfl rfl ?_
        refine gw_aload_n X 40 0 dX0_mighty_39 rfl rfl rfl ?_
        refine gw_iload_n X 41 1 dX0_mighty_40 rfl rfl rfl ?_
        obtain ⟨r5, h6, hp⟩ := gw_b1_some hp
        refine gw_callVi X 44 [.int c1] (mt_X0_powerOf h6) lk_X0_370 ydv_X0_powerOf gX_cl0 gX_at0 rfl rfl rfl dX0_mighty_41 rfl rfl rfl ?_
        refine gw_icmp_le X 51 47 dX0_mighty_44 rfl rfl (fun z => ?_) (fun z => ?_)
        · replace hp := gw_t z hp
          refine gw_iload_n X 52 1 dX0_mighty_51 rfl rfl rfl ?_
          refine gw_istore_n X 53 [(1, .int c1), (0, .ref (a 0)), (2, .int c2)] dX0_mighty_52 rfl rfl (by decide) rfl ?_
          refine gw_iinc X 56 2 [(2, .int (c2 + 1)), (1, .int c1), (0, .ref (a 0))] dX0_mighty_53 rfl rfl gw_ci_1 (by decide) rfl ?_
          refine gw_goto X 18 dX0_mighty_56 rfl ?_
          refine gw_lv [2, 1, 0] rfl ?_
          exact ih hp
        · replace hp := gw_f z hp
          refine gw_iload_n X 48 2 dX0_mighty_47 rfl rfl rfl ?_
          refine gw_goto X 52 dX0_mighty_48 rfl ?_
          refine gw_istore_n X 53 [(1, .int c2), (0, .ref (a 0)), (2, .int c2)] dX0_mighty_52 rfl rfl (by decide) rfl ?_
          refine gw_iinc X 56 2 [(2, .int (c2 + 1)), (1, .int c2), (0, .ref (a 0))] dX0_mighty_53 rfl rfl gw_ci_1 (by decide) rfl ?_
          refine gw_goto X 18 dX0_mighty_56 rfl ?_
          refine gw_lv [2, 1, 0] rfl ?_
          exact ih hp
set_option maxHeartbeats 4000000 in
theorem mt_X0_mighty {l : Launch} {D : gw_D} {a : Nat → Nat} {Wr : va_W → Prop} {σ : gw_S}  {res : Int32 × gw_S} (hp : fx_X0_mighty σ  = some res) : gw_Ct D l yX0_mighty cX0_mighty 3 (some .int) rm_X0_mighty [.ref (a 0)] (gw_st (wX D a σ) (gw_sp (gK D a) Wr)) (gw_pI res.1 (gw_st (wX D a res.2) (gw_sp (gK D a) Wr))) := by
  refine gw_ct (own := RX0) [(0, .ref (a 0))] (by decide) rfl (Nat.le_of_ble_eq_true rfl) rfl ?_
  intro E X
  unfold fx_X0_mighty at hp
  refine gw_aload_n X 1 0 dX0_mighty_0 rfl rfl rfl ?_
  refine gw_callVi X 4 [] (mt_X0_isCity rfl) lk_X0_103 ydv_X0_isCity gX_cl0 gX_at0 rfl rfl rfl dX0_mighty_1 rfl rfl rfl ?_
  refine gw_if_neB X 10 7 dX0_mighty_4 rfl rfl (fun z => ?_) (fun z => ?_)
  · replace hp := gw_t z hp
    refine gw_aload_n X 11 0 dX0_mighty_10 rfl rfl rfl ?_
    obtain ⟨σ1, h2, hp⟩ := gw_b1_some hp
    refine gw_callVv X 14 [] (mt_X0_asItIs h2) lk_X0_190 ydv_X0_asItIs gX_cl0 gX_at0 rfl rfl rfl dX0_mighty_11 rfl rfl rfl ?_
    refine gw_iconst X 15 dX0_mighty_14 rfl gw_ci_m1 ?_
    refine gw_istore_n X 16 [(1, .int (-1)), (0, .ref (a 0))] dX0_mighty_15 rfl rfl (by decide) rfl ?_
    refine gw_iconst X 17 dX0_mighty_16 rfl gw_ci_0 ?_
    refine gw_istore_n X 18 [(2, .int 0), (1, .int (-1)), (0, .ref (a 0))] dX0_mighty_17 rfl rfl (by decide) rfl ?_
    refine gw_lv [2, 1, 0] rfl ?_
    exact wk_X0_mighty_L18 X hp
  · replace hp := gw_f z hp
    refine gw_bipush X 9 dX0_mighty_7 rfl gw_cb_m2 ?_
    cases hp
    exact gw_iret X dX0_mighty_9 (fun _ h => ⟨rfl, h⟩) (Nat.le_of_ble_eq_true rfl) (Nat.le_of_ble_eq_true rfl)
abbrev rm_X0_covet : Room := { frames := 16, cells := 384, slots := 1024, locals := 821 }
def fx_X0_covet_L27 (v1 : Int32) : Nat → Int32 → Int32 → Int32 → gw_S → Option (Int32 × gw_S)
  | 0, _, _, _, _ => none
  | n + 1, c2, c3, c4, σ => (if (σ.1 1 2) ≤ c4 then some (c3, σ) else gw_ck c4 8 (gw_ck c4 8 (gw_let (gw_u σ 3 (Int32.toNatClampNeg c4) v1) (fun σ5 => gw_b1 (fx_X0_powerOf σ5 v1) (fun r7 => gw_ck c4 8 (gw_let (gw_u σ5 3 (Int32.toNatClampNeg c4) (σ.1 3 (Int32.toNatClampNeg c4))) (fun σ9 => (if c2 < r7 then fx_X0_covet_L27 v1 n r7 c4 (c4 + 1) σ9 else fx_X0_covet_L27 v1 n c2 c3 (c4 + 1) σ9))))))))
def fx_X0_covet (σ : gw_S) (x1 : Int32) : Option (Int32 × gw_S) := (if fx_X0_isPerson σ (Int32.toInt64 x1) = true then gw_b1 (fx_X0_asItIs σ) (fun σ1 => gw_b1 (fx_X0_powerOf σ1 x1) (fun r3 => fx_X0_covet_L27 x1 1000 r3 (-1 : Int32) (0 : Int32) σ1)) else some ((-2), σ))
set_option maxHeartbeats 4000000 in
theorem wk_X0_covet_L27 {E : gw_E} {l : Launch} {D : gw_D} {a : Nat → Nat} {Wr : va_W → Prop} {res : Int32 × gw_S} (X : gw_X E cX0_covet 7 RX0 (some .int) l D rm_X0_covet (some (gw_pI res.1 (gw_st (wX D a res.2) (gw_sp (gK D a) Wr))))) {v1 : Int32} : ∀ {n : Nat} {c2 : Int32} {c3 : Int32} {c4 : Int32} {σ : gw_S}, fx_X0_covet_L27 v1 n c2 c3 c4 σ = some res → gw_W E 27 [(0, .ref (a 0)), (1, .int v1), (2, .int c2), (3, .int c3), (4, .int c4)] [] (gw_st (wX D a σ) (gw_sp (gK D a) Wr)) 384 1024 := by
  intro n
  induction n with
  | zero =>
    intro c2 c3 c4 σ hp
    cases (show none = some res from hp)
  | succ n ih =>
    intro c2 c3 c4 σ hp
    rw [fx_X0_covet_L27] at hp
    refine gw_iload X 29 4 dX0_covet_27 rfl rfl ?_
    refine gw_aload_n X 30 0 dX0_covet_29 rfl rfl rfl ?_
    refine gX_g0_0 X 33 q280 dX0_covet_30 rfl ?_
    refine gX_g1_2N X 36 q193 dX0_covet_33 rfl ?_
    refine gw_icmp_ge X 93 39 dX0_covet_36 rfl rfl (fun z => ?_) (fun z => ?_)
    · replace hp := gw_t z hp
      refine gw_iload_n X 94 3 dX0_covet_93 rfl rfl rfl ?_
      cases hp
      exact gw_iret X dX0_covet_94 (fun _ h => ⟨rfl, h⟩) (Nat.le_of_ble_eq_true rfl) (Nat.le_of_ble_eq_true rfl)
    · replace hp := gw_f z hp
      refine gw_aload_n X 40 0 dX0_covet_39 rfl rfl rfl ?_
      refine gX_g0_9 X 43 q303 dX0_covet_40 rfl ?_
      refine gw_iload X 45 4 dX0_covet_43 rfl rfl ?_
      obtain ⟨hc, hp⟩ := gw_ck_some hp
      refine gX_l3 X 46 (Int32.toNatClampNeg c4) hc rfl dX0_covet_45 rfl ?_
      refine gw_istore X 48 [(5, .int (σ.1 3 (Int32.toNatClampNeg c4))), (0, .ref (a 0)), (1, .int v1), (2, .int c2), (3, .int c3), (4, .int c4)] dX0_covet_46 rfl (by decide) rfl ?_
      refine gw_aload_n X 49 1 dX0_covet_48 rfl rfl rfl ?_
      refine gX_g0_9 X 52 q303 dX0_covet_49 rfl ?_
      refine gw_iload X 54 5 dX0_covet_52 rfl rfl ?_
      refine gw_iload_n X 55 2 dX0_covet_54 rfl rfl rfl ?_
      obtain ⟨hc, hp⟩ := gw_ck_some hp
      refine gX_s3 X 56 (Int32.toNatClampNeg c4) hc rfl dX0_covet_55 rfl ?_
      refine gw_aload_n X 57 1 dX0_covet_56 rfl rfl rfl ?_
      refine gw_iload_n X 58 2 dX0_covet_57 rfl rfl rfl ?_
      obtain ⟨σ5, h6, hp⟩ := gw_let_some hp
      rw [← h6]
      clear h6
      obtain ⟨r7, h8, hp⟩ := gw_b1_some hp
      refine gw_callVi X 61 [.int v1] (mt_X0_powerOf h8) lk_X0_370 ydv_X0_powerOf gX_cl0 gX_at0 rfl rfl rfl dX0_covet_58 rfl rfl rfl ?_
      refine gw_istore X 63 [(6, .int r7), (5, .int (σ.1 3 (Int32.toNatClampNeg c4))), (0, .ref (a 0)), (1, .int v1), (2, .int c2), (3, .int c3), (4, .int c4)] dX0_covet_61 rfl (by decide) rfl ?_
      refine gw_aload_n X 64 2 dX0_covet_63 rfl rfl rfl ?_
      refine gX_g0_9 X 67 q303 dX0_covet_64 rfl ?_
      refine gw_iload X 69 6 dX0_covet_67 rfl rfl ?_
      refine gw_iload X 71 1 dX0_covet_69 rfl rfl ?_
      obtain ⟨hc, hp⟩ := gw_ck_some hp
      refine gX_s3 X 72 (Int32.toNatClampNeg c4) hc rfl dX0_covet_71 rfl ?_
      refine gw_iload X 74 0 dX0_covet_72 rfl rfl ?_
      refine gw_iload_n X 75 4 dX0_covet_74 rfl rfl rfl ?_
      obtain ⟨σ9, h10, hp⟩ := gw_let_some hp
      rw [← h10]
      clear h10
      refine gw_icmp_gt X 81 78 dX0_covet_75 rfl rfl (fun z => ?_) (fun z => ?_)
      · replace hp := gw_t z hp
        refine gw_iload X 83 0 dX0_covet_81 rfl rfl ?_
        refine gw_istore_n X 84 [(2, .int r7), (6, .int r7), (5, .int (σ.1 3 (Int32.toNatClampNeg c4))), (0, .ref (a 0)), (1, .int v1), (3, .int c3), (4, .int c4)] dX0_covet_83 rfl rfl (by decide) rfl ?_
        refine gw_iload X 86 6 dX0_covet_84 rfl rfl ?_
        refine gw_istore_n X 87 [(3, .int c4), (2, .int r7), (6, .int r7), (5, .int (σ.1 3 (Int32.toNatClampNeg c4))), (0, .ref (a 0)), (1, .int v1), (4, .int c4)] dX0_covet_86 rfl rfl (by decide) rfl ?_
        refine gw_iinc X 90 6 [(4, .int (c4 + 1)), (3, .int c4), (2, .int r7), (6, .int r7), (5, .int (σ.1 3 (Int32.toNatClampNeg c4))), (0, .ref (a 0)), (1, .int v1)] dX0_covet_87 rfl rfl gw_ci_1 (by decide) rfl ?_
        refine gw_goto X 27 dX0_covet_90 rfl ?_
        refine gw_lv [5, 6, 2, 1, 0] rfl ?_
        exact ih hp
      · replace hp := gw_f z hp
        refine gw_goto X 87 dX0_covet_78 rfl ?_
        refine gw_iinc X 90 6 [(4, .int (c4 + 1)), (6, .int r7), (5, .int (σ.1 3 (Int32.toNatClampNeg c4))), (0, .ref (a 0)), (1, .int v1), (2, .int c2), (3, .int c3)] dX0_covet_87 rfl rfl gw_ci_1 (by decide) rfl ?_
        refine gw_goto X 27 dX0_covet_90 rfl ?_
        refine gw_lv [3, 4, 5, 6, 0] rfl ?_
        exact ih hp
set_option maxHeartbeats 4000000 in
theorem mt_X0_covet {l : Launch} {D : gw_D} {a : Nat → Nat} {Wr : va_W → Prop} {σ : gw_S} {x1 : Int32} {res : Int32 × gw_S} (hp : fx_X0_covet σ x1 = some res) : gw_Ct D l yX0_covet cX0_covet 7 (some .int) rm_X0_covet [.ref (a 0), .int x1] (gw_st (wX D a σ) (gw_sp (gK D a) Wr)) (gw_pI res.1 (gw_st (wX D a res.2) (gw_sp (gK D a) Wr))) := by
  refine gw_ct (own := RX0) [(0, .ref (a 0)), (1, .int x1)] (by decide) rfl (Nat.le_of_ble_eq_true rfl) rfl ?_
  intro E X
  unfold fx_X0_covet at hp
  refine gw_aload_n X 1 0 dX0_covet_0 rfl rfl rfl ?_
  refine gw_iload_n X 2 1 dX0_covet_1 rfl rfl rfl ?_
  refine gw_i2l X 3 dX0_covet_2 rfl ?_
  refine gw_callVi X 6 [.long (Int32.toInt64 x1)] (mt_X0_isPerson rfl) lk_X0_186 ydv_X0_isPerson gX_cl0 gX_at0 rfl rfl rfl dX0_covet_3 rfl rfl rfl ?_
  refine gw_if_neB X 12 9 dX0_covet_6 rfl rfl (fun z => ?_) (fun z => ?_)
  · replace hp := gw_t z hp
    refine gw_aload_n X 13 0 dX0_covet_12 rfl rfl rfl ?_
    obtain ⟨σ1, h2, hp⟩ := gw_b1_some hp
    refine gw_callVv X 16 [] (mt_X0_asItIs h2) lk_X0_190 ydv_X0_asItIs gX_cl0 gX_at0 rfl rfl rfl dX0_covet_13 rfl rfl rfl ?_
    refine gw_aload_n X 17 0 dX0_covet_16 rfl rfl rfl ?_
    refine gw_iload_n X 18 1 dX0_covet_17 rfl rfl rfl ?_
    obtain ⟨r3, h4, hp⟩ := gw_b1_some hp
    refine gw_callVi X 21 [.int x1] (mt_X0_powerOf h4) lk_X0_370 ydv_X0_powerOf gX_cl0 gX_at0 rfl rfl rfl dX0_covet_18 rfl rfl rfl ?_
    refine gw_istore_n X 22 [(2, .int r3), (0, .ref (a 0)), (1, .int x1)] dX0_covet_21 rfl rfl (by decide) rfl ?_
    refine gw_iconst X 23 dX0_covet_22 rfl gw_ci_m1 ?_
    refine gw_istore_n X 24 [(3, .int (-1)), (2, .int r3), (0, .ref (a 0)), (1, .int x1)] dX0_covet_23 rfl rfl (by decide) rfl ?_
    refine gw_iconst X 25 dX0_covet_24 rfl gw_ci_0 ?_
    refine gw_istore X 27 [(4, .int 0), (3, .int (-1)), (2, .int r3), (0, .ref (a 0)), (1, .int x1)] dX0_covet_25 rfl (by decide) rfl ?_
    refine gw_lv [3, 4, 2, 1, 0] rfl ?_
    exact wk_X0_covet_L27 X hp
  · replace hp := gw_f z hp
    refine gw_bipush X 11 dX0_covet_9 rfl gw_cb_m2 ?_
    cases hp
    exact gw_iret X dX0_covet_11 (fun _ h => ⟨rfl, h⟩) (Nat.le_of_ble_eq_true rfl) (Nat.le_of_ble_eq_true rfl)
abbrev rm_X0_goesBy : Room := { frames := 14, cells := 126, slots := 336, locals := 700 }
def fx_X0_goesBy_L8 (ρ : gw_R) (v1 : Int32) : Nat → Int32 → Int32 → gw_S → Option (Int32 × gw_S)
  | 0, _, _, _ => none
  | n + 1, c2, c3, σ => gw_ck v1 4 (gw_b1 (ρ (Int32.toNatClampNeg v1)) (fun x_4 => (if (Int32.ofNat x_4.2.1) ≤ c3 then some (c2, σ) else gw_b1 (fx_X0_isDayEnd σ ρ v1 c3) (fun r6 => (if r6 = true then gw_b1 (fx_X11_does_5 σ (0 : Int32) (0 : Int32) (0 : Int32) (0 : Int32)) (fun σ24 => fx_X0_goesBy_L8 ρ v1 n (c2 + 1) (c3 + 3) σ24) else gw_b1 (fx_X0_number σ ρ v1 c3) (fun r8 => gw_b1 (fx_X0_number σ ρ v1 (c3 + (1 : Int32))) (fun r10 => gw_b1 (fx_X0_number σ ρ v1 (c3 + (2 : Int32))) (fun r12 => gw_b1 (fx_X0_whyNot σ r8 r10 r12) (fun r14 => (if r14 = 0 then gw_b1 (fx_X0_number σ ρ v1 c3) (fun r16 => gw_b1 (fx_X0_number σ ρ v1 (c3 + (1 : Int32))) (fun r18 => gw_b1 (fx_X0_number σ ρ v1 (c3 + (2 : Int32))) (fun r20 => gw_b1 (fx_X7_does_1 σ r16 r18 r20 (0 : Int32)) (fun σ22 => fx_X0_goesBy_L8 ρ v1 n (c2 + 1) (c3 + 3) σ22)))) else some (c2, σ)))))))))))
def fx_X0_goesBy (σ : gw_S) (ρ : gw_R) (x1 : Int32) : Option (Int32 × gw_S) := gw_b1 (fx_X0_asAtFirst σ) (fun σ1 => fx_X0_goesBy_L8 ρ x1 21 (0 : Int32) (0 : Int32) σ1)
set_option maxHeartbeats 4000000 in
theorem wk_X0_goesBy_L8 {E : gw_E} {l : Launch} {D : gw_D} {a : Nat → Nat} {Wr : va_W → Prop} {ρ : gw_R} {res : Int32 × gw_S} (X : gw_X E cX0_goesBy 4 RX0 (some .int) l D rm_X0_goesBy (some (gw_pI res.1 (gw_st (wX D a res.2) (gw_sp (gK D a) (gw_sp (gS D a ρ) Wr)))))) {v1 : Int32} : ∀ {n : Nat} {c2 : Int32} {c3 : Int32} {σ : gw_S}, n ≤ 21 → fx_X0_goesBy_L8 ρ v1 n c2 c3 σ = some res → gw_W E 8 [(0, .ref (a 0)), (1, .int v1), (2, .int c2), (3, .int c3)] [] (gw_st (wX D a σ) (gw_sp (gK D a) (gw_sp (gS D a ρ) Wr))) (126 - 6 * n) (336 - 16 * n) := by
  intro n
  induction n with
  | zero =>
    intro c2 c3 σ hn hp
    cases (show none = some res from hp)
  | succ n ih =>
    intro c2 c3 σ hn hp
    rw [fx_X0_goesBy_L8] at hp
    refine gw_iload_n X 9 3 dX0_goesBy_8 rfl rfl rfl ?_
    refine gw_aload_n X 10 0 dX0_goesBy_9 rfl rfl rfl ?_
    refine gX_g0_21 X 13 q318 dX0_goesBy_10 rfl ?_
    refine gw_iload_n X 14 1 dX0_goesBy_13 rfl rfl rfl ?_
    obtain ⟨hc, hp⟩ := gw_ck_some hp
    refine gS_ald X 15 hc dX0_goesBy_14 rfl ?_
    have hj3 := gS_in4 hc
    obtain ⟨x_4, h5, hp⟩ := gw_b1_some hp
    refine gS_size X 18 hj3 h5 lk_X0_309 (by unfold gw_fit; simp only [Bool.and_eq_true, Nat.ble_eq]; omega) rfl dX0_goesBy_15 rfl ?_
    refine gw_icmp_ge X 116 21 dX0_goesBy_18 rfl rfl (fun z => ?_) (fun z => ?_)
    · replace hp := gw_t z hp
      refine gw_iload_n X 117 2 dX0_goesBy_116 rfl rfl rfl ?_
      cases hp
      exact gw_iret X dX0_goesBy_117 (fun _ h => ⟨rfl, h⟩) (by show 126 - 6 * (n + 1) ≤ 126; omega) (by show 336 - 16 * (n + 1) ≤ 336; omega)
    · replace hp := gw_f z hp
      refine gw_aload_n X 22 0 dX0_goesBy_21 rfl rfl rfl ?_
      refine gw_iload_n X 23 1 dX0_goesBy_22 rfl rfl rfl ?_
      refine gw_iload_n X 24 3 dX0_goesBy_23 rfl rfl rfl ?_
      obtain ⟨r6, h7, hp⟩ := gw_b1_some hp
      refine gw_callVi X 27 [.int v1, .int c3] (mt_X0_isDayEnd h7) lk_X0_375 ydv_X0_isDayEnd gX_cl0 gX_at0 (by unfold gw_fit; simp only [Bool.and_eq_true, Nat.ble_eq]; omega) rfl rfl dX0_goesBy_24 rfl rfl rfl ?_
      refine gw_if_eqB X 45 30 dX0_goesBy_27 rfl rfl (fun z => ?_) (fun z => ?_)
      · replace hp := gw_f z hp
        refine gw_aload_n X 46 0 dX0_goesBy_45 rfl rfl rfl ?_
        refine gw_aload_n X 47 0 dX0_goesBy_46 rfl rfl rfl ?_
        refine gw_iload_n X 48 1 dX0_goesBy_47 rfl rfl rfl ?_
        refine gw_iload_n X 49 3 dX0_goesBy_48 rfl rfl rfl ?_
        obtain ⟨r8, h9, hp⟩ := gw_b1_some hp
        refine gw_callVi X 52 [.int v1, .int c3] (mt_X0_number h9) lk_X0_314 ydv_X0_number gX_cl0 gX_at0 (by unfold gw_fit; simp only [Bool.and_eq_true, Nat.ble_eq]; omega) rfl rfl dX0_goesBy_49 rfl rfl rfl ?_
        refine gw_aload_n X 53 0 dX0_goesBy_52 rfl rfl rfl ?_
        refine gw_iload_n X 54 1 dX0_goesBy_53 rfl rfl rfl ?_
        refine gw_iload_n X 55 3 dX0_goesBy_54 rfl rfl rfl ?_
        refine gw_iconst X 56 dX0_goesBy_55 rfl gw_ci_1 ?_
        refine gw_iadd X 57 dX0_goesBy_56 rfl ?_
        obtain ⟨r10, h11, hp⟩ := gw_b1_some hp
        refine gw_callVi X 60 [.int v1, .int (c3 + (1 : Int32))] (mt_X0_number h11) lk_X0_314 ydv_X0_number gX_cl0 gX_at0 (by unfold gw_fit; simp only [Bool.and_eq_true, Nat.ble_eq]; omega) rfl rfl dX0_goesBy_57 rfl rfl rfl ?_
        refine gw_aload_n X 61 0 dX0_goesBy_60 rfl rfl rfl ?_
        refine gw_iload_n X 62 1 dX0_goesBy_61 rfl rfl rfl ?_
        refine gw_iload_n X 63 3 dX0_goesBy_62 rfl rfl rfl ?_
        refine gw_iconst X 64 dX0_goesBy_63 rfl gw_ci_2 ?_
        refine gw_iadd X 65 dX0_goesBy_64 rfl ?_
        obtain ⟨r12, h13, hp⟩ := gw_b1_some hp
        refine gw_callVi X 68 [.int v1, .int (c3 + (2 : Int32))] (mt_X0_number h13) lk_X0_314 ydv_X0_number gX_cl0 gX_at0 (by unfold gw_fit; simp only [Bool.and_eq_true, Nat.ble_eq]; omega) rfl rfl dX0_goesBy_65 rfl rfl rfl ?_
        obtain ⟨r14, h15, hp⟩ := gw_b1_some hp
        refine gw_callVi X 71 [.int r8, .int r10, .int r12] (mt_X0_whyNot h15) lk_X0_245 ydv_X0_whyNot gX_cl0 gX_at0 (by unfold gw_fit; simp only [Bool.and_eq_true, Nat.ble_eq]; omega) rfl rfl dX0_goesBy_68 rfl rfl rfl ?_
        refine gw_if_eq X 76 74 dX0_goesBy_71 rfl rfl (fun z => ?_) (fun z => ?_)
        · replace hp := gw_t z hp
          refine gw_aload_n X 77 0 dX0_goesBy_76 rfl rfl rfl ?_
          refine gw_iconst X 78 dX0_goesBy_77 rfl gw_ci_0 ?_
          refine gw_callV X 81 [.int 0] mt_X0_kind_0 lkd_kind ydd_kind gX_cl0 gX_at0 (by unfold gw_fit; simp only [Bool.and_eq_true, Nat.ble_eq]; omega) rfl rfl dX0_goesBy_78 rfl ?_
          rintro v u ⟨b, rfl, hu⟩
          revert u
          show gw_W E 81 _ (.ref (b 1) :: _) (gw_st (wX D a σ) (gw_st (wK D a b) (gw_sp (gS D a ρ) Wr))) _ _
          refine gw_ww (fun _ => gK_in) ?_
          refine gw_aload_n X 82 0 dX0_goesBy_81 rfl rfl rfl ?_
          refine gw_iload_n X 83 1 dX0_goesBy_82 rfl rfl rfl ?_
          refine gw_iload_n X 84 3 dX0_goesBy_83 rfl rfl rfl ?_
          obtain ⟨r16, h17, hp⟩ := gw_b1_some hp
          refine gw_callVi X 87 [.int v1, .int c3] (mt_X0_number h17) lk_X0_314 ydv_X0_number gX_cl0 gX_at0 (by unfold gw_fit; simp only [Bool.and_eq_true, Nat.ble_eq]; omega) rfl rfl dX0_goesBy_84 rfl rfl rfl ?_
          refine gw_aload_n X 88 0 dX0_goesBy_87 rfl rfl rfl ?_
          refine gw_iload_n X 89 1 dX0_goesBy_88 rfl rfl rfl ?_
          refine gw_iload_n X 90 3 dX0_goesBy_89 rfl rfl rfl ?_
          refine gw_iconst X 91 dX0_goesBy_90 rfl gw_ci_1 ?_
          refine gw_iadd X 92 dX0_goesBy_91 rfl ?_
          obtain ⟨r18, h19, hp⟩ := gw_b1_some hp
          refine gw_callVi X 95 [.int v1, .int (c3 + (1 : Int32))] (mt_X0_number h19) lk_X0_314 ydv_X0_number gX_cl0 gX_at0 (by unfold gw_fit; simp only [Bool.and_eq_true, Nat.ble_eq]; omega) rfl rfl dX0_goesBy_92 rfl rfl rfl ?_
          refine gw_aload_n X 96 0 dX0_goesBy_95 rfl rfl rfl ?_
          refine gw_iload_n X 97 1 dX0_goesBy_96 rfl rfl rfl ?_
          refine gw_iload_n X 98 3 dX0_goesBy_97 rfl rfl rfl ?_
          refine gw_iconst X 99 dX0_goesBy_98 rfl gw_ci_2 ?_
          refine gw_iadd X 100 dX0_goesBy_99 rfl ?_
          obtain ⟨r20, h21, hp⟩ := gw_b1_some hp
          refine gw_callVi X 103 [.int v1, .int (c3 + (2 : Int32))] (mt_X0_number h21) lk_X0_314 ydv_X0_number gX_cl0 gX_at0 (by unfold gw_fit; simp only [Bool.and_eq_true, Nat.ble_eq]; omega) rfl rfl dX0_goesBy_100 rfl rfl rfl ?_
          refine gw_iconst X 104 dX0_goesBy_103 rfl gw_ci_0 ?_
          obtain ⟨σ22, h23, hp⟩ := gw_b1_some hp
          refine gw_ww (fun _ => gK_out) ?_
          refine gw_callAv X 107 [.int r16, .int r18, .int r20, .int 0] (mt_X7_does_1 h23) (gw_gU (x := gK_act) (owner := "CardHolder$Act") q793 q795 q796 q797 q156 q798) q794 gK_act_d gl_cl6 (q0 := 16) (by rintro _ ⟨_, ⟨_, _, rfl⟩, rfl⟩; exact ⟨_, rfl⟩) (by unfold gw_fit; simp only [Bool.and_eq_true, Nat.ble_eq]; omega) rfl rfl dX0_goesBy_104 rfl rfl rfl ?_
          refine gw_ww (fun _ => gK_close) ?_
          refine gw_iinc X 110 2 [(2, .int (c2 + 1)), (0, .ref (a 0)), (1, .int v1), (3, .int c3)] dX0_goesBy_107 rfl rfl gw_ci_1 (by decide) rfl ?_
          refine gw_iinc X 113 3 [(3, .int (c3 + 3)), (2, .int (c2 + 1)), (0, .ref (a 0)), (1, .int v1)] dX0_goesBy_110 rfl rfl gw_ci_3 (by decide) rfl ?_
          refine gw_goto X 8 dX0_goesBy_113 rfl ?_
          refine gw_lv [2, 3, 1, 0] rfl ?_
          refine gw_widen (k' := 126 - 6 * n) (n' := 336 - 16 * n) (by show 126 - 6 * (n + 1) + 6 ≤ 126 - 6 * n; omega) (by show 336 - 16 * (n + 1) + 16 ≤ 336 - 16 * n; omega) ?_
          exact ih (by omega) hp
        · replace hp := gw_f z hp
          refine gw_iload_n X 75 2 dX0_goesBy_74 rfl rfl rfl ?_
          cases hp
          exact gw_iret X dX0_goesBy_75 (fun _ h => ⟨rfl, h⟩) (by show 126 - 6 * (n + 1) ≤ 126; omega) (by show 336 - 16 * (n + 1) ≤ 336; omega)
      · replace hp := gw_t z hp
        refine gw_aload_n X 31 0 dX0_goesBy_30 rfl rfl rfl ?_
        refine gw_iconst X 32 dX0_goesBy_31 rfl gw_ci_4 ?_
        refine gw_callV X 35 [.int 4] mt_X0_kind_4 lkd_kind ydd_kind gX_cl0 gX_at0 (by unfold gw_fit; simp only [Bool.and_eq_true, Nat.ble_eq]; omega) rfl rfl dX0_goesBy_32 rfl ?_
        rintro v u ⟨b, rfl, hu⟩
        revert u
        show gw_W E 35 _ (.ref (b 5) :: _) (gw_st (wX D a σ) (gw_st (wK D a b) (gw_sp (gS D a ρ) Wr))) _ _
        refine gw_ww (fun _ => gK_in) ?_
        refine gw_iconst X 36 dX0_goesBy_35 rfl gw_ci_0 ?_
        refine gw_iconst X 37 dX0_goesBy_36 rfl gw_ci_0 ?_
        refine gw_iconst X 38 dX0_goesBy_37 rfl gw_ci_0 ?_
        refine gw_iconst X 39 dX0_goesBy_38 rfl gw_ci_0 ?_
        obtain ⟨σ24, h25, hp⟩ := gw_b1_some hp
        refine gw_ww (fun _ => gK_out) ?_
        refine gw_callAv X 42 [.int 0, .int 0, .int 0, .int 0] (mt_X11_does_5 h25) (gw_gU (x := gK_act) (owner := "CardHolder$Act") q793 q795 q804 q805 q162 q806) q794 gK_act_d gl_cl10 (q0 := 20) (by rintro _ ⟨_, ⟨_, _, rfl⟩, rfl⟩; exact ⟨_, rfl⟩) (by unfold gw_fit; simp only [Bool.and_eq_true, Nat.ble_eq]; omega) rfl rfl dX0_goesBy_39 rfl rfl rfl ?_
        refine gw_ww (fun _ => gK_close) ?_
        refine gw_goto X 107 dX0_goesBy_42 rfl ?_
        refine gw_iinc X 110 2 [(2, .int (c2 + 1)), (0, .ref (a 0)), (1, .int v1), (3, .int c3)] dX0_goesBy_107 rfl rfl gw_ci_1 (by decide) rfl ?_
        refine gw_iinc X 113 3 [(3, .int (c3 + 3)), (2, .int (c2 + 1)), (0, .ref (a 0)), (1, .int v1)] dX0_goesBy_110 rfl rfl gw_ci_3 (by decide) rfl ?_
        refine gw_goto X 8 dX0_goesBy_113 rfl ?_
        refine gw_lv [2, 3, 1, 0] rfl ?_
        refine gw_widen (k' := 126 - 6 * n) (n' := 336 - 16 * n) (by show 126 - 6 * (n + 1) + 6 ≤ 126 - 6 * n; omega) (by show 336 - 16 * (n + 1) + 16 ≤ 336 - 16 * n; omega) ?_
        exact ih (by omega) hp
set_option maxHeartbeats 4000000 in
theorem mt_X0_goesBy {l : Launch} {D : gw_D} {a : Nat → Nat} {Wr : va_W → Prop} {σ : gw_S} {ρ : gw_R} {x1 : Int32} {res : Int32 × gw_S} (hp : fx_X0_goesBy σ ρ x1 = some res) : gw_Ct D l yX0_goesBy cX0_goesBy 4 (some .int) rm_X0_goesBy [.ref (a 0), .int x1] (gw_st (wX D a σ) (gw_sp (gK D a) (gw_sp (gS D a ρ) Wr))) (gw_pI res.1 (gw_st (wX D a res.2) (gw_sp (gK D a) (gw_sp (gS D a ρ) Wr)))) := by
  refine gw_ct (own := RX0) [(0, .ref (a 0)), (1, .int x1)] (by decide) rfl (Nat.le_of_ble_eq_true rfl) rfl ?_
  intro E X
  unfold fx_X0_goesBy at hp
  refine gw_aload_n X 1 0 dX0_goesBy_0 rfl rfl rfl ?_
  obtain ⟨σ1, h2, hp⟩ := gw_b1_some hp
  refine gw_callVv X 4 [] (mt_X0_asAtFirst h2) lk_X0_140 ydv_X0_asAtFirst gX_cl0 gX_at0 rfl rfl rfl dX0_goesBy_1 rfl rfl rfl ?_
  refine gw_iconst X 5 dX0_goesBy_4 rfl gw_ci_0 ?_
  refine gw_istore_n X 6 [(2, .int 0), (0, .ref (a 0)), (1, .int x1)] dX0_goesBy_5 rfl rfl (by decide) rfl ?_
  refine gw_iconst X 7 dX0_goesBy_6 rfl gw_ci_0 ?_
  refine gw_istore_n X 8 [(3, .int 0), (2, .int 0), (0, .ref (a 0)), (1, .int x1)] dX0_goesBy_7 rfl rfl (by decide) rfl ?_
  refine gw_lv [2, 3, 1, 0] rfl ?_
  exact wk_X0_goesBy_L8 X (n := 21) (Nat.le_refl _) hp
abbrev rm_X0_judge : Room := { frames := 15, cells := 127, slots := 344, locals := 10291 }
def fx_X0_judge (σ : gw_S) (ρ : gw_R) (x1 : Int32) : Option (Int32 × gw_S) := gw_b1 (fx_X0_asksRow σ ρ x1) (fun r1 => (if 0 ≤ r1 then gw_b2 (fx_X0_goesBy σ ρ x1) (fun r3 σ4 => some (r3, σ4)) else some (r1, σ)))
set_option maxHeartbeats 4000000 in
theorem mt_X0_judge {l : Launch} {D : gw_D} {a : Nat → Nat} {Wr : va_W → Prop} {σ : gw_S} {ρ : gw_R} {x1 : Int32} {res : Int32 × gw_S} (hp : fx_X0_judge σ ρ x1 = some res) : gw_Ct D l yX0_judge cX0_judge 3 (some .int) rm_X0_judge [.ref (a 0), .int x1] (gw_st (wX D a σ) (gw_sp (gK D a) (gw_sp (gS D a ρ) Wr))) (gw_pI res.1 (gw_st (wX D a res.2) (gw_sp (gK D a) (gw_sp (gS D a ρ) Wr)))) := by
  refine gw_ct (own := RX0) [(0, .ref (a 0)), (1, .int x1)] (by decide) rfl (Nat.le_of_ble_eq_true rfl) rfl ?_
  intro E X
  unfold fx_X0_judge at hp
  refine gw_aload_n X 1 0 dX0_judge_0 rfl rfl rfl ?_
  refine gw_iload_n X 2 1 dX0_judge_1 rfl rfl rfl ?_
  obtain ⟨r1, h2, hp⟩ := gw_b1_some hp
  refine gw_callWi X 5 [.int x1] (mt_X0_asksRow h2) lk_X0_378 ydv_X0_asksRow gX_cl0 gX_at0 rfl rfl rfl dX0_judge_2 rfl rfl rfl ?_
  refine gw_istore_n X 6 [(2, .int r1), (0, .ref (a 0)), (1, .int x1)] dX0_judge_5 rfl rfl (by decide) rfl ?_
  refine gw_iload_n X 7 0 dX0_judge_6 rfl rfl rfl ?_
  refine gw_if_ge X 14 10 dX0_judge_7 rfl rfl (fun z => ?_) (fun z => ?_)
  · replace hp := gw_t z hp
    refine gw_aload_n X 15 1 dX0_judge_14 rfl rfl rfl ?_
    refine gw_iload_n X 16 2 dX0_judge_15 rfl rfl rfl ?_
    obtain ⟨r3, σ4, h5, hp⟩ := gw_b2_some hp
    refine gw_callVi X 19 [.int x1] (mt_X0_goesBy h5) lk_X0_381 ydv_X0_goesBy gX_cl0 gX_at0 rfl rfl rfl dX0_judge_16 rfl rfl rfl ?_
    cases hp
    exact gw_iret X dX0_judge_19 (fun _ h => ⟨rfl, h⟩) (Nat.le_of_ble_eq_true rfl) (Nat.le_of_ble_eq_true rfl)
  · replace hp := gw_f z hp
    refine gw_iload_n X 11 0 dX0_judge_10 rfl rfl rfl ?_
    refine gw_goto X 19 dX0_judge_11 rfl ?_
    cases hp
    exact gw_iret X dX0_judge_19 (fun _ h => ⟨rfl, h⟩) (Nat.le_of_ble_eq_true rfl) (Nat.le_of_ble_eq_true rfl)
abbrev rm_X0_freed : Room := { frames := 15, cells := 127, slots := 344, locals := 10291 }
def fx_X0_freed (σ : gw_S) (ρ : gw_R) (x1 : Int32) : Option (Int32 × gw_S) := gw_b1 (fx_X0_asksRow σ ρ x1) (fun r1 => (if 0 ≤ r1 then gw_b2 (fx_X0_goesBy σ ρ x1) (fun r3 σ4 => gw_b1 (fx_X0_handOf σ4 (-1 : Int32)) (fun r6 => some (r6, σ4))) else some (r1, σ)))
set_option maxHeartbeats 4000000 in
theorem mt_X0_freed {l : Launch} {D : gw_D} {a : Nat → Nat} {Wr : va_W → Prop} {σ : gw_S} {ρ : gw_R} {x1 : Int32} {res : Int32 × gw_S} (hp : fx_X0_freed σ ρ x1 = some res) : gw_Ct D l yX0_freed cX0_freed 3 (some .int) rm_X0_freed [.ref (a 0), .int x1] (gw_st (wX D a σ) (gw_sp (gK D a) (gw_sp (gS D a ρ) Wr))) (gw_pI res.1 (gw_st (wX D a res.2) (gw_sp (gK D a) (gw_sp (gS D a ρ) Wr)))) := by
  refine gw_ct (own := RX0) [(0, .ref (a 0)), (1, .int x1)] (by decide) rfl (Nat.le_of_ble_eq_true rfl) rfl ?_
  intro E X
  unfold fx_X0_freed at hp
  refine gw_aload_n X 1 0 dX0_freed_0 rfl rfl rfl ?_
  refine gw_iload_n X 2 1 dX0_freed_1 rfl rfl rfl ?_
  obtain ⟨r1, h2, hp⟩ := gw_b1_some hp
  refine gw_callWi X 5 [.int x1] (mt_X0_asksRow h2) lk_X0_378 ydv_X0_asksRow gX_cl0 gX_at0 rfl rfl rfl dX0_freed_2 rfl rfl rfl ?_
  refine gw_istore_n X 6 [(2, .int r1), (0, .ref (a 0)), (1, .int x1)] dX0_freed_5 rfl rfl (by decide) rfl ?_
  refine gw_iload_n X 7 0 dX0_freed_6 rfl rfl rfl ?_
  refine gw_if_ge X 12 10 dX0_freed_7 rfl rfl (fun z => ?_) (fun z => ?_)
  · replace hp := gw_t z hp
    refine gw_aload_n X 13 1 dX0_freed_12 rfl rfl rfl ?_
    refine gw_iload_n X 14 2 dX0_freed_13 rfl rfl rfl ?_
    obtain ⟨r3, σ4, h5, hp⟩ := gw_b2_some hp
    refine gw_callVi X 17 [.int x1] (mt_X0_goesBy h5) lk_X0_381 ydv_X0_goesBy gX_cl0 gX_at0 rfl rfl rfl dX0_freed_14 rfl rfl rfl ?_
    refine gw_pop X 18 dX0_freed_17 rfl rfl ?_
    refine gw_aload_n X 19 1 dX0_freed_18 rfl rfl rfl ?_
    refine gw_iconst X 20 dX0_freed_19 rfl gw_ci_m1 ?_
    obtain ⟨r6, h7, hp⟩ := gw_b1_some hp
    refine gw_callVi X 23 [.int (-1)] (mt_X0_handOf h7) lk_X0_198 ydv_X0_handOf gX_cl0 gX_at0 rfl rfl rfl dX0_freed_20 rfl rfl rfl ?_
    cases hp
    exact gw_iret X dX0_freed_23 (fun _ h => ⟨rfl, h⟩) (Nat.le_of_ble_eq_true rfl) (Nat.le_of_ble_eq_true rfl)
  · replace hp := gw_f z hp
    refine gw_iload_n X 11 0 dX0_freed_10 rfl rfl rfl ?_
    cases hp
    exact gw_iret X dX0_freed_11 (fun _ h => ⟨rfl, h⟩) (Nat.le_of_ble_eq_true rfl) (Nat.le_of_ble_eq_true rfl)
abbrev rm_X0_count : Room := { frames := 16, cells := 384, slots := 1024, locals := 821 }
def fx_X0_count_L119 (ρ : gw_R) (σ : gw_S)  : Nat → Int32 → Int32 → Option (Int32 × gw_S)
  | 0, _, _ => none
  | n + 1, c2, c3 => (if (4 : Int32) ≤ c3 then some (c2, σ) else gw_ck c3 4 ((if (ρ (Int32.toNatClampNeg c3)).isSome = true then fx_X0_count_L119 ρ σ n (c2 + (1 : Int32)) (c3 + 1) else fx_X0_count_L119 ρ σ n (c2 + (0 : Int32)) (c3 + 1))))
def fx_X0_count (σ : gw_S) (ρ : gw_R) (x1 : Int32) : Option (Int32 × gw_S) := (if x1 = 0 then some (σ.1 1 2, σ) else (if x1 = 1 then some (σ.1 1 0, σ) else (if x1 = 2 then gw_b1 (fx_X0_asItIs σ) (fun σ1 => gw_b1 (fx_X0_handOf σ1 (-1 : Int32)) (fun r3 => some ((σ1.1 1 2) - (fx_J13_bitCount r3), σ1))) else (if x1 = 3 then some (fx_J13_bitCount (σ.1 1 4), σ) else (if x1 = 4 then some (σ.1 1 3, σ) else (if x1 = 5 then some (σ.1 1 1, σ) else (if x1 = 6 then some (σ.1 0 2, σ) else (if x1 = 7 then fx_X0_count_L119 ρ σ 1000 (0 : Int32) (0 : Int32) else (some ((-1), σ))))))))))
set_option maxHeartbeats 4000000 in
theorem wk_X0_count_L119 {E : gw_E} {l : Launch} {D : gw_D} {a : Nat → Nat} {Wr : va_W → Prop} {σ : gw_S} {ρ : gw_R} {res : Int32 × gw_S} (X : gw_X E cX0_count 4 RX0 (some .int) l D rm_X0_count (some (gw_pI res.1 (gw_st (wX D a res.2) (gw_sp (gK D a) (gw_sp (gS D a ρ) Wr))))))  : ∀ {n : Nat} {c2 : Int32} {c3 : Int32}, fx_X0_count_L119 ρ σ n c2 c3 = some res → gw_W E 119 [(0, .ref (a 0)), (2, .int c2), (3, .int c3)] [] (gw_st (wX D a σ) (gw_sp (gK D a) (gw_sp (gS D a ρ) Wr))) 0 0 := by
  intro n
  induction n with
  | zero =>
    intro c2 c3 hp
    cases (show none = some res from hp)
  | succ n ih =>
    intro c2 c3 hp
    rw [fx_X0_count_L119] at hp
    refine gw_iload_n X 120 2 dX0_count_119 rfl rfl rfl ?_
    refine gw_iconst X 121 dX0_count_120 rfl gw_ci_4 ?_
    refine gw_icmp_ge X 150 124 dX0_count_121 rfl rfl (fun z => ?_) (fun z => ?_)
    · replace hp := gw_t z hp
      refine gw_iload_n X 151 1 dX0_count_150 rfl rfl rfl ?_
      cases hp
      exact gw_iret X dX0_count_151 (fun _ h => ⟨rfl, h⟩) (Nat.le_of_ble_eq_true rfl) (Nat.le_of_ble_eq_true rfl)
    · replace hp := gw_f z hp
      refine gw_iload_n X 125 1 dX0_count_124 rfl rfl rfl ?_
      refine gw_aload_n X 126 0 dX0_count_125 rfl rfl rfl ?_
      refine gX_g0_21 X 129 q318 dX0_count_126 rfl ?_
      refine gw_iload_n X 130 2 dX0_count_129 rfl rfl rfl ?_
      obtain ⟨hc, hp⟩ := gw_ck_some hp
      refine gS_ald X 131 hc dX0_count_130 rfl ?_
      have hj5 := gS_in4 hc
      refine gS_rowif X 134 141 137 hj5 q275 dX0_count_131 rfl dX0_count_134 rfl rfl (fun z => ?_) (fun z => ?_)
      · replace hp := gw_t z hp
        refine gw_iconst X 142 dX0_count_141 rfl gw_ci_1 ?_
        refine gw_iadd X 143 dX0_count_142 rfl ?_
        refine gw_istore_n X 144 [(2, .int (c2 + (1 : Int32))), (0, .ref (a 0)), (3, .int c3)] dX0_count_143 rfl rfl (by decide) rfl ?_
        refine gw_iinc X 147 2 [(3, .int (c3 + 1)), (2, .int (c2 + (1 : Int32))), (0, .ref (a 0))] dX0_count_144 rfl rfl gw_ci_1 (by decide) rfl ?_
        refine gw_goto X 119 dX0_count_147 rfl ?_
        refine gw_lv [2, 1, 0] rfl ?_
        exact ih hp
      · replace hp := gw_f z hp
        refine gw_iconst X 138 dX0_count_137 rfl gw_ci_0 ?_
        refine gw_goto X 142 dX0_count_138 rfl ?_
        refine gw_iadd X 143 dX0_count_142 rfl ?_
        refine gw_istore_n X 144 [(2, .int (c2 + (0 : Int32))), (0, .ref (a 0)), (3, .int c3)] dX0_count_143 rfl rfl (by decide) rfl ?_
        refine gw_iinc X 147 2 [(3, .int (c3 + 1)), (2, .int (c2 + (0 : Int32))), (0, .ref (a 0))] dX0_count_144 rfl rfl gw_ci_1 (by decide) rfl ?_
        refine gw_goto X 119 dX0_count_147 rfl ?_
        refine gw_lv [2, 1, 0] rfl ?_
        exact ih hp
set_option maxHeartbeats 4000000 in
theorem mt_X0_count {l : Launch} {D : gw_D} {a : Nat → Nat} {Wr : va_W → Prop} {σ : gw_S} {ρ : gw_R} {x1 : Int32} {res : Int32 × gw_S} (hp : fx_X0_count σ ρ x1 = some res) : gw_Ct D l yX0_count cX0_count 4 (some .int) rm_X0_count [.ref (a 0), .int x1] (gw_st (wX D a σ) (gw_sp (gK D a) (gw_sp (gS D a ρ) Wr))) (gw_pI res.1 (gw_st (wX D a res.2) (gw_sp (gK D a) (gw_sp (gS D a ρ) Wr)))) := by
  refine gw_ct (own := RX0) [(0, .ref (a 0)), (1, .int x1)] (by decide) rfl (Nat.le_of_ble_eq_true rfl) rfl ?_
  intro E X
  unfold fx_X0_count at hp
  refine gw_iconst X 1 dX0_count_0 rfl gw_ci_0 ?_
  refine gw_istore_n X 2 [(2, .int 0), (0, .ref (a 0)), (1, .int x1)] dX0_count_1 rfl rfl (by decide) rfl ?_
  refine gw_iload_n X 3 2 dX0_count_2 rfl rfl rfl ?_
  by_cases z0 : x1 = 0
  · replace hp := gw_t z0 hp
    refine gw_tsIn X 48 0 z0 dX0_count_3 (by decide) (by decide) rfl rfl ?_
    refine gw_aload_n X 49 1 dX0_count_48 rfl rfl rfl ?_
    refine gX_g0_0 X 52 q280 dX0_count_49 rfl ?_
    refine gX_g1_2N X 55 q193 dX0_count_52 rfl ?_
    cases hp
    exact gw_iret X dX0_count_55 (fun _ h => ⟨rfl, h⟩) (Nat.le_of_ble_eq_true rfl) (Nat.le_of_ble_eq_true rfl)
  replace hp := gw_f z0 hp
  by_cases z1 : x1 = 1
  · replace hp := gw_t z1 hp
    refine gw_tsIn X 56 1 z1 dX0_count_3 (by decide) (by decide) rfl rfl ?_
    refine gw_aload_n X 57 1 dX0_count_56 rfl rfl rfl ?_
    refine gX_g0_0 X 60 q280 dX0_count_57 rfl ?_
    refine gX_g1_0N X 63 q187 dX0_count_60 rfl ?_
    cases hp
    exact gw_iret X dX0_count_63 (fun _ h => ⟨rfl, h⟩) (Nat.le_of_ble_eq_true rfl) (Nat.le_of_ble_eq_true rfl)
  replace hp := gw_f z1 hp
  by_cases z2 : x1 = 2
  · replace hp := gw_t z2 hp
    refine gw_tsIn X 64 2 z2 dX0_count_3 (by decide) (by decide) rfl rfl ?_
    refine gw_aload_n X 65 1 dX0_count_64 rfl rfl rfl ?_
    obtain ⟨σ1, h2, hp⟩ := gw_b1_some hp
    refine gw_callVv X 68 [] (mt_X0_asItIs h2) lk_X0_190 ydv_X0_asItIs gX_cl0 gX_at0 rfl rfl rfl dX0_count_65 rfl rfl rfl ?_
    refine gw_aload_n X 69 1 dX0_count_68 rfl rfl rfl ?_
    refine gX_g0_0 X 72 q280 dX0_count_69 rfl ?_
    refine gX_g1_2N X 75 q193 dX0_count_72 rfl ?_
    refine gw_aload_n X 76 1 dX0_count_75 rfl rfl rfl ?_
    refine gw_iconst X 77 dX0_count_76 rfl gw_ci_m1 ?_
    obtain ⟨r3, h4, hp⟩ := gw_b1_some hp
    refine gw_callVi X 80 [.int (-1)] (mt_X0_handOf h4) lk_X0_198 ydv_X0_handOf gX_cl0 gX_at0 rfl rfl rfl dX0_count_77 rfl rfl rfl ?_
    refine gw_callSi X 83 [.int r3] (mt_J13_bitCount rfl) lk_X0_273 yd_J13_bitCount rfl rfl rfl dX0_count_80 rfl rfl rfl ?_
    refine gw_isub X 84 dX0_count_83 rfl ?_
    cases hp
    exact gw_iret X dX0_count_84 (fun _ h => ⟨rfl, h⟩) (Nat.le_of_ble_eq_true rfl) (Nat.le_of_ble_eq_true rfl)
  replace hp := gw_f z2 hp
  by_cases z3 : x1 = 3
  · replace hp := gw_t z3 hp
    refine gw_tsIn X 85 3 z3 dX0_count_3 (by decide) (by decide) rfl rfl ?_
    refine gw_aload_n X 86 1 dX0_count_85 rfl rfl rfl ?_
    refine gX_g0_0 X 89 q280 dX0_count_86 rfl ?_
    refine gX_g1_4N X 92 q199 dX0_count_89 rfl ?_
    refine gw_callSi X 95 [.int (σ.1 1 4)] (mt_J13_bitCount rfl) lk_X0_273 yd_J13_bitCount rfl rfl rfl dX0_count_92 rfl rfl rfl ?_
    cases hp
    exact gw_iret X dX0_count_95 (fun _ h => ⟨rfl, h⟩) (Nat.le_of_ble_eq_true rfl) (Nat.le_of_ble_eq_true rfl)
  replace hp := gw_f z3 hp
  by_cases z4 : x1 = 4
  · replace hp := gw_t z4 hp
    refine gw_tsIn X 96 4 z4 dX0_count_3 (by decide) (by decide) rfl rfl ?_
    refine gw_aload_n X 97 1 dX0_count_96 rfl rfl rfl ?_
    refine gX_g0_0 X 100 q280 dX0_count_97 rfl ?_
    refine gX_g1_3N X 103 q196 dX0_count_100 rfl ?_
    cases hp
    exact gw_iret X dX0_count_103 (fun _ h => ⟨rfl, h⟩) (Nat.le_of_ble_eq_true rfl) (Nat.le_of_ble_eq_true rfl)
  replace hp := gw_f z4 hp
  by_cases z5 : x1 = 5
  · replace hp := gw_t z5 hp
    refine gw_tsIn X 104 5 z5 dX0_count_3 (by decide) (by decide) rfl rfl ?_
    refine gw_aload_n X 105 1 dX0_count_104 rfl rfl rfl ?_
    refine gX_g0_0 X 108 q280 dX0_count_105 rfl ?_
    refine gX_g1_1N X 111 q189 dX0_count_108 rfl ?_
    cases hp
    exact gw_iret X dX0_count_111 (fun _ h => ⟨rfl, h⟩) (Nat.le_of_ble_eq_true rfl) (Nat.le_of_ble_eq_true rfl)
  replace hp := gw_f z5 hp
  by_cases z6 : x1 = 6
  · replace hp := gw_t z6 hp
    refine gw_tsIn X 112 6 z6 dX0_count_3 (by decide) (by decide) rfl rfl ?_
    refine gw_aload_n X 113 1 dX0_count_112 rfl rfl rfl ?_
    refine gX_g0_2 X 116 q284 dX0_count_113 rfl ?_
    cases hp
    exact gw_iret X dX0_count_116 (fun _ h => ⟨rfl, h⟩) (Nat.le_of_ble_eq_true rfl) (Nat.le_of_ble_eq_true rfl)
  replace hp := gw_f z6 hp
  by_cases z7 : x1 = 7
  · replace hp := gw_t z7 hp
    refine gw_tsIn X 117 7 z7 dX0_count_3 (by decide) (by decide) rfl rfl ?_
    refine gw_iconst X 118 dX0_count_117 rfl gw_ci_0 ?_
    refine gw_istore_n X 119 [(3, .int 0), (2, .int 0), (0, .ref (a 0)), (1, .int x1)] dX0_count_118 rfl rfl (by decide) rfl ?_
    refine gw_lv [2, 1, 0] rfl ?_
    exact wk_X0_count_L119 X hp
  replace hp := gw_f z7 hp
  refine gw_tsOut X 152 dX0_count_3 (by have y0 := lv_neT (a := 0) z0 (by decide); have y1 := lv_neT (a := 1) z1 (by decide); have y2 := lv_neT (a := 2) z2 (by decide); have y3 := lv_neT (a := 3) z3 (by decide); have y4 := lv_neT (a := 4) z4 (by decide); have y5 := lv_neT (a := 5) z5 (by decide); have y6 := lv_neT (a := 6) z6 (by decide); have y7 := lv_neT (a := 7) z7 (by decide); omega) rfl ?_
  refine gw_iconst X 153 dX0_count_152 rfl gw_ci_m1 ?_
  cases hp
  exact gw_iret X dX0_count_153 (fun _ h => ⟨rfl, h⟩) (Nat.le_of_ble_eq_true rfl) (Nat.le_of_ble_eq_true rfl)
