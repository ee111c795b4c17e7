set_option maxRecDepth 100000
abbrev rm_X0_row : Room := { frames := 10, cells := 3, slots := 60, locals := 10270 }
def fx_X0_row (σ : gw_S) (ρ : gw_R) (x1 : Int32) (x2 : Int32) (x3 : Int32) : Option (Int32 × gw_R) := (if fx_X0_isSlot x1 = true then (if fx_X0_isIn (Int32.toInt64 x2) (0 : Int64) (3 : Int64) = true then (if x3 ≤ (60 : Int32) then gw_ck x1 4 ((if x3 < 0 then some ((-3), ρ) else gw_ck x3 61 (some (0, (gw_upR ρ (Int32.toNatClampNeg x1) (some (gv_new (gv_k x2) x3))))))) else some ((-2), ρ)) else some ((-2), ρ)) else some ((-2), ρ))
set_option maxHeartbeats 4000000 in
theorem mt_X0_row {l : Launch} {D : gw_D} {a : Nat → Nat} {Wr : va_W → Prop} {σ : gw_S} {ρ : gw_R} {KP : va_W → Prop} {x1 : Int32} {x2 : Int32} {x3 : Int32} {res : Int32 × gw_R} (hp : fx_X0_row σ ρ x1 x2 x3 = some res) : gw_CtH D l yX0_row cX0_row 5 (some .int) [(28, 40, 41, 422)] rm_X0_row [.ref (a 0), .int x1, .int x2, .int x3] (gw_st (wX D a σ) (gw_sp KP (gw_sp (gS D a ρ) Wr))) (gw_pI res.1 (gw_st (wX D a σ) (gw_sp KP (gw_sp (gS D a res.2) Wr)))) := by
  refine gw_ctH (own := RX0) [(0, .ref (a 0)), (1, .int x1), (2, .int x2), (3, .int x3)] (by decide) rfl (Nat.le_of_ble_eq_true rfl) rfl ?_
  intro E X Y
  unfold fx_X0_row at hp
  refine gw_iload_n X 1 1 dX0_row_0 rfl rfl rfl ?_
  refine gw_callSi X 4 [.int x1] (mt_X0_isSlot rfl) lk_X0_306 yd_X0_isSlot rfl rfl rfl dX0_row_1 rfl rfl rfl ?_
  refine gw_if_eqB X 25 7 dX0_row_4 rfl rfl (fun z => ?_) (fun z => ?_)
  · replace hp := gw_f z hp
    refine gw_bipush X 27 dX0_row_25 rfl gw_cb_m2 ?_
    cases hp
    exact gw_iret X dX0_row_27 (fun _ h => ⟨rfl, h⟩) (Nat.le_of_ble_eq_true rfl) (Nat.le_of_ble_eq_true rfl)
  · replace hp := gw_t z hp
    refine gw_iload_n X 8 2 dX0_row_7 rfl rfl rfl ?_
    refine gw_i2l X 9 dX0_row_8 rfl ?_
    refine gw_lconst X 10 dX0_row_9 rfl gw_cl_0 ?_
    refine gw_ldc2 X 13 dX0_row_10 rfl q1088 ?_
    refine gw_callSi X 16 [.long (Int32.toInt64 x2), .long 0, .long 3] (mt_X0_isIn rfl) lk_X0_67 yd_X0_isIn rfl rfl rfl dX0_row_13 rfl rfl rfl ?_
    refine gw_if_eqB X 25 19 dX0_row_16 rfl rfl (fun z => ?_) (fun z => ?_)
    · replace hp := gw_f z hp
      refine gw_bipush X 27 dX0_row_25 rfl gw_cb_m2 ?_
      cases hp
      exact gw_iret X dX0_row_27 (fun _ h => ⟨rfl, h⟩) (Nat.le_of_ble_eq_true rfl) (Nat.le_of_ble_eq_true rfl)
    · replace hp := gw_t z hp
      refine gw_iload_n X 20 3 dX0_row_19 rfl rfl rfl ?_
      refine gw_bipush X 22 dX0_row_20 rfl gw_cb_60 ?_
      refine gw_icmp_le X 28 25 dX0_row_22 rfl rfl (fun z => ?_) (fun z => ?_)
      · replace hp := gw_t z hp
        refine gw_aload_n X 29 0 dX0_row_28 rfl rfl rfl ?_
        refine gX_g0_21 X 32 q318 dX0_row_29 rfl ?_
        refine gw_iload_n X 33 1 dX0_row_32 rfl rfl rfl ?_
        obtain ⟨hc, hp⟩ := gw_ck_some hp
        refine gS_ald X 34 hc dX0_row_33 rfl ?_
        have hj1 := gS_in4 hc
        refine gw_iload_n X 35 2 dX0_row_34 rfl rfl rfl ?_
        refine gw_iload_n X 36 3 dX0_row_35 rfl rfl rfl ?_
        by_cases z2 : x3 < 0
        · replace hp := gw_t z2 hp
          refine gS_makeN X hj1 (gv_kd x2) z2 lk_X0_419 rfl rfl dX0_row_36 (fun q => ?_)
          refine gx_catch X Y 41 [] _ _ rfl (fun _ h => nomatch h) rfl (by decide) q1309 q1329 rfl ?_
          refine gl_perm (gS_back hj1) ?_
          refine gw_astore X 43 [(4, .ref (q)), (0, .ref (a 0)), (1, .int x1), (2, .int x2), (3, .int x3)] dX0_row_41 rfl (by decide) rfl ?_
          refine gw_bipush X 45 dX0_row_43 rfl gw_cb_m3 ?_
          cases hp
          exact gw_iret X dX0_row_45 (fun _ h => ⟨rfl, h⟩) (Nat.le_of_ble_eq_true rfl) (Nat.le_of_ble_eq_true rfl)
        · replace hp := gw_f z2 hp
          obtain ⟨hc, hp⟩ := gw_ck_some hp
          refine gS_make X 39 hj1 (gv_kd x2) z2 (gv_in61 hc) lk_X0_419 rfl rfl dX0_row_36 rfl ?_
          refine gw_iconst X 40 dX0_row_39 rfl gw_ci_0 ?_
          cases hp
          exact gw_iret X dX0_row_40 (fun _ h => ⟨rfl, h⟩) (Nat.le_of_ble_eq_true rfl) (Nat.le_of_ble_eq_true rfl)
      · replace hp := gw_f z hp
        refine gw_bipush X 27 dX0_row_25 rfl gw_cb_m2 ?_
        cases hp
        exact gw_iret X dX0_row_27 (fun _ h => ⟨rfl, h⟩) (Nat.le_of_ble_eq_true rfl) (Nat.le_of_ble_eq_true rfl)
abbrev rm_X0_write : Room := { frames := 10, cells := 3, slots := 222, locals := 10271 }
def fx_X0_write (σ : gw_S) (ρ : gw_R) (x1 : Int32) (x2 : Int32) (x3 : Int64) : Option (Int32 × gw_R) := (if fx_X0_isSlot x1 = true then gw_ck x1 4 (gw_m (ρ (Int32.toNatClampNeg x1)) (some ((-6), ρ)) (fun x_2 => gw_i x2 x_2.2.1 (some (0, (gw_upR ρ (Int32.toNatClampNeg x1) (some (gv_put x_2 (Int32.toNatClampNeg x2) x3))))) (some ((-7), ρ)))) else some ((-2), ρ))
set_option maxHeartbeats 4000000 in
theorem mt_X0_write {l : Launch} {D : gw_D} {a : Nat → Nat} {Wr : va_W → Prop} {σ : gw_S} {ρ : gw_R} {KP : va_W → Prop} {x1 : Int32} {x2 : Int32} {x3 : Int64} {res : Int32 × gw_R} (hp : fx_X0_write σ ρ x1 x2 x3 = some res) : gw_CtH D l yX0_write cX0_write 6 (some .int) [(10, 22, 23, 312), (10, 22, 28, 428)] rm_X0_write [.ref (a 0), .int x1, .int x2, .long x3] (gw_st (wX D a σ) (gw_sp KP (gw_sp (gS D a ρ) Wr))) (gw_pI res.1 (gw_st (wX D a σ) (gw_sp KP (gw_sp (gS D a res.2) Wr)))) := by
  refine gw_ctH (own := RX0) [(0, .ref (a 0)), (1, .int x1), (2, .int x2), (3, .long x3)] (by decide) rfl (Nat.le_of_ble_eq_true rfl) rfl ?_
  intro E X Y
  unfold fx_X0_write at hp
  refine gw_iload_n X 1 1 dX0_write_0 rfl rfl rfl ?_
  refine gw_callSi X 4 [.int x1] (mt_X0_isSlot rfl) lk_X0_306 yd_X0_isSlot rfl rfl rfl dX0_write_1 rfl rfl rfl ?_
  refine gw_if_neB X 10 7 dX0_write_4 rfl rfl (fun z => ?_) (fun z => ?_)
  · replace hp := gw_t z hp
    refine gw_aload_n X 11 0 dX0_write_10 rfl rfl rfl ?_
    refine gX_g0_21 X 14 q318 dX0_write_11 rfl ?_
    refine gw_iload_n X 15 1 dX0_write_14 rfl rfl rfl ?_
    obtain ⟨hc, hp⟩ := gw_ck_some hp
    refine gS_ald X 16 hc dX0_write_15 rfl ?_
    have hj1 := gS_in4 hc
    refine gw_iload_n X 17 2 dX0_write_16 rfl rfl rfl ?_
    refine gw_lload_n X 18 3 dX0_write_17 rfl rfl rfl ?_
    rcases h3 : ρ (Int32.toNatClampNeg x1) with _ | x_2
    · replace hp := gw_m_none h3 hp
      refine gS_putN X hj1 h3 lk_X0_424 rfl rfl dX0_write_18 (fun q => ?_)
      refine gx_catch X Y 23 [] _ _ rfl (fun _ h => nomatch h) rfl (by decide) q1058 q1080 rfl ?_
      refine gl_perm (gS_back hj1) ?_
      refine gw_astore X 25 [(5, .ref (q)), (0, .ref (a 0)), (1, .int x1), (2, .int x2), (3, .long x3)] dX0_write_23 rfl (by decide) rfl ?_
      refine gw_bipush X 27 dX0_write_25 rfl gw_cb_m6 ?_
      cases hp
      exact gw_iret X dX0_write_27 (fun _ h => ⟨rfl, h⟩) (Nat.le_of_ble_eq_true rfl) (Nat.le_of_ble_eq_true rfl)
    · replace hp := gw_m_some h3 hp
      by_cases hv4 : vp_in x2 x_2.2.1
      · replace hp := gw_i_t hv4 hp
        refine gS_put X 21 hj1 h3 hv4 lk_X0_424 rfl rfl dX0_write_18 rfl ?_
        refine gw_iconst X 22 dX0_write_21 rfl gw_ci_0 ?_
        cases hp
        exact gw_iret X dX0_write_22 (fun _ h => ⟨rfl, h⟩) (Nat.le_of_ble_eq_true rfl) (Nat.le_of_ble_eq_true rfl)
      · replace hp := gw_i_f hv4 hp
        refine gS_putI X hj1 h3 hv4 lk_X0_424 rfl rfl dX0_write_18 (fun q => ?_)
        refine gx_catch X Y 28 (tableOf [(10, 22, 23, 312)]) _ _ rfl (by intro z hz; cases List.mem_singleton.mp hz; exact Or.inr ⟨by decide, _, q1058, by decide⟩) rfl (by decide) q1346 q1361 rfl ?_
        refine gl_perm (gS_back hj1) ?_
        refine gw_astore X 30 [(5, .ref (q)), (0, .ref (a 0)), (1, .int x1), (2, .int x2), (3, .long x3)] dX0_write_28 rfl (by decide) rfl ?_
        refine gw_bipush X 32 dX0_write_30 rfl gw_cb_m7 ?_
        cases hp
        exact gw_iret X dX0_write_32 (fun _ h => ⟨rfl, h⟩) (Nat.le_of_ble_eq_true rfl) (Nat.le_of_ble_eq_true rfl)
  · replace hp := gw_f z hp
    refine gw_bipush X 9 dX0_write_7 rfl gw_cb_m2 ?_
    cases hp
    exact gw_iret X dX0_write_9 (fun _ h => ⟨rfl, h⟩) (Nat.le_of_ble_eq_true rfl) (Nat.le_of_ble_eq_true rfl)
def fx_X0_pairs_L2 (rec : gw_S → Int32 → Int32 → Option (Bool × gw_S)) (v1 : Int32) (v2 : Int32) : Nat → Int32 → gw_S → Option (Bool × gw_S)
  | 0, _, _ => none
  | n + 1, c3, σ => (if (6 : Int32) ≤ c3 then some (false, σ) else gw_b1 (fx_X0_canAsk σ v1 c3) (fun r1 => (if r1 = true then gw_ck v1 8 ((if fx_X0_isOf (σ.1 0 15) c3 = true then fx_X0_pairs_L2 rec v1 v2 n (c3 + 1) σ else gw_ck (((6 : Int32) * (σ.1 3 (Int32.toNatClampNeg v1))) + c3) 48 ((if (σ.1 6 (Int32.toNatClampNeg (((6 : Int32) * (σ.1 3 (Int32.toNatClampNeg v1))) + c3))) = (-1 : Int32) then gw_let (gw_u σ 0 15 ((σ.1 0 15) ||| ((1 : Int32) <<< (c3 &&& 31)))) (fun σ3 => gw_ck (((6 : Int32) * (σ.1 3 (Int32.toNatClampNeg v1))) + c3) 48 ((if (σ3.1 6 (Int32.toNatClampNeg (((6 : Int32) * (σ.1 3 (Int32.toNatClampNeg v1))) + c3))) = (-1 : Int32) then gw_ck (((6 : Int32) * (σ.1 3 (Int32.toNatClampNeg v1))) + c3) 48 (gw_let (gw_u σ3 6 (Int32.toNatClampNeg (((6 : Int32) * (σ.1 3 (Int32.toNatClampNeg v1))) + c3)) v1) (fun σ5 => gw_ck v1 8 (some (true, gw_u σ5 7 (Int32.toNatClampNeg v1) c3)))) else gw_ck (((6 : Int32) * (σ.1 3 (Int32.toNatClampNeg v1))) + c3) 48 (gw_b2 (rec σ3 (σ3.1 6 (Int32.toNatClampNeg (((6 : Int32) * (σ.1 3 (Int32.toNatClampNeg v1))) + c3))) v2) (fun r7 σ8 => (if r7 = true then gw_ck (((6 : Int32) * (σ.1 3 (Int32.toNatClampNeg v1))) + c3) 48 (gw_let (gw_u σ8 6 (Int32.toNatClampNeg (((6 : Int32) * (σ.1 3 (Int32.toNatClampNeg v1))) + c3)) v1) (fun σ10 => gw_ck v1 8 (some (true, gw_u σ10 7 (Int32.toNatClampNeg v1) c3)))) else fx_X0_pairs_L2 rec v1 v2 n (c3 + 1) σ8)))))) else gw_ck (((6 : Int32) * (σ.1 3 (Int32.toNatClampNeg v1))) + c3) 48 ((if v2 ≤ (σ.1 6 (Int32.toNatClampNeg (((6 : Int32) * (σ.1 3 (Int32.toNatClampNeg v1))) + c3))) then gw_let (gw_u σ 0 15 ((σ.1 0 15) ||| ((1 : Int32) <<< (c3 &&& 31)))) (fun σ12 => gw_ck (((6 : Int32) * (σ.1 3 (Int32.toNatClampNeg v1))) + c3) 48 ((if (σ12.1 6 (Int32.toNatClampNeg (((6 : Int32) * (σ.1 3 (Int32.toNatClampNeg v1))) + c3))) = (-1 : Int32) then gw_ck (((6 : Int32) * (σ.1 3 (Int32.toNatClampNeg v1))) + c3) 48 (gw_let (gw_u σ12 6 (Int32.toNatClampNeg (((6 : Int32) * (σ.1 3 (Int32.toNatClampNeg v1))) + c3)) v1) (fun σ14 => gw_ck v1 8 (some (true, gw_u σ14 7 (Int32.toNatClampNeg v1) c3)))) else gw_ck (((6 : Int32) * (σ.1 3 (Int32.toNatClampNeg v1))) + c3) 48 (gw_b2 (rec σ12 (σ12.1 6 (Int32.toNatClampNeg (((6 : Int32) * (σ.1 3 (Int32.toNatClampNeg v1))) + c3))) v2) (fun r16 σ17 => (if r16 = true then gw_ck (((6 : Int32) * (σ.1 3 (Int32.toNatClampNeg v1))) + c3) 48 (gw_let (gw_u σ17 6 (Int32.toNatClampNeg (((6 : Int32) * (σ.1 3 (Int32.toNatClampNeg v1))) + c3)) v1) (fun σ19 => gw_ck v1 8 (some (true, gw_u σ19 7 (Int32.toNatClampNeg v1) c3)))) else fx_X0_pairs_L2 rec v1 v2 n (c3 + 1) σ17)))))) else fx_X0_pairs_L2 rec v1 v2 n (c3 + 1) σ)))))) else fx_X0_pairs_L2 rec v1 v2 n (c3 + 1) σ)))
def fx_X0_pairs_b (rec : gw_S → Int32 → Int32 → Option (Bool × gw_S)) (σ : gw_S) (x1 : Int32) (x2 : Int32) : Option (Bool × gw_S) := fx_X0_pairs_L2 rec x1 x2 1000 (0 : Int32) σ
set_option maxHeartbeats 4000000 in
theorem wk_X0_pairs_L2 {d0 : Nat} {rec : gw_S → Int32 → Int32 → Option (Bool × gw_S)} {E : gw_E} {l : Launch} {D : gw_D} {a : Nat → Nat} {Wr : va_W → Prop} {res : Bool × gw_S} (X : gw_X E cX0_pairs 5 RX0 (some .boolean) l D (rmp_X0_pairs (d0 + 1)) (some (gw_pI (gw_b res.1) (gw_st (wX D a res.2) Wr)))) (hfit : gw_fit (rmp_X0_pairs d0) (rmp_X0_pairs (d0 + 1)) 5 0 0 = true) (hrec : ∀ {σ0 : gw_S} {y1 : Int32} {y2 : Int32} {rs : Bool × gw_S}, rec σ0 y1 y2 = some rs → gw_Ct D l yX0_pairs cX0_pairs 5 (some .boolean) (rmp_X0_pairs d0) [.ref (a 0), .int y1, .int y2] (gw_st (wX D a σ0) Wr) (gw_pI (gw_b rs.1) (gw_st (wX D a rs.2) Wr))) {v1 : Int32} {v2 : Int32} : ∀ {n : Nat} {c3 : Int32} {σ : gw_S}, fx_X0_pairs_L2 rec v1 v2 n c3 σ = some res → gw_W E 2 [(0, .ref (a 0)), (1, .int v1), (2, .int v2), (3, .int c3)] [] (gw_st (wX D a σ) Wr) 0 0 := by
  intro n
  induction n with
  | zero =>
    intro c3 σ hp
    cases (show none = some res from hp)
  | succ n ih =>
    intro c3 σ hp
    rw [fx_X0_pairs_L2] at hp
    refine gw_iload_n X 3 3 dX0_pairs_2 rfl rfl rfl ?_
    refine gw_bipush X 5 dX0_pairs_3 rfl gw_cb_6 ?_
    refine gw_icmp_ge X 133 8 dX0_pairs_5 rfl rfl (fun z => ?_) (fun z => ?_)
    · replace hp := gw_t z hp
      refine gw_iconst X 134 dX0_pairs_133 rfl gw_ci_0 ?_
      cases hp
      exact gw_zret0 X dX0_pairs_134 (fun _ h => ⟨rfl, h⟩) (Nat.le_of_ble_eq_true rfl) (Nat.le_of_ble_eq_true rfl)
    · replace hp := gw_f z hp
      refine gw_aload_n X 9 0 dX0_pairs_8 rfl rfl rfl ?_
      refine gw_iload_n X 10 1 dX0_pairs_9 rfl rfl rfl ?_
      refine gw_iload_n X 11 3 dX0_pairs_10 rfl rfl rfl ?_
      obtain ⟨r1, h2, hp⟩ := gw_b1_some hp
      refine gw_callVi X 14 [.int v1, .int c3] (mt_X0_canAsk h2) lk_X0_256 ydv_X0_canAsk gX_cl0 gX_at0 (by unfold gw_fit rmp_X0_pairs; simp only [Bool.and_eq_true, Nat.ble_eq]; omega) rfl rfl dX0_pairs_11 rfl rfl rfl ?_
      refine gw_if_neB X 20 17 dX0_pairs_14 rfl rfl (fun z => ?_) (fun z => ?_)
      · replace hp := gw_t z hp
        refine gw_bipush X 22 dX0_pairs_20 rfl gw_cb_6 ?_
        refine gw_aload_n X 23 0 dX0_pairs_22 rfl rfl rfl ?_
        refine gX_g0_9 X 26 q303 dX0_pairs_23 rfl ?_
        refine gw_iload_n X 27 1 dX0_pairs_26 rfl rfl rfl ?_
        obtain ⟨hc, hp⟩ := gw_ck_some hp
        refine gX_l3 X 28 (Int32.toNatClampNeg v1) hc rfl dX0_pairs_27 rfl ?_
        refine gw_imul X 29 dX0_pairs_28 rfl ?_
        refine gw_iload_n X 30 3 dX0_pairs_29 rfl rfl rfl ?_
        refine gw_iadd X 31 dX0_pairs_30 rfl ?_
        refine gw_istore X 33 [(4, .int (((6 : Int32) * (σ.1 3 (Int32.toNatClampNeg v1))) + c3)), (0, .ref (a 0)), (1, .int v1), (2, .int v2), (3, .int c3)] dX0_pairs_31 rfl (by decide) rfl ?_
        refine gw_aload_n X 34 1 dX0_pairs_33 rfl rfl rfl ?_
        refine gX_g0_15 X 37 q312 dX0_pairs_34 rfl ?_
        refine gw_iload_n X 38 4 dX0_pairs_37 rfl rfl rfl ?_
        refine gw_callSi X 41 [.int (σ.1 0 15), .int c3] (mt_X0_isOf rfl) lk_X0_114 yd_X0_isOf (by unfold gw_fit rmp_X0_pairs; simp only [Bool.and_eq_true, Nat.ble_eq]; omega) rfl rfl dX0_pairs_38 rfl rfl rfl ?_
        refine gw_if_neB X 127 44 dX0_pairs_41 rfl rfl (fun z => ?_) (fun z => ?_)
        · replace hp := gw_t z hp
          refine gw_iinc X 130 4 [(3, .int (c3 + 1)), (4, .int (((6 : Int32) * (σ.1 3 (Int32.toNatClampNeg v1))) + c3)), (0, .ref (a 0)), (1, .int v1), (2, .int v2)] dX0_pairs_127 rfl rfl gw_ci_1 (by decide) rfl ?_
          refine gw_goto X 2 dX0_pairs_130 rfl ?_
          refine gw_lv [2, 3, 4, 0] rfl ?_
          exact ih hp
        · replace hp := gw_f z hp
          refine gw_aload_n X 45 1 dX0_pairs_44 rfl rfl rfl ?_
          refine gX_g0_13 X 48 q310 dX0_pairs_45 rfl ?_
          refine gw_iload X 50 0 dX0_pairs_48 rfl rfl ?_
          obtain ⟨hc, hp⟩ := gw_ck_some hp
          refine gX_l6 X 51 (Int32.toNatClampNeg (((6 : Int32) * (σ.1 3 (Int32.toNatClampNeg v1))) + c3)) hc rfl dX0_pairs_50 rfl ?_
          refine gw_iconst X 52 dX0_pairs_51 rfl gw_ci_m1 ?_
          refine gw_icmp_eq X 69 55 dX0_pairs_52 rfl rfl (fun z => ?_) (fun z => ?_)
          · replace hp := gw_t z hp
            refine gw_aload_n X 70 1 dX0_pairs_69 rfl rfl rfl ?_
            refine gw_dup X 71 dX0_pairs_70 rfl rfl ?_
            refine gX_g0_15 X 74 q312 dX0_pairs_71 rfl ?_
            refine gw_iconst X 75 dX0_pairs_74 rfl gw_ci_1 ?_
            refine gw_iload_n X 76 4 dX0_pairs_75 rfl rfl rfl ?_
            refine gw_ishl X 77 dX0_pairs_76 rfl ?_
            refine gw_ior X 78 dX0_pairs_77 rfl ?_
            refine gX_p0_15 X 81 q312 dX0_pairs_78 rfl ?_
            refine gw_aload_n X 82 1 dX0_pairs_81 rfl rfl rfl ?_
            obtain ⟨σ3, h4, hp⟩ := gw_let_some hp
            rw [← h4]
            clear h4
            refine gX_g0_13 X 85 q310 dX0_pairs_82 rfl ?_
            refine gw_iload X 87 0 dX0_pairs_85 rfl rfl ?_
            obtain ⟨hc, hp⟩ := gw_ck_some hp
            refine gX_l6 X 88 (Int32.toNatClampNeg (((6 : Int32) * (σ.1 3 (Int32.toNatClampNeg v1))) + c3)) hc rfl dX0_pairs_87 rfl ?_
            refine gw_iconst X 89 dX0_pairs_88 rfl gw_ci_m1 ?_
            refine gw_icmp_eq X 110 92 dX0_pairs_89 rfl rfl (fun z => ?_) (fun z => ?_)
            · replace hp := gw_t z hp
              refine gw_aload_n X 111 1 dX0_pairs_110 rfl rfl rfl ?_
              refine gX_g0_13 X 114 q310 dX0_pairs_111 rfl ?_
              refine gw_iload X 116 0 dX0_pairs_114 rfl rfl ?_
              refine gw_iload_n X 117 2 dX0_pairs_116 rfl rfl rfl ?_
              obtain ⟨hc, hp⟩ := gw_ck_some hp
              refine gX_s6 X 118 (Int32.toNatClampNeg (((6 : Int32) * (σ.1 3 (Int32.toNatClampNeg v1))) + c3)) hc rfl dX0_pairs_117 rfl ?_
              refine gw_aload_n X 119 1 dX0_pairs_118 rfl rfl rfl ?_
              obtain ⟨σ5, h6, hp⟩ := gw_let_some hp
              rw [← h6]
              clear h6
              refine gX_g0_14 X 122 q311 dX0_pairs_119 rfl ?_
              refine gw_iload_n X 123 2 dX0_pairs_122 rfl rfl rfl ?_
              refine gw_iload_n X 124 4 dX0_pairs_123 rfl rfl rfl ?_
              obtain ⟨hc, hp⟩ := gw_ck_some hp
              refine gX_s7 X 125 (Int32.toNatClampNeg v1) hc rfl dX0_pairs_124 rfl ?_
              refine gw_iconst X 126 dX0_pairs_125 rfl gw_ci_1 ?_
              cases hp
              exact gw_zret1 X dX0_pairs_126 (fun _ h => ⟨rfl, h⟩) (Nat.le_of_ble_eq_true rfl) (Nat.le_of_ble_eq_true rfl)
            · replace hp := gw_f z hp
              refine gw_aload_n X 93 1 dX0_pairs_92 rfl rfl rfl ?_
              refine gw_aload_n X 94 1 dX0_pairs_93 rfl rfl rfl ?_
              refine gX_g0_13 X 97 q310 dX0_pairs_94 rfl ?_
              refine gw_iload X 99 0 dX0_pairs_97 rfl rfl ?_
              obtain ⟨hc, hp⟩ := gw_ck_some hp
              refine gX_l6 X 100 (Int32.toNatClampNeg (((6 : Int32) * (σ.1 3 (Int32.toNatClampNeg v1))) + c3)) hc rfl dX0_pairs_99 rfl ?_
              refine gw_iload_n X 101 3 dX0_pairs_100 rfl rfl rfl ?_
              obtain ⟨r7, σ8, h9, hp⟩ := gw_b2_some hp
              refine gw_callVi X 104 [.int (σ3.1 6 (Int32.toNatClampNeg (((6 : Int32) * (σ.1 3 (Int32.toNatClampNeg v1))) + c3))), .int v2] (hrec h9) lk_X0_262 ydv_X0_pairs gX_cl0 gX_at0 hfit rfl rfl dX0_pairs_101 rfl rfl rfl ?_
              refine gw_if_neB X 110 107 dX0_pairs_104 rfl rfl (fun z => ?_) (fun z => ?_)
              · replace hp := gw_t z hp
                refine gw_aload_n X 111 1 dX0_pairs_110 rfl rfl rfl ?_
                refine gX_g0_13 X 114 q310 dX0_pairs_111 rfl ?_
                refine gw_iload X 116 0 dX0_pairs_114 rfl rfl ?_
                refine gw_iload_n X 117 2 dX0_pairs_116 rfl rfl rfl ?_
                obtain ⟨hc, hp⟩ := gw_ck_some hp
                refine gX_s6 X 118 (Int32.toNatClampNeg (((6 : Int32) * (σ.1 3 (Int32.toNatClampNeg v1))) + c3)) hc rfl dX0_pairs_117 rfl ?_
                refine gw_aload_n X 119 1 dX0_pairs_118 rfl rfl rfl ?_
                obtain ⟨σ10, h11, hp⟩ := gw_let_some hp
                rw [← h11]
                clear h11
                refine gX_g0_14 X 122 q311 dX0_pairs_119 rfl ?_
                refine gw_iload_n X 123 2 dX0_pairs_122 rfl rfl rfl ?_
                refine gw_iload_n X 124 4 dX0_pairs_123 rfl rfl rfl ?_
                obtain ⟨hc, hp⟩ := gw_ck_some hp
                refine gX_s7 X 125 (Int32.toNatClampNeg v1) hc rfl dX0_pairs_124 rfl ?_
                refine gw_iconst X 126 dX0_pairs_125 rfl gw_ci_1 ?_
                cases hp
                exact gw_zret1 X dX0_pairs_126 (fun _ h => ⟨rfl, h⟩) (Nat.le_of_ble_eq_true rfl) (Nat.le_of_ble_eq_true rfl)
              · replace hp := gw_f z hp
                refine gw_goto X 127 dX0_pairs_107 rfl ?_
                refine gw_iinc X 130 4 [(3, .int (c3 + 1)), (4, .int (((6 : Int32) * (σ.1 3 (Int32.toNatClampNeg v1))) + c3)), (0, .ref (a 0)), (1, .int v1), (2, .int v2)] dX0_pairs_127 rfl rfl gw_ci_1 (by decide) rfl ?_
                refine gw_goto X 2 dX0_pairs_130 rfl ?_
                refine gw_lv [2, 3, 4, 0] rfl ?_
                exact ih hp
          · replace hp := gw_f z hp
            refine gw_aload_n X 56 1 dX0_pairs_55 rfl rfl rfl ?_
            refine gX_g0_13 X 59 q310 dX0_pairs_56 rfl ?_
            refine gw_iload X 61 0 dX0_pairs_59 rfl rfl ?_
            obtain ⟨hc, hp⟩ := gw_ck_some hp
            refine gX_l6 X 62 (Int32.toNatClampNeg (((6 : Int32) * (σ.1 3 (Int32.toNatClampNeg v1))) + c3)) hc rfl dX0_pairs_61 rfl ?_
            refine gw_iload_n X 63 3 dX0_pairs_62 rfl rfl rfl ?_
            refine gw_icmp_ge X 69 66 dX0_pairs_63 rfl rfl (fun z => ?_) (fun z => ?_)
            · replace hp := gw_t z hp
              refine gw_aload_n X 70 1 dX0_pairs_69 rfl rfl rfl ?_
              refine gw_dup X 71 dX0_pairs_70 rfl rfl ?_
              refine gX_g0_15 X 74 q312 dX0_pairs_71 rfl ?_
              refine gw_iconst X 75 dX0_pairs_74 rfl gw_ci_1 ?_
              refine gw_iload_n X 76 4 dX0_pairs_75 rfl rfl rfl ?_
              refine gw_ishl X 77 dX0_pairs_76 rfl ?_
              refine gw_ior X 78 dX0_pairs_77 rfl ?_
              refine gX_p0_15 X 81 q312 dX0_pairs_78 rfl ?_
              refine gw_aload_n X 82 1 dX0_pairs_81 rfl rfl rfl ?_
              obtain ⟨σ12, h13, hp⟩ := gw_let_some hp
              rw [← h13]
              clear h13
              refine gX_g0_13 X 85 q310 dX0_pairs_82 rfl ?_
              refine gw_iload X 87 0 dX0_pairs_85 rfl rfl ?_
              obtain ⟨hc, hp⟩ := gw_ck_some hp
              refine gX_l6 X 88 (Int32.toNatClampNeg (((6 : Int32) * (σ.1 3 (Int32.toNatClampNeg v1))) + c3)) hc rfl dX0_pairs_87 rfl ?_
              refine gw_iconst X 89 dX0_pairs_88 rfl gw_ci_m1 ?_
              refine gw_icmp_eq X 110 92 dX0_pairs_89 rfl rfl (fun z => ?_) (fun z => ?_)
              · replace hp := gw_t z hp
                refine gw_aload_n X 111 1 dX0_pairs_110 rfl rfl rfl ?_
                refine gX_g0_13 X 114 q310 dX0_pairs_111 rfl ?_
                refine gw_iload X 116 0 dX0_pairs_114 rfl rfl ?_
                refine gw_iload_n X 117 2 dX0_pairs_116 rfl rfl rfl ?_
                obtain ⟨hc, hp⟩ := gw_ck_some hp
                refine gX_s6 X 118 (Int32.toNatClampNeg (((6 : Int32) * (σ.1 3 (Int32.toNatClampNeg v1))) + c3)) hc rfl dX0_pairs_117 rfl ?_
                refine gw_aload_n X 119 1 dX0_pairs_118 rfl rfl rfl ?_
                obtain ⟨σ14, h15, hp⟩ := gw_let_some hp
                rw [← h15]
                clear h15
                refine gX_g0_14 X 122 q311 dX0_pairs_119 rfl ?_
                refine gw_iload_n X 123 2 dX0_pairs_122 rfl rfl rfl ?_
                refine gw_iload_n X 124 4 dX0_pairs_123 rfl rfl rfl ?_
                obtain ⟨hc, hp⟩ := gw_ck_some hp
                refine gX_s7 X 125 (Int32.toNatClampNeg v1) hc rfl dX0_pairs_124 rfl ?_
                refine gw_iconst X 126 dX0_pairs_125 rfl gw_ci_1 ?_
                cases hp
                exact gw_zret1 X dX0_pairs_126 (fun _ h => ⟨rfl, h⟩) (Nat.le_of_ble_eq_true rfl) (Nat.le_of_ble_eq_true rfl)
              · replace hp := gw_f z hp
                refine gw_aload_n X 93 1 dX0_pairs_92 rfl rfl rfl ?_
                refine gw_aload_n X 94 1 dX0_pairs_93 rfl rfl rfl ?_
                refine gX_g0_13 X 97 q310 dX0_pairs_94 rfl ?_
                refine gw_iload X 99 0 dX0_pairs_97 rfl rfl ?_
                obtain ⟨hc, hp⟩ := gw_ck_some hp
                refine gX_l6 X 100 (Int32.toNatClampNeg (((6 : Int32) * (σ.1 3 (Int32.toNatClampNeg v1))) + c3)) hc rfl dX0_pairs_99 rfl ?_
                refine gw_iload_n X 101 3 dX0_pairs_100 rfl rfl rfl ?_
                obtain ⟨r16, σ17, h18, hp⟩ := gw_b2_some hp
                refine gw_callVi X 104 [.int (σ12.1 6 (Int32.toNatClampNeg (((6 : Int32) * (σ.1 3 (Int32.toNatClampNeg v1))) + c3))), .int v2] (hrec h18) lk_X0_262 ydv_X0_pairs gX_cl0 gX_at0 hfit rfl rfl dX0_pairs_101 rfl rfl rfl ?_
                refine gw_if_neB X 110 107 dX0_pairs_104 rfl rfl (fun z => ?_) (fun z => ?_)
                · replace hp := gw_t z hp
                  refine gw_aload_n X 111 1 dX0_pairs_110 rfl rfl rfl ?_
                  refine gX_g0_13 X 114 q310 dX0_pairs_111 rfl ?_
                  refine gw_iload X 116 0 dX0_pairs_114 rfl rfl ?_
                  refine gw_iload_n X 117 2 dX0_pairs_116 rfl rfl rfl ?_
                  obtain ⟨hc, hp⟩ := gw_ck_some hp
                  refine gX_s6 X 118 (Int32.toNatClampNeg (((6 : Int32) * (σ.1 3 (Int32.toNatClampNeg v1))) + c3)) hc rfl dX0_pairs_117 rfl ?_
                  refine gw_aload_n X 119 1 dX0_pairs_118 rfl rfl rfl ?_
                  obtain ⟨σ19, h20, hp⟩ := gw_let_some hp
                  rw [← h20]
                  clear h20
                  refine gX_g0_14 X 122 q311 dX0_pairs_119 rfl ?_
                  refine gw_iload_n X 123 2 dX0_pairs_122 rfl rfl rfl ?_
                  refine gw_iload_n X 124 4 dX0_pairs_123 rfl rfl rfl ?_
                  obtain ⟨hc, hp⟩ := gw_ck_some hp
                  refine gX_s7 X 125 (Int32.toNatClampNeg v1) hc rfl dX0_pairs_124 rfl ?_
                  refine gw_iconst X 126 dX0_pairs_125 rfl gw_ci_1 ?_
                  cases hp
                  exact gw_zret1 X dX0_pairs_126 (fun _ h => ⟨rfl, h⟩) (Nat.le_of_ble_eq_true rfl) (Nat.le_of_ble_eq_true rfl)
                · replace hp := gw_f z hp
                  refine gw_goto X 127 dX0_pairs_107 rfl ?_
                  refine gw_iinc X 130 4 [(3, .int (c3 + 1)), (4, .int (((6 : Int32) * (σ.1 3 (Int32.toNatClampNeg v1))) + c3)), (0, .ref (a 0)), (1, .int v1), (2, .int v2)] dX0_pairs_127 rfl rfl gw_ci_1 (by decide) rfl ?_
                  refine gw_goto X 2 dX0_pairs_130 rfl ?_
                  refine gw_lv [2, 3, 4, 0] rfl ?_
                  exact ih hp
            · replace hp := gw_f z hp
              refine gw_goto X 127 dX0_pairs_66 rfl ?_
              refine gw_iinc X 130 4 [(3, .int (c3 + 1)), (4, .int (((6 : Int32) * (σ.1 3 (Int32.toNatClampNeg v1))) + c3)), (0, .ref (a 0)), (1, .int v1), (2, .int v2)] dX0_pairs_127 rfl rfl gw_ci_1 (by decide) rfl ?_
              refine gw_goto X 2 dX0_pairs_130 rfl ?_
              refine gw_lv [2, 3, 4, 0] rfl ?_
              exact ih hp
      · replace hp := gw_f z hp
        refine gw_goto X 127 dX0_pairs_17 rfl ?_
        refine gw_iinc X 130 3 [(3, .int (c3 + 1)), (0, .ref (a 0)), (1, .int v1), (2, .int v2)] dX0_pairs_127 rfl rfl gw_ci_1 (by decide) rfl ?_
        refine gw_goto X 2 dX0_pairs_130 rfl ?_
        refine gw_lv [1, 2, 3, 0] rfl ?_
        exact ih hp
set_option maxHeartbeats 4000000 in
theorem mtb_X0_pairs {d0 : Nat} {rec : gw_S → Int32 → Int32 → Option (Bool × gw_S)} {l : Launch} {D : gw_D} {a : Nat → Nat} {Wr : va_W → Prop} {σ : gw_S} {x1 : Int32} {x2 : Int32} {res : Bool × gw_S} (hp : fx_X0_pairs_b rec σ x1 x2 = some res) (hfit : gw_fit (rmp_X0_pairs d0) (rmp_X0_pairs (d0 + 1)) 5 0 0 = true) (hrec : ∀ {σ0 : gw_S} {y1 : Int32} {y2 : Int32} {rs : Bool × gw_S}, rec σ0 y1 y2 = some rs → gw_Ct D l yX0_pairs cX0_pairs 5 (some .boolean) (rmp_X0_pairs d0) [.ref (a 0), .int y1, .int y2] (gw_st (wX D a σ0) Wr) (gw_pI (gw_b rs.1) (gw_st (wX D a rs.2) Wr))) : gw_Ct D l yX0_pairs cX0_pairs 5 (some .boolean) (rmp_X0_pairs (d0 + 1)) [.ref (a 0), .int x1, .int x2] (gw_st (wX D a σ) Wr) (gw_pI (gw_b res.1) (gw_st (wX D a res.2) Wr)) := by
  refine gw_ct (own := RX0) [(0, .ref (a 0)), (1, .int x1), (2, .int x2)] (by decide) rfl (Nat.le_of_ble_eq_true rfl) rfl ?_
  intro E X
  unfold fx_X0_pairs_b at hp
  refine gw_iconst X 1 dX0_pairs_0 rfl gw_ci_0 ?_
  refine gw_istore_n X 2 [(3, .int 0), (0, .ref (a 0)), (1, .int x1), (2, .int x2)] dX0_pairs_1 rfl rfl (by decide) rfl ?_
  refine gw_lv [1, 2, 3, 0] rfl ?_
  exact wk_X0_pairs_L2 X hfit hrec hp
abbrev rm_X7_does_1 : Room := { frames := 2, cells := 0, slots := 0, locals := 42 }
def fx_X7_does_1 (σ : gw_S) (x1 : Int32) (x2 : Int32) (x3 : Int32) (x4 : Int32) : Option (gw_S) := gw_let (gw_u σ 0 6 ((σ.1 0 6) ||| ((1 : Int32) <<< (x2 &&& 31)))) (fun σ1 => gw_ck x2 8 (gw_ck x2 8 (gw_let (gw_u σ1 4 (Int32.toNatClampNeg x2) ((σ1.1 4 (Int32.toNatClampNeg x2)) + (1 : Int32))) (fun σ3 => gw_ck x2 8 (gw_b1 (if (σ3.1 4 (Int32.toNatClampNeg x2)) < (fx_X0_limit σ3 x2) then some σ3 else gw_ck x2 8 (some (gw_u σ3 3 (Int32.toNatClampNeg x2) (-1)))) (fun (σ5 : gw_S) => some (gw_u σ5 0 8 ((σ5.1 0 8) + (1 : Int32)))))))))
set_option maxHeartbeats 4000000 in
theorem mt_X7_does_1 {l : Launch} {D : gw_D} {a : Nat → Nat} {Wr : va_W → Prop} {σ : gw_S} {b : Nat → Nat} {x1 : Int32} {x2 : Int32} {x3 : Int32} {x4 : Int32} {res : gw_S} (hp : fx_X7_does_1 σ x1 x2 x3 x4 = some res) : gw_Ct D l yX7_does cX7_does 5 none rm_X7_does_1 [.ref (b 1), .int x1, .int x2, .int x3, .int x4] (gw_st (wX D a σ) (gw_st (wK D a b) Wr)) (gw_pV (gw_st (wX D a res) (gw_st (wK D a b) Wr))) := by
  refine gw_ct (own := RX7) [(0, .ref (b 1)), (1, .int x1), (2, .int x2), (3, .int x3), (4, .int x4)] (by decide) rfl (Nat.le_of_ble_eq_true rfl) rfl ?_
  intro E X
  unfold fx_X7_does_1 at hp
  refine gw_aload_n X 1 0 dX7_does_0 rfl rfl rfl ?_
  refine gA_g1 X 4 q675 dX7_does_1 rfl ?_
  refine gw_dup X 5 dX7_does_4 rfl rfl ?_
  refine gX_g0_6N X 8 q289 dX7_does_5 rfl ?_
  refine gw_iconst X 9 dX7_does_8 rfl gw_ci_1 ?_
  refine gw_iload_n X 10 2 dX7_does_9 rfl rfl rfl ?_
  refine gw_ishl X 11 dX7_does_10 rfl ?_
  refine gw_ior X 12 dX7_does_11 rfl ?_
  refine gX_p0_6N X 15 q289 dX7_does_12 rfl ?_
  refine gw_aload_n X 16 0 dX7_does_15 rfl rfl rfl ?_
  obtain ⟨σ1, h2, hp⟩ := gw_let_some hp
  rw [← h2]
  clear h2
  refine gA_g1 X 19 q675 dX7_does_16 rfl ?_
  refine gX_g0_10N X 22 q304 dX7_does_19 rfl ?_
  refine gw_iload_n X 23 2 dX7_does_22 rfl rfl rfl ?_
  refine gw_dup2 X 24 dX7_does_23 rfl rfl rfl ?_
  obtain ⟨hc, hp⟩ := gw_ck_some hp
  refine gX_l4 X 25 (Int32.toNatClampNeg x2) hc rfl dX7_does_24 rfl ?_
  refine gw_iconst X 26 dX7_does_25 rfl gw_ci_1 ?_
  refine gw_iadd X 27 dX7_does_26 rfl ?_
  obtain ⟨hc, hp⟩ := gw_ck_some hp
  refine gX_s4 X 28 (Int32.toNatClampNeg x2) hc rfl dX7_does_27 rfl ?_
  refine gw_aload_n X 29 0 dX7_does_28 rfl rfl rfl ?_
  obtain ⟨σ3, h4, hp⟩ := gw_let_some hp
  rw [← h4]
  clear h4
  refine gA_g1 X 32 q675 dX7_does_29 rfl ?_
  refine gX_g0_10N X 35 q304 dX7_does_32 rfl ?_
  refine gw_iload_n X 36 2 dX7_does_35 rfl rfl rfl ?_
  obtain ⟨hc, hp⟩ := gw_ck_some hp
  refine gX_l4 X 37 (Int32.toNatClampNeg x2) hc rfl dX7_does_36 rfl ?_
  refine gw_aload_n X 38 0 dX7_does_37 rfl rfl rfl ?_
  refine gA_g1 X 41 q675 dX7_does_38 rfl ?_
  refine gw_iload_n X 42 2 dX7_does_41 rfl rfl rfl ?_
  refine gw_callVNi X 45 [.int x2] (mt_X0_limit rfl) q799 (lw_meth q802) q801 qs23 q136 yd_X0_limit gX_cl0 gX_at0 rfl rfl rfl dX7_does_42 rfl rfl rfl ?_
  obtain ⟨σ5, h6, hp⟩ := gw_b1_some hp
  have kJ : gw_W E 58 [(0, .ref (b 1))] [] (gw_st (wX D a σ5) (gw_st (wK D a b) Wr)) 0 0 := by
    refine gw_aload_n X 59 0 dX7_does_58 rfl rfl rfl ?_
    refine gA_g1 X 62 q675 dX7_does_59 rfl ?_
    refine gw_dup X 63 dX7_does_62 rfl rfl ?_
    refine gX_g0_8N X 66 q296 dX7_does_63 rfl ?_
    refine gw_iconst X 67 dX7_does_66 rfl gw_ci_1 ?_
    refine gw_iadd X 68 dX7_does_67 rfl ?_
    refine gX_p0_8N X 71 q296 dX7_does_68 rfl ?_
    cases hp
    exact gw_vret X dX7_does_71 (fun _ h => ⟨rfl, h⟩) (Nat.le_of_ble_eq_true rfl) (Nat.le_of_ble_eq_true rfl)
  clear hp
  have hp := h6
  clear h6
  refine gw_icmp_lt X 58 48 dX7_does_45 rfl rfl (fun z => ?_) (fun z => ?_)
  · replace hp := gw_t z hp
    cases hp
    exact gw_lv [0] rfl kJ
  · replace hp := gw_f z hp
    refine gw_aload_n X 49 0 dX7_does_48 rfl rfl rfl ?_
    refine gA_g1 X 52 q675 dX7_does_49 rfl ?_
    refine gX_g0_9N X 55 q302 dX7_does_52 rfl ?_
    refine gw_iload_n X 56 2 dX7_does_55 rfl rfl rfl ?_
    refine gw_iconst X 57 dX7_does_56 rfl gw_ci_m1 ?_
    obtain ⟨hc, hp⟩ := gw_ck_some hp
    refine gX_s3 X 58 (Int32.toNatClampNeg x2) hc rfl dX7_does_57 rfl ?_
    cases hp
    exact gw_lv [0] rfl kJ
abbrev rm_X7_does_2 : Room := { frames := 2, cells := 0, slots := 0, locals := 42 }
def fx_X7_does_2 (σ : gw_S) (x1 : Int32) (x2 : Int32) (x3 : Int32) (x4 : Int32) : Option (gw_S) := gw_let (gw_u σ 0 6 ((σ.1 0 6) ||| ((1 : Int32) <<< (x2 &&& 31)))) (fun σ1 => gw_ck x2 8 (gw_ck x2 8 (gw_let (gw_u σ1 4 (Int32.toNatClampNeg x2) ((σ1.1 4 (Int32.toNatClampNeg x2)) + (1 : Int32))) (fun σ3 => gw_ck x2 8 (gw_b1 (if (σ3.1 4 (Int32.toNatClampNeg x2)) < (fx_X0_limit σ3 x2) then some σ3 else gw_ck x2 8 (some (gw_u σ3 3 (Int32.toNatClampNeg x2) (-1)))) (fun (σ5 : gw_S) => some (gw_u σ5 0 8 ((σ5.1 0 8) + (1 : Int32)))))))))
set_option maxHeartbeats 4000000 in
theorem mt_X7_does_2 {l : Launch} {D : gw_D} {a : Nat → Nat} {Wr : va_W → Prop} {σ : gw_S} {b : Nat → Nat} {x1 : Int32} {x2 : Int32} {x3 : Int32} {x4 : Int32} {res : gw_S} (hp : fx_X7_does_2 σ x1 x2 x3 x4 = some res) : gw_Ct D l yX7_does cX7_does 5 none rm_X7_does_2 [.ref (b 2), .int x1, .int x2, .int x3, .int x4] (gw_st (wX D a σ) (gw_st (wK D a b) Wr)) (gw_pV (gw_st (wX D a res) (gw_st (wK D a b) Wr))) := by
  refine gw_ct (own := RX7) [(0, .ref (b 2)), (1, .int x1), (2, .int x2), (3, .int x3), (4, .int x4)] (by decide) rfl (Nat.le_of_ble_eq_true rfl) rfl ?_
  intro E X
  unfold fx_X7_does_2 at hp
  refine gw_aload_n X 1 0 dX7_does_0 rfl rfl rfl ?_
  refine gA_g2a X 4 q675 dX7_does_1 rfl ?_
  refine gw_dup X 5 dX7_does_4 rfl rfl ?_
  refine gX_g0_6N X 8 q289 dX7_does_5 rfl ?_
  refine gw_iconst X 9 dX7_does_8 rfl gw_ci_1 ?_
  refine gw_iload_n X 10 2 dX7_does_9 rfl rfl rfl ?_
  refine gw_ishl X 11 dX7_does_10 rfl ?_
  refine gw_ior X 12 dX7_does_11 rfl ?_
  refine gX_p0_6N X 15 q289 dX7_does_12 rfl ?_
  refine gw_aload_n X 16 0 dX7_does_15 rfl rfl rfl ?_
  obtain ⟨σ1, h2, hp⟩ := gw_let_some hp
  rw [← h2]
  clear h2
  refine gA_g2a X 19 q675 dX7_does_16 rfl ?_
  refine gX_g0_10N X 22 q304 dX7_does_19 rfl ?_
  refine gw_iload_n X 23 2 dX7_does_22 rfl rfl rfl ?_
  refine gw_dup2 X 24 dX7_does_23 rfl rfl rfl ?_
  obtain ⟨hc, hp⟩ := gw_ck_some hp
  refine gX_l4 X 25 (Int32.toNatClampNeg x2) hc rfl dX7_does_24 rfl ?_
  refine gw_iconst X 26 dX7_does_25 rfl gw_ci_1 ?_
  refine gw_iadd X 27 dX7_does_26 rfl ?_
  obtain ⟨hc, hp⟩ := gw_ck_some hp
  refine gX_s4 X 28 (Int32.toNatClampNeg x2) hc rfl dX7_does_27 rfl ?_
  refine gw_aload_n X 29 0 dX7_does_28 rfl rfl rfl ?_
  obtain ⟨σ3, h4, hp⟩ := gw_let_some hp
  rw [← h4]
  clear h4
  refine gA_g2a X 32 q675 dX7_does_29 rfl ?_
  refine gX_g0_10N X 35 q304 dX7_does_32 rfl ?_
  refine gw_iload_n X 36 2 dX7_does_35 rfl rfl rfl ?_
  obtain ⟨hc, hp⟩ := gw_ck_some hp
  refine gX_l4 X 37 (Int32.toNatClampNeg x2) hc rfl dX7_does_36 rfl ?_
  refine gw_aload_n X 38 0 dX7_does_37 rfl rfl rfl ?_
  refine gA_g2a X 41 q675 dX7_does_38 rfl ?_
  refine gw_iload_n X 42 2 dX7_does_41 rfl rfl rfl ?_
  refine gw_callVNi X 45 [.int x2] (mt_X0_limit rfl) q799 (lw_meth q802) q801 qs23 q136 yd_X0_limit gX_cl0 gX_at0 rfl rfl rfl dX7_does_42 rfl rfl rfl ?_
  obtain ⟨σ5, h6, hp⟩ := gw_b1_some hp
  have kJ : gw_W E 58 [(0, .ref (b 2))] [] (gw_st (wX D a σ5) (gw_st (wK D a b) Wr)) 0 0 := by
    refine gw_aload_n X 59 0 dX7_does_58 rfl rfl rfl ?_
    refine gA_g2a X 62 q675 dX7_does_59 rfl ?_
    refine gw_dup X 63 dX7_does_62 rfl rfl ?_
    refine gX_g0_8N X 66 q296 dX7_does_63 rfl ?_
    refine gw_iconst X 67 dX7_does_66 rfl gw_ci_1 ?_
    refine gw_iadd X 68 dX7_does_67 rfl ?_
    refine gX_p0_8N X 71 q296 dX7_does_68 rfl ?_
    cases hp
    exact gw_vret X dX7_does_71 (fun _ h => ⟨rfl, h⟩) (Nat.le_of_ble_eq_true rfl) (Nat.le_of_ble_eq_true rfl)
  clear hp
  have hp := h6
  clear h6
  refine gw_icmp_lt X 58 48 dX7_does_45 rfl rfl (fun z => ?_) (fun z => ?_)
  · replace hp := gw_t z hp
    cases hp
    exact gw_lv [0] rfl kJ
  · replace hp := gw_f z hp
    refine gw_aload_n X 49 0 dX7_does_48 rfl rfl rfl ?_
    refine gA_g2a X 52 q675 dX7_does_49 rfl ?_
    refine gX_g0_9N X 55 q302 dX7_does_52 rfl ?_
    refine gw_iload_n X 56 2 dX7_does_55 rfl rfl rfl ?_
    refine gw_iconst X 57 dX7_does_56 rfl gw_ci_m1 ?_
    obtain ⟨hc, hp⟩ := gw_ck_some hp
    refine gX_s3 X 58 (Int32.toNatClampNeg x2) hc rfl dX7_does_57 rfl ?_
    cases hp
    exact gw_lv [0] rfl kJ
abbrev rm_X8_does_2 : Room := { frames := 3, cells := 0, slots := 0, locals := 66 }
def fx_X8_does_2 (σ : gw_S) (x1 : Int32) (x2 : Int32) (x3 : Int32) (x4 : Int32) : Option (gw_S) := gw_ck x3 8 (gw_b1 (fx_X7_does_2 (gw_u σ 3 (Int32.toNatClampNeg x3) x4) x1 x2 x3 x4) (fun σ1 => some (gw_u σ1 0 8 ((σ1.1 0 8) - (1 : Int32)))))
set_option maxHeartbeats 4000000 in
theorem mt_X8_does_2 {l : Launch} {D : gw_D} {a : Nat → Nat} {Wr : va_W → Prop} {σ : gw_S} {b : Nat → Nat} {x1 : Int32} {x2 : Int32} {x3 : Int32} {x4 : Int32} {res : gw_S} (hp : fx_X8_does_2 σ x1 x2 x3 x4 = some res) : gw_Ct D l yX8_does cX8_does 5 none rm_X8_does_2 [.ref (b 2), .int x1, .int x2, .int x3, .int x4] (gw_st (wX D a σ) (gw_st (wK D a b) Wr)) (gw_pV (gw_st (wX D a res) (gw_st (wK D a b) Wr))) := by
  refine gw_ct (own := RX8) [(0, .ref (b 2)), (1, .int x1), (2, .int x2), (3, .int x3), (4, .int x4)] (by decide) rfl (Nat.le_of_ble_eq_true rfl) rfl ?_
  intro E X
  unfold fx_X8_does_2 at hp
  refine gw_aload_n X 1 0 dX8_does_0 rfl rfl rfl ?_
  refine gA_g2 X 4 q745 dX8_does_1 rfl ?_
  refine gX_g0_9N X 7 q298 dX8_does_4 rfl ?_
  refine gw_iload_n X 8 3 dX8_does_7 rfl rfl rfl ?_
  refine gw_iload X 10 4 dX8_does_8 rfl rfl ?_
  obtain ⟨hc, hp⟩ := gw_ck_some hp
  refine gX_s3 X 11 (Int32.toNatClampNeg x3) hc rfl dX8_does_10 rfl ?_
  refine gw_aload_n X 12 0 dX8_does_11 rfl rfl rfl ?_
  refine gw_iload_n X 13 1 dX8_does_12 rfl rfl rfl ?_
  refine gw_iload_n X 14 2 dX8_does_13 rfl rfl rfl ?_
  refine gw_iload_n X 15 3 dX8_does_14 rfl rfl rfl ?_
  refine gw_iload X 17 4 dX8_does_15 rfl rfl ?_
  obtain ⟨σ1, h2, hp⟩ := gw_b1_some hp
  refine gw_callSUv X 20 [.int x1, .int x2, .int x3, .int x4] (mt_X7_does_2 h2) (gw_gSU q811 q2081 q749 q797 q156 q798) (show yX7_does.name ≠ "<init>" ∧ (parseMethodDescriptor yX7_does.desc).map (fun d => d.parameters.length) = some 4 by decide +kernel) gl_cl7 (q0 := 17) (by rintro _ ⟨_, ⟨_, _, rfl⟩, rfl⟩; exact ⟨_, rfl⟩) rfl rfl rfl dX8_does_17 rfl rfl rfl ?_
  refine gw_aload_n X 21 0 dX8_does_20 rfl rfl rfl ?_
  refine gA_g2 X 24 q745 dX8_does_21 rfl ?_
  refine gw_dup X 25 dX8_does_24 rfl rfl ?_
  refine gX_g0_8N X 28 q295 dX8_does_25 rfl ?_
  refine gw_iconst X 29 dX8_does_28 rfl gw_ci_1 ?_
  refine gw_isub X 30 dX8_does_29 rfl ?_
  refine gX_p0_8N X 33 q295 dX8_does_30 rfl ?_
  cases hp
  exact gw_vret X dX8_does_33 (fun _ h => ⟨rfl, h⟩) (Nat.le_of_ble_eq_true rfl) (Nat.le_of_ble_eq_true rfl)
abbrev rm_X9_does_3 : Room := { frames := 0, cells := 0, slots := 0, locals := 0 }
def fx_X9_does_3 (σ : gw_S) (x1 : Int32) (x2 : Int32) (x3 : Int32) (x4 : Int32) : Option (gw_S) := gw_ck x1 8 (gw_ck x2 8 (gw_ck x1 8 (gw_let (gw_u σ 3 (Int32.toNatClampNeg x1) (σ.1 3 (Int32.toNatClampNeg x2))) (fun σ1 => gw_ck x2 8 (some (gw_u σ1 3 (Int32.toNatClampNeg x2) (σ.1 3 (Int32.toNatClampNeg x1))))))))
set_option maxHeartbeats 4000000 in
theorem mt_X9_does_3 {l : Launch} {D : gw_D} {a : Nat → Nat} {Wr : va_W → Prop} {σ : gw_S} {b : Nat → Nat} {x1 : Int32} {x2 : Int32} {x3 : Int32} {x4 : Int32} {res : gw_S} (hp : fx_X9_does_3 σ x1 x2 x3 x4 = some res) : gw_Ct D l yX9_does cX9_does 6 none rm_X9_does_3 [.ref (b 3), .int x1, .int x2, .int x3, .int x4] (gw_st (wX D a σ) (gw_st (wK D a b) Wr)) (gw_pV (gw_st (wX D a res) (gw_st (wK D a b) Wr))) := by
  refine gw_ct (own := RX9) [(0, .ref (b 3)), (1, .int x1), (2, .int x2), (3, .int x3), (4, .int x4)] (by decide) rfl (Nat.le_of_ble_eq_true rfl) rfl ?_
  intro E X
  unfold fx_X9_does_3 at hp
  refine gw_aload_n X 1 0 dX9_does_0 rfl rfl rfl ?_
  refine gA_g3 X 4 q756 dX9_does_1 rfl ?_
  refine gX_g0_9N X 7 q299 dX9_does_4 rfl ?_
  refine gw_iload_n X 8 1 dX9_does_7 rfl rfl rfl ?_
  obtain ⟨hc, hp⟩ := gw_ck_some hp
  refine gX_l3 X 9 (Int32.toNatClampNeg x1) hc rfl dX9_does_8 rfl ?_
  refine gw_istore X 11 [(5, .int (σ.1 3 (Int32.toNatClampNeg x1))), (0, .ref (b 3)), (1, .int x1), (2, .int x2), (3, .int x3), (4, .int x4)] dX9_does_9 rfl (by decide) rfl ?_
  refine gw_aload_n X 12 1 dX9_does_11 rfl rfl rfl ?_
  refine gA_g3 X 15 q756 dX9_does_12 rfl ?_
  refine gX_g0_9N X 18 q299 dX9_does_15 rfl ?_
  refine gw_iload_n X 19 2 dX9_does_18 rfl rfl rfl ?_
  refine gw_aload_n X 20 1 dX9_does_19 rfl rfl rfl ?_
  refine gA_g3 X 23 q756 dX9_does_20 rfl ?_
  refine gX_g0_9N X 26 q299 dX9_does_23 rfl ?_
  refine gw_iload_n X 27 3 dX9_does_26 rfl rfl rfl ?_
  obtain ⟨hc, hp⟩ := gw_ck_some hp
  refine gX_l3 X 28 (Int32.toNatClampNeg x2) hc rfl dX9_does_27 rfl ?_
  obtain ⟨hc, hp⟩ := gw_ck_some hp
  refine gX_s3 X 29 (Int32.toNatClampNeg x1) hc rfl dX9_does_28 rfl ?_
  refine gw_aload_n X 30 1 dX9_does_29 rfl rfl rfl ?_
  obtain ⟨σ1, h2, hp⟩ := gw_let_some hp
  rw [← h2]
  clear h2
  refine gA_g3 X 33 q756 dX9_does_30 rfl ?_
  refine gX_g0_9N X 36 q299 dX9_does_33 rfl ?_
  refine gw_iload_n X 37 3 dX9_does_36 rfl rfl rfl ?_
  refine gw_iload X 39 0 dX9_does_37 rfl rfl ?_
  obtain ⟨hc, hp⟩ := gw_ck_some hp
  refine gX_s3 X 40 (Int32.toNatClampNeg x2) hc rfl dX9_does_39 rfl ?_
  cases hp
  exact gw_vret X dX9_does_40 (fun _ h => ⟨rfl, h⟩) (Nat.le_of_ble_eq_true rfl) (Nat.le_of_ble_eq_true rfl)
abbrev rm_X10_does_4 : Room := { frames := 0, cells := 0, slots := 0, locals := 0 }
def fx_X10_does_4 (σ : gw_S) (x1 : Int32) (x2 : Int32) (x3 : Int32) (x4 : Int32) : Option (gw_S) := gw_ck x2 8 (gw_ck x2 8 (gw_let (gw_u σ 5 (Int32.toNatClampNeg x2) (σ.1 3 (Int32.toNatClampNeg x2))) (fun σ1 => gw_ck x2 8 (gw_let (gw_u σ1 3 (Int32.toNatClampNeg x2) x1) (fun σ3 => some (gw_u σ3 0 7 ((σ3.1 0 7) ||| ((1 : Int32) <<< (x2 &&& 31)))))))))
set_option maxHeartbeats 4000000 in
theorem mt_X10_does_4 {l : Launch} {D : gw_D} {a : Nat → Nat} {Wr : va_W → Prop} {σ : gw_S} {b : Nat → Nat} {x1 : Int32} {x2 : Int32} {x3 : Int32} {x4 : Int32} {res : gw_S} (hp : fx_X10_does_4 σ x1 x2 x3 x4 = some res) : gw_Ct D l yX10_does cX10_does 5 none rm_X10_does_4 [.ref (b 4), .int x1, .int x2, .int x3, .int x4] (gw_st (wX D a σ) (gw_st (wK D a b) Wr)) (gw_pV (gw_st (wX D a res) (gw_st (wK D a b) Wr))) := by
  refine gw_ct (own := RX10) [(0, .ref (b 4)), (1, .int x1), (2, .int x2), (3, .int x3), (4, .int x4)] (by decide) rfl (Nat.le_of_ble_eq_true rfl) rfl ?_
  intro E X
  unfold fx_X10_does_4 at hp
  refine gw_aload_n X 1 0 dX10_does_0 rfl rfl rfl ?_
  refine gA_g4 X 4 q766 dX10_does_1 rfl ?_
  refine gX_g0_11N X 7 q306 dX10_does_4 rfl ?_
  refine gw_iload_n X 8 2 dX10_does_7 rfl rfl rfl ?_
  refine gw_aload_n X 9 0 dX10_does_8 rfl rfl rfl ?_
  refine gA_g4 X 12 q766 dX10_does_9 rfl ?_
  refine gX_g0_9N X 15 q300 dX10_does_12 rfl ?_
  refine gw_iload_n X 16 2 dX10_does_15 rfl rfl rfl ?_
  obtain ⟨hc, hp⟩ := gw_ck_some hp
  refine gX_l3 X 17 (Int32.toNatClampNeg x2) hc rfl dX10_does_16 rfl ?_
  obtain ⟨hc, hp⟩ := gw_ck_some hp
  refine gX_s5 X 18 (Int32.toNatClampNeg x2) hc rfl dX10_does_17 rfl ?_
  refine gw_aload_n X 19 0 dX10_does_18 rfl rfl rfl ?_
  obtain ⟨σ1, h2, hp⟩ := gw_let_some hp
  rw [← h2]
  clear h2
  refine gA_g4 X 22 q766 dX10_does_19 rfl ?_
  refine gX_g0_9N X 25 q300 dX10_does_22 rfl ?_
  refine gw_iload_n X 26 2 dX10_does_25 rfl rfl rfl ?_
  refine gw_iload_n X 27 1 dX10_does_26 rfl rfl rfl ?_
  obtain ⟨hc, hp⟩ := gw_ck_some hp
  refine gX_s3 X 28 (Int32.toNatClampNeg x2) hc rfl dX10_does_27 rfl ?_
  refine gw_aload_n X 29 0 dX10_does_28 rfl rfl rfl ?_
  obtain ⟨σ3, h4, hp⟩ := gw_let_some hp
  rw [← h4]
  clear h4
  refine gA_g4 X 32 q766 dX10_does_29 rfl ?_
  refine gw_dup X 33 dX10_does_32 rfl rfl ?_
  refine gX_g0_7N X 36 q293 dX10_does_33 rfl ?_
  refine gw_iconst X 37 dX10_does_36 rfl gw_ci_1 ?_
  refine gw_iload_n X 38 2 dX10_does_37 rfl rfl rfl ?_
  refine gw_ishl X 39 dX10_does_38 rfl ?_
  refine gw_ior X 40 dX10_does_39 rfl ?_
  refine gX_p0_7N X 43 q293 dX10_does_40 rfl ?_
  cases hp
  exact gw_vret X dX10_does_43 (fun _ h => ⟨rfl, h⟩) (Nat.le_of_ble_eq_true rfl) (Nat.le_of_ble_eq_true rfl)
abbrev rm_X11_does_5 : Room := { frames := 1, cells := 0, slots := 0, locals := 21 }
def fx_X11_does_5_L3 {τ : Type} (k : gw_S → Option (τ))  : Nat → Int32 → gw_S → Option (τ)
  | 0, _, _ => none
  | n + 1, c5, σ => (if (σ.1 1 2) ≤ c5 then k σ else (if fx_X0_isOf (σ.1 0 7) c5 = true then gw_ck c5 8 ((if (σ.1 3 (Int32.toNatClampNeg c5)) = (-1 : Int32) then fx_X11_does_5_L3 k  n (c5 + 1) σ else gw_ck c5 8 (gw_ck c5 8 (fx_X11_does_5_L3 k  n (c5 + 1) (gw_u σ 3 (Int32.toNatClampNeg c5) (σ.1 5 (Int32.toNatClampNeg c5))))))) else fx_X11_does_5_L3 k  n (c5 + 1) σ))
def fx_X11_does_5 (σ : gw_S) (x1 : Int32) (x2 : Int32) (x3 : Int32) (x4 : Int32) : Option (gw_S) := fx_X11_does_5_L3 (fun (σ1 : gw_S) => gw_let (gw_u σ1 0 7 0) (fun σ2 => gw_let (gw_u σ2 0 6 0) (fun σ4 => some (gw_u σ4 0 5 ((σ4.1 0 5) + (1 : Int32))))))  1000 (0 : Int32) σ
set_option maxHeartbeats 4000000 in
theorem wk_X11_does_5_L3 {E : gw_E} {l : Launch} {D : gw_D} {a : Nat → Nat} {Wr : va_W → Prop} {b : Nat → Nat} {τ : Type} {res : τ} {post : Option (Option Value → va_W → Prop)} (X : gw_X E cX11_does 6 RX11 none l D rm_X11_does_5 post) {k : gw_S → Option (τ)}  : ∀ {n : Nat} {c5 : Int32} {σ : gw_S}, fx_X11_does_5_L3 k  n c5 σ = some res → (∀  (σ : gw_S), k σ = some res → gw_W E 73 [(0, .ref (b 5))] [] (gw_st (wX D a σ) (gw_st (wK D a b) Wr)) 0 0) → gw_W E 3 [(0, .ref (b 5)), (5, .int c5)] [] (gw_st (wX D a σ) (gw_st (wK D a b) Wr)) 0 0 := by
  intro n
  induction n with
  | zero =>
    intro c5 σ hp hk
    cases (show none = some res from hp)
  | succ n ih =>
    intro c5 σ hp hk
    rw [fx_X11_does_5_L3] at hp
    refine gw_iload X 5 1 dX11_does_3 rfl rfl ?_
    refine gw_aload_n X 6 0 dX11_does_5 rfl rfl rfl ?_
    refine gA_g5 X 9 q776 dX11_does_6 rfl ?_
    refine gX_g0_0N X 12 q279 dX11_does_9 rfl ?_
    refine gX_g1_2N X 15 q191 dX11_does_12 rfl ?_
    refine gw_icmp_ge X 73 18 dX11_does_15 rfl rfl (fun z => ?_) (fun z => ?_)
    · replace hp := gw_t z hp
      refine gw_lv [0] rfl ?_
      exact hk _ hp
    · replace hp := gw_f z hp
      refine gw_aload_n X 19 0 dX11_does_18 rfl rfl rfl ?_
      refine gA_g5 X 22 q776 dX11_does_19 rfl ?_
      refine gX_g0_7N X 25 q292 dX11_does_22 rfl ?_
      refine gw_iload X 27 1 dX11_does_25 rfl rfl ?_
      refine gw_callSNi X 30 [.int (σ.1 0 7), .int c5] (mt_X0_isOf rfl) q807 (lw_meth q625) q624 q136 yd_X0_isOf rfl rfl rfl dX11_does_27 rfl rfl rfl ?_
      refine gw_if_eqB X 67 33 dX11_does_30 rfl rfl (fun z => ?_) (fun z => ?_)
      · replace hp := gw_f z hp
        refine gw_iinc X 70 1 [(5, .int (c5 + 1)), (0, .ref (b 5))] dX11_does_67 rfl rfl gw_ci_1 (by decide) rfl ?_
        refine gw_goto X 3 dX11_does_70 rfl ?_
        refine gw_lv [1, 0] rfl ?_
        exact ih hp hk
      · replace hp := gw_t z hp
        refine gw_aload_n X 34 0 dX11_does_33 rfl rfl rfl ?_
        refine gA_g5 X 37 q776 dX11_does_34 rfl ?_
        refine gX_g0_9N X 40 q301 dX11_does_37 rfl ?_
        refine gw_iload X 42 1 dX11_does_40 rfl rfl ?_
        obtain ⟨hc, hp⟩ := gw_ck_some hp
        refine gX_l3 X 43 (Int32.toNatClampNeg c5) hc rfl dX11_does_42 rfl ?_
        refine gw_iconst X 44 dX11_does_43 rfl gw_ci_m1 ?_
        refine gw_icmp_eq X 67 47 dX11_does_44 rfl rfl (fun z => ?_) (fun z => ?_)
        · replace hp := gw_t z hp
          refine gw_iinc X 70 1 [(5, .int (c5 + 1)), (0, .ref (b 5))] dX11_does_67 rfl rfl gw_ci_1 (by decide) rfl ?_
          refine gw_goto X 3 dX11_does_70 rfl ?_
          refine gw_lv [1, 0] rfl ?_
          exact ih hp hk
        · replace hp := gw_f z hp
          refine gw_aload_n X 48 0 dX11_does_47 rfl rfl rfl ?_
          refine gA_g5 X 51 q776 dX11_does_48 rfl ?_
          refine gX_g0_9N X 54 q301 dX11_does_51 rfl ?_
          refine gw_iload X 56 1 dX11_does_54 rfl rfl ?_
          refine gw_aload_n X 57 0 dX11_does_56 rfl rfl rfl ?_
          refine gA_g5 X 60 q776 dX11_does_57 rfl ?_
          refine gX_g0_11N X 63 q307 dX11_does_60 rfl ?_
          refine gw_iload X 65 1 dX11_does_63 rfl rfl ?_
          obtain ⟨hc, hp⟩ := gw_ck_some hp
          refine gX_l5 X 66 (Int32.toNatClampNeg c5) hc rfl dX11_does_65 rfl ?_
          obtain ⟨hc, hp⟩ := gw_ck_some hp
          refine gX_s3 X 67 (Int32.toNatClampNeg c5) hc rfl dX11_does_66 rfl ?_
          refine gw_iinc X 70 1 [(5, .int (c5 + 1)), (0, .ref (b 5))] dX11_does_67 rfl rfl gw_ci_1 (by decide) rfl ?_
          refine gw_goto X 3 dX11_does_70 rfl ?_
          refine gw_lv [1, 0] rfl ?_
          exact ih hp hk
set_option maxHeartbeats 4000000 in
theorem mt_X11_does_5 {l : Launch} {D : gw_D} {a : Nat → Nat} {Wr : va_W → Prop} {σ : gw_S} {b : Nat → Nat} {x1 : Int32} {x2 : Int32} {x3 : Int32} {x4 : Int32} {res : gw_S} (hp : fx_X11_does_5 σ x1 x2 x3 x4 = some res) : gw_Ct D l yX11_does cX11_does 6 none rm_X11_does_5 [.ref (b 5), .int x1, .int x2, .int x3, .int x4] (gw_st (wX D a σ) (gw_st (wK D a b) Wr)) (gw_pV (gw_st (wX D a res) (gw_st (wK D a b) Wr))) := by
  refine gw_ct (own := RX11) [(0, .ref (b 5)), (1, .int x1), (2, .int x2), (3, .int x3), (4, .int x4)] (by decide) rfl (Nat.le_of_ble_eq_true rfl) rfl ?_
  intro E X
  unfold fx_X11_does_5 at hp
  refine gw_iconst X 1 dX11_does_0 rfl gw_ci_0 ?_
  refine gw_istore X 3 [(5, .int 0), (0, .ref (b 5)), (1, .int x1), (2, .int x2), (3, .int x3), (4, .int x4)] dX11_does_1 rfl (by decide) rfl ?_
  refine gw_lv [1, 0] rfl ?_
  refine wk_X11_does_5_L3 X hp ?_
  clear hp
  intro σ1 hp
  refine gw_aload_n X 74 0 dX11_does_73 rfl rfl rfl ?_
  refine gA_g5 X 77 q776 dX11_does_74 rfl ?_
  refine gw_iconst X 78 dX11_does_77 rfl gw_ci_0 ?_
  refine gX_p0_7N X 81 q292 dX11_does_78 rfl ?_
  refine gw_aload_n X 82 0 dX11_does_81 rfl rfl rfl ?_
  obtain ⟨σ2, h3, hp⟩ := gw_let_some hp
  rw [← h3]
  clear h3
  refine gA_g5 X 85 q776 dX11_does_82 rfl ?_
  refine gw_iconst X 86 dX11_does_85 rfl gw_ci_0 ?_
  refine gX_p0_6N X 89 q290 dX11_does_86 rfl ?_
  refine gw_aload_n X 90 0 dX11_does_89 rfl rfl rfl ?_
  obtain ⟨σ4, h5, hp⟩ := gw_let_some hp
  rw [← h5]
  clear h5
  refine gA_g5 X 93 q776 dX11_does_90 rfl ?_
  refine gw_dup X 94 dX11_does_93 rfl rfl ?_
  refine gX_g0_5N X 97 q287 dX11_does_94 rfl ?_
  refine gw_iconst X 98 dX11_does_97 rfl gw_ci_1 ?_
  refine gw_iadd X 99 dX11_does_98 rfl ?_
  refine gX_p0_5N X 102 q287 dX11_does_99 rfl ?_
  cases hp
  exact gw_vret X dX11_does_102 (fun _ h => ⟨rfl, h⟩) (Nat.le_of_ble_eq_true rfl) (Nat.le_of_ble_eq_true rfl)
