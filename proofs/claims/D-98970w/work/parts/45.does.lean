/-! CardHolder.does(act), asItIs: the acts done anew -/
set_option maxRecDepth 100000
def fx_X0_does (σ : gw_S) (x1 : Int32) : Option gw_S := if x1 / (10000 : Int32) = 0 then fx_X7_does_1 σ ((x1 / (1000 : Int32)) - (x1 / (1000 : Int32)) / (10 : Int32) * (10 : Int32)) ((x1 / (100 : Int32)) - (x1 / (100 : Int32)) / (10 : Int32) * (10 : Int32)) ((x1 / (10 : Int32)) - (x1 / (10 : Int32)) / (10 : Int32) * (10 : Int32)) (x1 - x1 / (10 : Int32) * (10 : Int32)) else (if x1 / (10000 : Int32) = 1 then fx_X8_does_2 σ ((x1 / (1000 : Int32)) - (x1 / (1000 : Int32)) / (10 : Int32) * (10 : Int32)) ((x1 / (100 : Int32)) - (x1 / (100 : Int32)) / (10 : Int32) * (10 : Int32)) ((x1 / (10 : Int32)) - (x1 / (10 : Int32)) / (10 : Int32) * (10 : Int32)) (x1 - x1 / (10 : Int32) * (10 : Int32)) else (if x1 / (10000 : Int32) = 2 then fx_X9_does_3 σ ((x1 / (1000 : Int32)) - (x1 / (1000 : Int32)) / (10 : Int32) * (10 : Int32)) ((x1 / (100 : Int32)) - (x1 / (100 : Int32)) / (10 : Int32) * (10 : Int32)) ((x1 / (10 : Int32)) - (x1 / (10 : Int32)) / (10 : Int32) * (10 : Int32)) (x1 - x1 / (10 : Int32) * (10 : Int32)) else (if x1 / (10000 : Int32) = 3 then fx_X10_does_4 σ ((x1 / (1000 : Int32)) - (x1 / (1000 : Int32)) / (10 : Int32) * (10 : Int32)) ((x1 / (100 : Int32)) - (x1 / (100 : Int32)) / (10 : Int32) * (10 : Int32)) ((x1 / (10 : Int32)) - (x1 / (10 : Int32)) / (10 : Int32) * (10 : Int32)) (x1 - x1 / (10 : Int32) * (10 : Int32)) else (if x1 / (10000 : Int32) = 4 then fx_X11_does_5 σ ((x1 / (1000 : Int32)) - (x1 / (1000 : Int32)) / (10 : Int32) * (10 : Int32)) ((x1 / (100 : Int32)) - (x1 / (100 : Int32)) / (10 : Int32) * (10 : Int32)) ((x1 / (10 : Int32)) - (x1 / (10 : Int32)) / (10 : Int32) * (10 : Int32)) (x1 - x1 / (10 : Int32) * (10 : Int32)) else (none)))))
abbrev rm_X0_does : Room := { frames := 14, cells := 6, slots := 16, locals := 700 }
theorem lkd_kind : GoodIn lw_all (wsV RX0 180 RX0 yX0_kind (ws_ yX0_kind cX0_kind 2 (some (.object "CardHolder$Act")))) := lw_V q658 q660 qs19 q136 q661
theorem ydd_kind : yX0_kind.cls = RX0 ∧ yX0_kind.cls ≠ "java/lang/invoke/MethodHandle" ∧ yX0_kind.cls ≠ "java/lang/invoke/VarHandle" ∧ (parseMethodDescriptor yX0_kind.desc).map (fun d => d.parameters.length) = some 1 := by decide +kernel
def gK_act : MethodName := ⟨"CardHolder$Act", "does", "(IIII)V"⟩
theorem gK_act_d : "CardHolder$Act" ≠ "java/lang/invoke/MethodHandle" ∧ "CardHolder$Act" ≠ "java/lang/invoke/VarHandle" ∧ (parseMethodDescriptor gK_act.desc).map (fun d => d.parameters.length) = some 4 := by decide +kernel
set_option maxHeartbeats 4000000 in
theorem mt_X0_does {l : Launch} {D : gw_D} {a : Nat → Nat} {Wr : va_W → Prop} {σ : gw_S} {x1 : Int32} {res : gw_S} (hp : fx_X0_does σ x1 = some res) : gw_Ct D l yX0_does cX0_does 2 none rm_X0_does [.ref (a 0), .int x1] (gw_st (wX D a σ) (gw_sp (gK D a) Wr)) (gw_pV (gw_st (wX D a res) (gw_sp (gK D a) Wr))) := by
  refine gw_ct (own := RX0) [(0, .ref (a 0)), (1, .int x1)] (by decide) rfl (Nat.le_of_ble_eq_true rfl) rfl ?_
  intro E X
  unfold fx_X0_does at hp
  refine gw_aload_n X 1 0 dX0_does_0 rfl rfl rfl ?_
  refine gw_iload_n X 2 1 dX0_does_1 rfl rfl rfl ?_
  refine gw_sipush X 5 dX0_does_2 rfl gw_cs_10000 ?_
  refine gw_idiv X 6 dX0_does_5 rfl (by decide) ?_
  by_cases z0 : x1 / (10000 : Int32) = 0
  · replace hp := gw_t z0 hp
    refine gl_topi z0 ?_
    refine gw_callV X 9 [.int 0] mt_X0_kind_0 lkd_kind ydd_kind gX_cl0 gX_at0 rfl rfl rfl dX0_does_6 rfl ?_
    rintro v u ⟨b, rfl, hu⟩
    revert u
    show gw_W E 9 _ (.ref (b 1) :: _) (gw_st (wX D a σ) (gw_st (wK D a b) Wr)) 6 16
    refine gw_iload_n X 10 1 dX0_does_9 rfl rfl rfl ?_
    refine gw_sipush X 13 dX0_does_10 rfl gw_cs_1000 ?_
    refine gw_idiv X 14 dX0_does_13 rfl (by decide) ?_
    refine gw_bipush X 16 dX0_does_14 rfl gw_cb_10 ?_
    refine gw_irem X 17 dX0_does_16 rfl (by decide) ?_
    refine gw_iload_n X 18 1 dX0_does_17 rfl rfl rfl ?_
    refine gw_bipush X 20 dX0_does_18 rfl gw_cb_100 ?_
    refine gw_idiv X 21 dX0_does_20 rfl (by decide) ?_
    refine gw_bipush X 23 dX0_does_21 rfl gw_cb_10 ?_
    refine gw_irem X 24 dX0_does_23 rfl (by decide) ?_
    refine gw_iload_n X 25 1 dX0_does_24 rfl rfl rfl ?_
    refine gw_bipush X 27 dX0_does_25 rfl gw_cb_10 ?_
    refine gw_idiv X 28 dX0_does_27 rfl (by decide) ?_
    refine gw_bipush X 30 dX0_does_28 rfl gw_cb_10 ?_
    refine gw_irem X 31 dX0_does_30 rfl (by decide) ?_
    refine gw_iload_n X 32 1 dX0_does_31 rfl rfl rfl ?_
    refine gw_bipush X 34 dX0_does_32 rfl gw_cb_10 ?_
    refine gw_irem X 35 dX0_does_34 rfl (by decide) ?_
    refine gw_callAv X 38 [.int ((x1 / (1000 : Int32)) - (x1 / (1000 : Int32)) / (10 : Int32) * (10 : Int32)), .int ((x1 / (100 : Int32)) - (x1 / (100 : Int32)) / (10 : Int32) * (10 : Int32)), .int ((x1 / (10 : Int32)) - (x1 / (10 : Int32)) / (10 : Int32) * (10 : Int32)), .int (x1 - x1 / (10 : Int32) * (10 : Int32))] (mt_X7_does_1 hp) (gw_gU (x := gK_act) (owner := "CardHolder$Act") q793 q795 q796 q797 q156 q798) q794 gK_act_d gl_cl6 (q0 := 16) (by rintro _ ⟨_, ⟨_, _, rfl⟩, rfl⟩; exact ⟨_, rfl⟩) rfl rfl rfl dX0_does_35 rfl rfl rfl ?_
    exact gw_vret X dX0_does_38 (fun _ ⟨x, ⟨y, hy, e1⟩, e2⟩ => ⟨rfl, x, ⟨_, y, Or.inr ⟨b, rfl⟩, hy, e1⟩, e2⟩) (Nat.le_of_ble_eq_true rfl) (Nat.le_of_ble_eq_true rfl)
  replace hp := gw_f z0 hp
  by_cases z1 : x1 / (10000 : Int32) = 1
  · replace hp := gw_t z1 hp
    refine gl_topi z1 ?_
    refine gw_callV X 9 [.int 1] mt_X0_kind_1 lkd_kind ydd_kind gX_cl0 gX_at0 rfl rfl rfl dX0_does_6 rfl ?_
    rintro v u ⟨b, rfl, hu⟩
    revert u
    show gw_W E 9 _ (.ref (b 2) :: _) (gw_st (wX D a σ) (gw_st (wK D a b) Wr)) 6 16
    refine gw_iload_n X 10 1 dX0_does_9 rfl rfl rfl ?_
    refine gw_sipush X 13 dX0_does_10 rfl gw_cs_1000 ?_
    refine gw_idiv X 14 dX0_does_13 rfl (by decide) ?_
    refine gw_bipush X 16 dX0_does_14 rfl gw_cb_10 ?_
    refine gw_irem X 17 dX0_does_16 rfl (by decide) ?_
    refine gw_iload_n X 18 1 dX0_does_17 rfl rfl rfl ?_
    refine gw_bipush X 20 dX0_does_18 rfl gw_cb_100 ?_
    refine gw_idiv X 21 dX0_does_20 rfl (by decide) ?_
    refine gw_bipush X 23 dX0_does_21 rfl gw_cb_10 ?_
    refine gw_irem X 24 dX0_does_23 rfl (by decide) ?_
    refine gw_iload_n X 25 1 dX0_does_24 rfl rfl rfl ?_
    refine gw_bipush X 27 dX0_does_25 rfl gw_cb_10 ?_
    refine gw_idiv X 28 dX0_does_27 rfl (by decide) ?_
    refine gw_bipush X 30 dX0_does_28 rfl gw_cb_10 ?_
    refine gw_irem X 31 dX0_does_30 rfl (by decide) ?_
    refine gw_iload_n X 32 1 dX0_does_31 rfl rfl rfl ?_
    refine gw_bipush X 34 dX0_does_32 rfl gw_cb_10 ?_
    refine gw_irem X 35 dX0_does_34 rfl (by decide) ?_
    refine gw_callAv X 38 [.int ((x1 / (1000 : Int32)) - (x1 / (1000 : Int32)) / (10 : Int32) * (10 : Int32)), .int ((x1 / (100 : Int32)) - (x1 / (100 : Int32)) / (10 : Int32) * (10 : Int32)), .int ((x1 / (10 : Int32)) - (x1 / (10 : Int32)) / (10 : Int32) * (10 : Int32)), .int (x1 - x1 / (10 : Int32) * (10 : Int32))] (mt_X8_does_2 hp) (gw_gU (x := gK_act) (owner := "CardHolder$Act") q793 q795 q808 q809 q159 q810) q794 gK_act_d gl_cl7 (q0 := 17) (by rintro _ ⟨_, ⟨_, _, rfl⟩, rfl⟩; exact ⟨_, rfl⟩) rfl rfl rfl dX0_does_35 rfl rfl rfl ?_
    exact gw_vret X dX0_does_38 (fun _ ⟨x, ⟨y, hy, e1⟩, e2⟩ => ⟨rfl, x, ⟨_, y, Or.inr ⟨b, rfl⟩, hy, e1⟩, e2⟩) (Nat.le_of_ble_eq_true rfl) (Nat.le_of_ble_eq_true rfl)
  replace hp := gw_f z1 hp
  by_cases z2 : x1 / (10000 : Int32) = 2
  · replace hp := gw_t z2 hp
    refine gl_topi z2 ?_
    refine gw_callV X 9 [.int 2] mt_X0_kind_2 lkd_kind ydd_kind gX_cl0 gX_at0 rfl rfl rfl dX0_does_6 rfl ?_
    rintro v u ⟨b, rfl, hu⟩
    revert u
    show gw_W E 9 _ (.ref (b 3) :: _) (gw_st (wX D a σ) (gw_st (wK D a b) Wr)) 6 16
    refine gw_iload_n X 10 1 dX0_does_9 rfl rfl rfl ?_
    refine gw_sipush X 13 dX0_does_10 rfl gw_cs_1000 ?_
    refine gw_idiv X 14 dX0_does_13 rfl (by decide) ?_
    refine gw_bipush X 16 dX0_does_14 rfl gw_cb_10 ?_
    refine gw_irem X 17 dX0_does_16 rfl (by decide) ?_
    refine gw_iload_n X 18 1 dX0_does_17 rfl rfl rfl ?_
    refine gw_bipush X 20 dX0_does_18 rfl gw_cb_100 ?_
    refine gw_idiv X 21 dX0_does_20 rfl (by decide) ?_
    refine gw_bipush X 23 dX0_does_21 rfl gw_cb_10 ?_
    refine gw_irem X 24 dX0_does_23 rfl (by decide) ?_
    refine gw_iload_n X 25 1 dX0_does_24 rfl rfl rfl ?_
    refine gw_bipush X 27 dX0_does_25 rfl gw_cb_10 ?_
    refine gw_idiv X 28 dX0_does_27 rfl (by decide) ?_
    refine gw_bipush X 30 dX0_does_28 rfl gw_cb_10 ?_
    refine gw_irem X 31 dX0_does_30 rfl (by decide) ?_
    refine gw_iload_n X 32 1 dX0_does_31 rfl rfl rfl ?_
    refine gw_bipush X 34 dX0_does_32 rfl gw_cb_10 ?_
    refine gw_irem X 35 dX0_does_34 rfl (by decide) ?_
    refine gw_callAv X 38 [.int ((x1 / (1000 : Int32)) - (x1 / (1000 : Int32)) / (10 : Int32) * (10 : Int32)), .int ((x1 / (100 : Int32)) - (x1 / (100 : Int32)) / (10 : Int32) * (10 : Int32)), .int ((x1 / (10 : Int32)) - (x1 / (10 : Int32)) / (10 : Int32) * (10 : Int32)), .int (x1 - x1 / (10 : Int32) * (10 : Int32))] (mt_X9_does_3 hp) (gw_gU (x := gK_act) (owner := "CardHolder$Act") q793 q795 q815 q816 q160 q817) q794 gK_act_d gl_cl8 (q0 := 18) (by rintro _ ⟨_, ⟨_, _, rfl⟩, rfl⟩; exact ⟨_, rfl⟩) rfl rfl rfl dX0_does_35 rfl rfl rfl ?_
    exact gw_vret X dX0_does_38 (fun _ ⟨x, ⟨y, hy, e1⟩, e2⟩ => ⟨rfl, x, ⟨_, y, Or.inr ⟨b, rfl⟩, hy, e1⟩, e2⟩) (Nat.le_of_ble_eq_true rfl) (Nat.le_of_ble_eq_true rfl)
  replace hp := gw_f z2 hp
  by_cases z3 : x1 / (10000 : Int32) = 3
  · replace hp := gw_t z3 hp
    refine gl_topi z3 ?_
    refine gw_callV X 9 [.int 3] mt_X0_kind_3 lkd_kind ydd_kind gX_cl0 gX_at0 rfl rfl rfl dX0_does_6 rfl ?_
    rintro v u ⟨b, rfl, hu⟩
    revert u
    show gw_W E 9 _ (.ref (b 4) :: _) (gw_st (wX D a σ) (gw_st (wK D a b) Wr)) 6 16
    refine gw_iload_n X 10 1 dX0_does_9 rfl rfl rfl ?_
    refine gw_sipush X 13 dX0_does_10 rfl gw_cs_1000 ?_
    refine gw_idiv X 14 dX0_does_13 rfl (by decide) ?_
    refine gw_bipush X 16 dX0_does_14 rfl gw_cb_10 ?_
    refine gw_irem X 17 dX0_does_16 rfl (by decide) ?_
    refine gw_iload_n X 18 1 dX0_does_17 rfl rfl rfl ?_
    refine gw_bipush X 20 dX0_does_18 rfl gw_cb_100 ?_
    refine gw_idiv X 21 dX0_does_20 rfl (by decide) ?_
    refine gw_bipush X 23 dX0_does_21 rfl gw_cb_10 ?_
    refine gw_irem X 24 dX0_does_23 rfl (by decide) ?_
    refine gw_iload_n X 25 1 dX0_does_24 rfl rfl rfl ?_
    refine gw_bipush X 27 dX0_does_25 rfl gw_cb_10 ?_
    refine gw_idiv X 28 dX0_does_27 rfl (by decide) ?_
    refine gw_bipush X 30 dX0_does_28 rfl gw_cb_10 ?_
    refine gw_irem X 31 dX0_does_30 rfl (by decide) ?_
    refine gw_iload_n X 32 1 dX0_does_31 rfl rfl rfl ?_
    refine gw_bipush X 34 dX0_does_32 rfl gw_cb_10 ?_
    refine gw_irem X 35 dX0_does_34 rfl (by decide) ?_
    refine gw_callAv X 38 [.int ((x1 / (1000 : Int32)) - (x1 / (1000 : Int32)) / (10 : Int32) * (10 : Int32)), .int ((x1 / (100 : Int32)) - (x1 / (100 : Int32)) / (10 : Int32) * (10 : Int32)), .int ((x1 / (10 : Int32)) - (x1 / (10 : Int32)) / (10 : Int32) * (10 : Int32)), .int (x1 - x1 / (10 : Int32) * (10 : Int32))] (mt_X10_does_4 hp) (gw_gU (x := gK_act) (owner := "CardHolder$Act") q793 q795 q812 q813 q161 q814) q794 gK_act_d gl_cl9 (q0 := 19) (by rintro _ ⟨_, ⟨_, _, rfl⟩, rfl⟩; exact ⟨_, rfl⟩) rfl rfl rfl dX0_does_35 rfl rfl rfl ?_
    exact gw_vret X dX0_does_38 (fun _ ⟨x, ⟨y, hy, e1⟩, e2⟩ => ⟨rfl, x, ⟨_, y, Or.inr ⟨b, rfl⟩, hy, e1⟩, e2⟩) (Nat.le_of_ble_eq_true rfl) (Nat.le_of_ble_eq_true rfl)
  replace hp := gw_f z3 hp
  by_cases z4 : x1 / (10000 : Int32) = 4
  · replace hp := gw_t z4 hp
    refine gl_topi z4 ?_
    refine gw_callV X 9 [.int 4] mt_X0_kind_4 lkd_kind ydd_kind gX_cl0 gX_at0 rfl rfl rfl dX0_does_6 rfl ?_
    rintro v u ⟨b, rfl, hu⟩
    revert u
    show gw_W E 9 _ (.ref (b 5) :: _) (gw_st (wX D a σ) (gw_st (wK D a b) Wr)) 6 16
    refine gw_iload_n X 10 1 dX0_does_9 rfl rfl rfl ?_
    refine gw_sipush X 13 dX0_does_10 rfl gw_cs_1000 ?_
    refine gw_idiv X 14 dX0_does_13 rfl (by decide) ?_
    refine gw_bipush X 16 dX0_does_14 rfl gw_cb_10 ?_
    refine gw_irem X 17 dX0_does_16 rfl (by decide) ?_
    refine gw_iload_n X 18 1 dX0_does_17 rfl rfl rfl ?_
    refine gw_bipush X 20 dX0_does_18 rfl gw_cb_100 ?_
    refine gw_idiv X 21 dX0_does_20 rfl (by decide) ?_
    refine gw_bipush X 23 dX0_does_21 rfl gw_cb_10 ?_
    refine gw_irem X 24 dX0_does_23 rfl (by decide) ?_
    refine gw_iload_n X 25 1 dX0_does_24 rfl rfl rfl ?_
    refine gw_bipush X 27 dX0_does_25 rfl gw_cb_10 ?_
    refine gw_idiv X 28 dX0_does_27 rfl (by decide) ?_
    refine gw_bipush X 30 dX0_does_28 rfl gw_cb_10 ?_
    refine gw_irem X 31 dX0_does_30 rfl (by decide) ?_
    refine gw_iload_n X 32 1 dX0_does_31 rfl rfl rfl ?_
    refine gw_bipush X 34 dX0_does_32 rfl gw_cb_10 ?_
    refine gw_irem X 35 dX0_does_34 rfl (by decide) ?_
    refine gw_callAv X 38 [.int ((x1 / (1000 : Int32)) - (x1 / (1000 : Int32)) / (10 : Int32) * (10 : Int32)), .int ((x1 / (100 : Int32)) - (x1 / (100 : Int32)) / (10 : Int32) * (10 : Int32)), .int ((x1 / (10 : Int32)) - (x1 / (10 : Int32)) / (10 : Int32) * (10 : Int32)), .int (x1 - x1 / (10 : Int32) * (10 : Int32))] (mt_X11_does_5 hp) (gw_gU (x := gK_act) (owner := "CardHolder$Act") q793 q795 q804 q805 q162 q806) q794 gK_act_d gl_cl10 (q0 := 20) (by rintro _ ⟨_, ⟨_, _, rfl⟩, rfl⟩; exact ⟨_, rfl⟩) rfl rfl rfl dX0_does_35 rfl rfl rfl ?_
    exact gw_vret X dX0_does_38 (fun _ ⟨x, ⟨y, hy, e1⟩, e2⟩ => ⟨rfl, x, ⟨_, y, Or.inr ⟨b, rfl⟩, hy, e1⟩, e2⟩) (Nat.le_of_ble_eq_true rfl) (Nat.le_of_ble_eq_true rfl)
  replace hp := gw_f z4 hp
  cases hp
theorem lkd_first : GoodIn lw_all (wsV RX0 140 RX0 yX0_asAtFirst (ws_ yX0_asAtFirst cX0_asAtFirst 2 none)) := lw_V q647 q649 qs17 q136 q650
theorem lkd_first_y : yX0_asAtFirst.cls = RX0 ∧ yX0_asAtFirst.cls ≠ "java/lang/invoke/MethodHandle" ∧ yX0_asAtFirst.cls ≠ "java/lang/invoke/VarHandle" ∧ (parseMethodDescriptor yX0_asAtFirst.desc).map (fun d => d.parameters.length) = some 0 := by decide +kernel
theorem lkd_does : GoodIn lw_all (wsV RX0 149 RX0 yX0_does (ws_ yX0_does cX0_does 2 none)) := lw_V q654 q656 qs18 q136 q657
theorem lkd_does_y : yX0_does.cls = RX0 ∧ yX0_does.cls ≠ "java/lang/invoke/MethodHandle" ∧ yX0_does.cls ≠ "java/lang/invoke/VarHandle" ∧ (parseMethodDescriptor yX0_does.desc).map (fun d => d.parameters.length) = some 1 := by decide +kernel
def fx_X0_asItIs_L6 : Nat → Int32 → gw_S → Option gw_S
  | 0, _, _ => none
  | n + 1, c1, σ => (if (σ.1 1 3) ≤ c1 then some σ else gw_ck c1 40 (gw_b1 (fx_X0_does σ (σ.1 13 (Int32.toNatClampNeg c1))) (fun σ2 => fx_X0_asItIs_L6 n (c1 + 1) σ2)))
def fx_X0_asItIs (σ : gw_S) : Option gw_S := gw_b1 (fx_X0_asAtFirst σ) (fun σ1 => fx_X0_asItIs_L6 64 0 σ1)
abbrev rm_X0_asItIs : Room := { frames := 15, cells := 384, slots := 1024, locals := 800 }
theorem rm_X0_asItIs_fit {n : Nat} (h : n + 1 ≤ 64) : gw_fit rm_X0_does rm_X0_asItIs 2 (384 - 6 * (n + 1)) (1024 - 16 * (n + 1)) = true := by
  unfold gw_fit
  simp only [Bool.and_eq_true, Nat.ble_eq]
  omega
set_option maxHeartbeats 4000000 in
theorem wk_X0_asItIs_L6 {E : gw_E} {l : Launch} {D : gw_D} {a : Nat → Nat} {Wr : va_W → Prop} {res : gw_S} (X : gw_X E cX0_asItIs 2 RX0 none l D rm_X0_asItIs (some (gw_pV (gw_st (wX D a res) (gw_sp (gK D a) Wr))))) : ∀ {n : Nat} {c1 : Int32} {σ : gw_S}, n ≤ 64 → fx_X0_asItIs_L6 n c1 σ = some res → gw_W E 6 [(0, .ref (a 0)), (1, .int c1)] [] (gw_st (wX D a σ) (gw_sp (gK D a) Wr)) (384 - 6 * n) (1024 - 16 * n) := by
  intro n
  induction n with
  | zero =>
    intro c1 σ _ hp
    cases (show none = some res from hp)
  | succ n ih =>
    intro c1 σ hn hp
    rw [fx_X0_asItIs_L6] at hp
    refine gw_iload_n X 7 1 dX0_asItIs_6 rfl rfl rfl ?_
    refine gw_aload_n X 8 0 dX0_asItIs_7 rfl rfl rfl ?_
    refine gX_g0_0 X 11 q280 dX0_asItIs_8 rfl ?_
    refine gX_g1_3N X 14 q196 dX0_asItIs_11 rfl ?_
    refine gw_icmp_ge X 36 17 dX0_asItIs_14 rfl rfl (fun z => ?_) (fun z => ?_)
    · replace hp := gw_t z hp
      cases hp
      exact gw_vret X dX0_asItIs_36 (fun _ h => ⟨rfl, h⟩) (by show 384 - 6 * (n + 1) ≤ 384; omega) (by show 1024 - 16 * (n + 1) ≤ 1024; omega)
    · replace hp := gw_f z hp
      refine gw_aload_n X 18 0 dX0_asItIs_17 rfl rfl rfl ?_
      refine gw_aload_n X 19 0 dX0_asItIs_18 rfl rfl rfl ?_
      refine gX_g0_0 X 22 q280 dX0_asItIs_19 rfl ?_
      refine gX_g1_10N X 25 q215 dX0_asItIs_22 rfl ?_
      refine gw_iload_n X 26 1 dX0_asItIs_25 rfl rfl rfl ?_
      obtain ⟨hc, hp⟩ := gw_ck_some hp
      refine gX_l13 X 27 (Int32.toNatClampNeg c1) hc rfl dX0_asItIs_26 rfl ?_
      obtain ⟨σ2, h3, hp⟩ := gw_b1_some hp
      refine gw_callVv X 30 [.int (σ.1 13 (Int32.toNatClampNeg c1))] (mt_X0_does h3) lkd_does lkd_does_y gX_cl0 gX_at0 (rm_X0_asItIs_fit hn) rfl rfl dX0_asItIs_27 rfl rfl rfl ?_
      refine gw_iinc X 33 1 [(1, .int (c1 + 1)), (0, .ref (a 0))] dX0_asItIs_30 rfl rfl gw_ci_1 (by decide) rfl ?_
      refine gw_goto X 6 dX0_asItIs_33 rfl ?_
      refine gw_lv [1, 0] rfl ?_
      refine gw_widen (k' := 384 - 6 * n) (n' := 1024 - 16 * n) (by show 384 - 6 * (n + 1) + 6 ≤ 384 - 6 * n; omega) (by show 1024 - 16 * (n + 1) + 16 ≤ 1024 - 16 * n; omega) ?_
      exact ih (by omega) hp
set_option maxHeartbeats 4000000 in
theorem mt_X0_asItIs {l : Launch} {D : gw_D} {a : Nat → Nat} {Wr : va_W → Prop} {σ : gw_S} {res : gw_S} (hp : fx_X0_asItIs σ = some res) : gw_Ct D l yX0_asItIs cX0_asItIs 2 none rm_X0_asItIs [.ref (a 0)] (gw_st (wX D a σ) (gw_sp (gK D a) Wr)) (gw_pV (gw_st (wX D a res) (gw_sp (gK D a) Wr))) := by
  refine gw_ct (own := RX0) [(0, .ref (a 0))] (by decide) rfl (Nat.le_of_ble_eq_true rfl) rfl ?_
  intro E X
  unfold fx_X0_asItIs at hp
  refine gw_aload_n X 1 0 dX0_asItIs_0 rfl rfl rfl ?_
  obtain ⟨σ1, h1, hp⟩ := gw_b1_some hp
  refine gw_callVv X 4 [] (mt_X0_asAtFirst h1) lkd_first lkd_first_y gX_cl0 gX_at0 rfl rfl rfl dX0_asItIs_1 rfl rfl rfl ?_
  refine gw_iconst X 5 dX0_asItIs_4 rfl gw_ci_0 ?_
  refine gw_istore_n X 6 [(1, .int 0), (0, .ref (a 0))] dX0_asItIs_5 rfl rfl (by decide) rfl ?_
  refine gw_lv [1, 0] rfl ?_
  exact wk_X0_asItIs_L6 X (n := 64) (Nat.le_refl _) hp
