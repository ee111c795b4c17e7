set_option maxRecDepth 100000
abbrev rm_X0_person : Room := { frames := 16, cells := 384, slots := 1024, locals := 821 }
def fx_X0_person (σ : gw_S) (x1 : Int32) (x2 : Int32) : Option (Int32 × gw_S) := (if fx_X0_isPerson σ (Int32.toInt64 x1) = true then (if fx_X0_isOneOf (Int32.toInt64 x2) (8 : Int32) = true then gw_b1 (fx_X0_asItIs σ) (fun σ1 => (if x2 = 0 then gw_ck x1 8 (some (σ1.1 9 (Int32.toNatClampNeg x1), σ1)) else (if x2 = 1 then gw_ck x1 8 (some (σ1.1 10 (Int32.toNatClampNeg x1), σ1)) else (if x2 = 2 then gw_ck x1 8 (some (σ1.1 3 (Int32.toNatClampNeg x1), σ1)) else (if x2 = 3 then gw_b1 (fx_X0_handOf σ1 x1) (fun r3 => some (r3, σ1)) else (if x2 = 4 then gw_ck x1 8 (some (σ1.1 11 (Int32.toNatClampNeg x1), σ1)) else (if x2 = 5 then some (((σ1.1 0 6) >>> (x1 &&& 31)) &&& (1 : Int32), σ1) else (if x2 = 6 then some (((σ1.1 1 4) >>> (x1 &&& 31)) &&& (1 : Int32), σ1) else (gw_ck x1 8 ((if (σ1.1 3 (Int32.toNatClampNeg x1)) = (-1 : Int32) then some (0, σ1) else gw_ck x1 8 (some ((fx_X0_limit σ1 x1) - (σ1.1 4 (Int32.toNatClampNeg x1)), σ1))))))))))))) else some ((-2), σ)) else some ((-2), σ))
set_option maxHeartbeats 4000000 in
theorem mt_X0_person {l : Launch} {D : gw_D} {a : Nat → Nat} {Wr : va_W → Prop} {σ : gw_S} {x1 : Int32} {x2 : Int32} {res : Int32 × gw_S} (hp : fx_X0_person σ x1 x2 = some res) : gw_Ct D l yX0_person cX0_person 3 (some .int) rm_X0_person [.ref (a 0), .int x1, .int x2] (gw_st (wX D a σ) (gw_sp (gK D a) Wr)) (gw_pI res.1 (gw_st (wX D a res.2) (gw_sp (gK D a) Wr))) := by
  refine gw_ct (own := RX0) [(0, .ref (a 0)), (1, .int x1), (2, .int x2)] (by decide) rfl (Nat.le_of_ble_eq_true rfl) rfl ?_
  intro E X
  unfold fx_X0_person at hp
  refine gw_aload_n X 1 0 dX0_person_0 rfl rfl rfl ?_
  refine gw_iload_n X 2 1 dX0_person_1 rfl rfl rfl ?_
  refine gw_i2l X 3 dX0_person_2 rfl ?_
  refine gw_callVi X 6 [.long (Int32.toInt64 x1)] (mt_X0_isPerson rfl) lk_X0_186 ydv_X0_isPerson gX_cl0 gX_at0 rfl rfl rfl dX0_person_3 rfl rfl rfl ?_
  refine gw_if_eqB X 19 9 dX0_person_6 rfl rfl (fun z => ?_) (fun z => ?_)
  · replace hp := gw_f z hp
    refine gw_bipush X 21 dX0_person_19 rfl gw_cb_m2 ?_
    cases hp
    exact gw_iret X dX0_person_21 (fun _ h => ⟨rfl, h⟩) (Nat.le_of_ble_eq_true rfl) (Nat.le_of_ble_eq_true rfl)
  · replace hp := gw_t z hp
    refine gw_iload_n X 10 2 dX0_person_9 rfl rfl rfl ?_
    refine gw_i2l X 11 dX0_person_10 rfl ?_
    refine gw_bipush X 13 dX0_person_11 rfl gw_cb_8 ?_
    refine gw_callSi X 16 [.long (Int32.toInt64 x2), .int 8] (mt_X0_isOneOf rfl) lk_X0_97 yd_X0_isOneOf rfl rfl rfl dX0_person_13 rfl rfl rfl ?_
    refine gw_if_neB X 22 19 dX0_person_16 rfl rfl (fun z => ?_) (fun z => ?_)
    · replace hp := gw_t z hp
      refine gw_aload_n X 23 0 dX0_person_22 rfl rfl rfl ?_
      obtain ⟨σ1, h2, hp⟩ := gw_b1_some hp
      refine gw_callVv X 26 [] (mt_X0_asItIs h2) lk_X0_190 ydv_X0_asItIs gX_cl0 gX_at0 rfl rfl rfl dX0_person_23 rfl rfl rfl ?_
      refine gw_iload_n X 27 2 dX0_person_26 rfl rfl rfl ?_
      by_cases z0 : x2 = 0
      · replace hp := gw_t z0 hp
        refine gw_tsIn X 68 0 z0 dX0_person_27 (by decide) (by decide) rfl rfl ?_
        refine gw_aload_n X 69 0 dX0_person_68 rfl rfl rfl ?_
        refine gX_g0_0 X 72 q280 dX0_person_69 rfl ?_
        refine gX_g1_6N X 75 q204 dX0_person_72 rfl ?_
        refine gw_iload_n X 76 1 dX0_person_75 rfl rfl rfl ?_
        obtain ⟨hc, hp⟩ := gw_ck_some hp
        refine gX_l9 X 77 (Int32.toNatClampNeg x1) hc rfl dX0_person_76 rfl ?_
        cases hp
        exact gw_iret X dX0_person_77 (fun _ h => ⟨rfl, h⟩) (Nat.le_of_ble_eq_true rfl) (Nat.le_of_ble_eq_true rfl)
      replace hp := gw_f z0 hp
      by_cases z1 : x2 = 1
      · replace hp := gw_t z1 hp
        refine gw_tsIn X 78 1 z1 dX0_person_27 (by decide) (by decide) rfl rfl ?_
        refine gw_aload_n X 79 0 dX0_person_78 rfl rfl rfl ?_
        refine gX_g0_0 X 82 q280 dX0_person_79 rfl ?_
        refine gX_g1_7N X 85 q207 dX0_person_82 rfl ?_
        refine gw_iload_n X 86 1 dX0_person_85 rfl rfl rfl ?_
        obtain ⟨hc, hp⟩ := gw_ck_some hp
        refine gX_l10 X 87 (Int32.toNatClampNeg x1) hc rfl dX0_person_86 rfl ?_
        cases hp
        exact gw_iret X dX0_person_87 (fun _ h => ⟨rfl, h⟩) (Nat.le_of_ble_eq_true rfl) (Nat.le_of_ble_eq_true rfl)
      replace hp := gw_f z1 hp
      by_cases z2 : x2 = 2
      · replace hp := gw_t z2 hp
        refine gw_tsIn X 88 2 z2 dX0_person_27 (by decide) (by decide) rfl rfl ?_
        refine gw_aload_n X 89 0 dX0_person_88 rfl rfl rfl ?_
        refine gX_g0_9 X 92 q303 dX0_person_89 rfl ?_
        refine gw_iload_n X 93 1 dX0_person_92 rfl rfl rfl ?_
        obtain ⟨hc, hp⟩ := gw_ck_some hp
        refine gX_l3 X 94 (Int32.toNatClampNeg x1) hc rfl dX0_person_93 rfl ?_
        cases hp
        exact gw_iret X dX0_person_94 (fun _ h => ⟨rfl, h⟩) (Nat.le_of_ble_eq_true rfl) (Nat.le_of_ble_eq_true rfl)
      replace hp := gw_f z2 hp
      by_cases z3 : x2 = 3
      · replace hp := gw_t z3 hp
        refine gw_tsIn X 95 3 z3 dX0_person_27 (by decide) (by decide) rfl rfl ?_
        refine gw_aload_n X 96 0 dX0_person_95 rfl rfl rfl ?_
        refine gw_iload_n X 97 1 dX0_person_96 rfl rfl rfl ?_
        obtain ⟨r3, h4, hp⟩ := gw_b1_some hp
        refine gw_callVi X 100 [.int x1] (mt_X0_handOf h4) lk_X0_198 ydv_X0_handOf gX_cl0 gX_at0 rfl rfl rfl dX0_person_97 rfl rfl rfl ?_
        cases hp
        exact gw_iret X dX0_person_100 (fun _ h => ⟨rfl, h⟩) (Nat.le_of_ble_eq_true rfl) (Nat.le_of_ble_eq_true rfl)
      replace hp := gw_f z3 hp
      by_cases z4 : x2 = 4
      · replace hp := gw_t z4 hp
        refine gw_tsIn X 101 4 z4 dX0_person_27 (by decide) (by decide) rfl rfl ?_
        refine gw_aload_n X 102 0 dX0_person_101 rfl rfl rfl ?_
        refine gX_g0_0 X 105 q280 dX0_person_102 rfl ?_
        refine gX_g1_8N X 108 q210 dX0_person_105 rfl ?_
        refine gw_iload_n X 109 1 dX0_person_108 rfl rfl rfl ?_
        obtain ⟨hc, hp⟩ := gw_ck_some hp
        refine gX_l11 X 110 (Int32.toNatClampNeg x1) hc rfl dX0_person_109 rfl ?_
        cases hp
        exact gw_iret X dX0_person_110 (fun _ h => ⟨rfl, h⟩) (Nat.le_of_ble_eq_true rfl) (Nat.le_of_ble_eq_true rfl)
      replace hp := gw_f z4 hp
      by_cases z5 : x2 = 5
      · replace hp := gw_t z5 hp
        refine gw_tsIn X 111 5 z5 dX0_person_27 (by decide) (by decide) rfl rfl ?_
        refine gw_aload_n X 112 0 dX0_person_111 rfl rfl rfl ?_
        refine gX_g0_6 X 115 q291 dX0_person_112 rfl ?_
        refine gw_iload_n X 116 1 dX0_person_115 rfl rfl rfl ?_
        refine gw_ishr X 117 dX0_person_116 rfl ?_
        refine gw_iconst X 118 dX0_person_117 rfl gw_ci_1 ?_
        refine gw_iand X 119 dX0_person_118 rfl ?_
        cases hp
        exact gw_iret X dX0_person_119 (fun _ h => ⟨rfl, h⟩) (Nat.le_of_ble_eq_true rfl) (Nat.le_of_ble_eq_true rfl)
      replace hp := gw_f z5 hp
      by_cases z6 : x2 = 6
      · replace hp := gw_t z6 hp
        refine gw_tsIn X 120 6 z6 dX0_person_27 (by decide) (by decide) rfl rfl ?_
        refine gw_aload_n X 121 0 dX0_person_120 rfl rfl rfl ?_
        refine gX_g0_0 X 124 q280 dX0_person_121 rfl ?_
        refine gX_g1_4N X 127 q199 dX0_person_124 rfl ?_
        refine gw_iload_n X 128 1 dX0_person_127 rfl rfl rfl ?_
        refine gw_ishr X 129 dX0_person_128 rfl ?_
        refine gw_iconst X 130 dX0_person_129 rfl gw_ci_1 ?_
        refine gw_iand X 131 dX0_person_130 rfl ?_
        cases hp
        exact gw_iret X dX0_person_131 (fun _ h => ⟨rfl, h⟩) (Nat.le_of_ble_eq_true rfl) (Nat.le_of_ble_eq_true rfl)
      replace hp := gw_f z6 hp
      refine gw_tsOut X 132 dX0_person_27 (by have y0 := lv_neT (a := 0) z0 (by decide); have y1 := lv_neT (a := 1) z1 (by decide); have y2 := lv_neT (a := 2) z2 (by decide); have y3 := lv_neT (a := 3) z3 (by decide); have y4 := lv_neT (a := 4) z4 (by decide); have y5 := lv_neT (a := 5) z5 (by decide); have y6 := lv_neT (a := 6) z6 (by decide); omega) rfl ?_
      refine gw_aload_n X 133 0 dX0_person_132 rfl rfl rfl ?_
      refine gX_g0_9 X 136 q303 dX0_person_133 rfl ?_
      refine gw_iload_n X 137 1 dX0_person_136 rfl rfl rfl ?_
      obtain ⟨hc, hp⟩ := gw_ck_some hp
      refine gX_l3 X 138 (Int32.toNatClampNeg x1) hc rfl dX0_person_137 rfl ?_
      refine gw_iconst X 139 dX0_person_138 rfl gw_ci_m1 ?_
      refine gw_icmp_ne X 146 142 dX0_person_139 rfl rfl (fun z => ?_) (fun z => ?_)
      · replace hp := gw_f z hp
        refine gw_aload_n X 147 0 dX0_person_146 rfl rfl rfl ?_
        refine gw_iload_n X 148 1 dX0_person_147 rfl rfl rfl ?_
        refine gw_callVi X 151 [.int x1] (mt_X0_limit rfl) lk_X0_205 ydv_X0_limit gX_cl0 gX_at0 rfl rfl rfl dX0_person_148 rfl rfl rfl ?_
        refine gw_aload_n X 152 0 dX0_person_151 rfl rfl rfl ?_
        refine gX_g0_10 X 155 q305 dX0_person_152 rfl ?_
        refine gw_iload_n X 156 1 dX0_person_155 rfl rfl rfl ?_
        obtain ⟨hc, hp⟩ := gw_ck_some hp
        refine gX_l4 X 157 (Int32.toNatClampNeg x1) hc rfl dX0_person_156 rfl ?_
        refine gw_isub X 158 dX0_person_157 rfl ?_
        cases hp
        exact gw_iret X dX0_person_158 (fun _ h => ⟨rfl, h⟩) (Nat.le_of_ble_eq_true rfl) (Nat.le_of_ble_eq_true rfl)
      · replace hp := gw_t z hp
        refine gw_iconst X 143 dX0_person_142 rfl gw_ci_0 ?_
        refine gw_goto X 158 dX0_person_143 rfl ?_
        cases hp
        exact gw_iret X dX0_person_158 (fun _ h => ⟨rfl, h⟩) (Nat.le_of_ble_eq_true rfl) (Nat.le_of_ble_eq_true rfl)
    · replace hp := gw_f z hp
      refine gw_bipush X 21 dX0_person_19 rfl gw_cb_m2 ?_
      cases hp
      exact gw_iret X dX0_person_21 (fun _ h => ⟨rfl, h⟩) (Nat.le_of_ble_eq_true rfl) (Nat.le_of_ble_eq_true rfl)
abbrev rm_X0_free : Room := { frames := 16, cells := 384, slots := 1024, locals := 821 }
def fx_X0_free (σ : gw_S)  : Option (Int32 × gw_S) := (if fx_X0_isCity σ = true then gw_b1 (fx_X0_asItIs σ) (fun σ1 => gw_b1 (fx_X0_handOf σ1 (-1 : Int32)) (fun r3 => some (r3, σ1))) else some ((-2), σ))
set_option maxHeartbeats 4000000 in
theorem mt_X0_free {l : Launch} {D : gw_D} {a : Nat → Nat} {Wr : va_W → Prop} {σ : gw_S}  {res : Int32 × gw_S} (hp : fx_X0_free σ  = some res) : gw_Ct D l yX0_free cX0_free 1 (some .int) rm_X0_free [.ref (a 0)] (gw_st (wX D a σ) (gw_sp (gK D a) Wr)) (gw_pI res.1 (gw_st (wX D a res.2) (gw_sp (gK D a) Wr))) := by
  refine gw_ct (own := RX0) [(0, .ref (a 0))] (by decide) rfl (Nat.le_of_ble_eq_true rfl) rfl ?_
  intro E X
  unfold fx_X0_free at hp
  refine gw_aload_n X 1 0 dX0_free_0 rfl rfl rfl ?_
  refine gw_callVi X 4 [] (mt_X0_isCity rfl) lk_X0_103 ydv_X0_isCity gX_cl0 gX_at0 rfl rfl rfl dX0_free_1 rfl rfl rfl ?_
  refine gw_if_neB X 10 7 dX0_free_4 rfl rfl (fun z => ?_) (fun z => ?_)
  · replace hp := gw_t z hp
    refine gw_aload_n X 11 0 dX0_free_10 rfl rfl rfl ?_
    obtain ⟨σ1, h2, hp⟩ := gw_b1_some hp
    refine gw_callVv X 14 [] (mt_X0_asItIs h2) lk_X0_190 ydv_X0_asItIs gX_cl0 gX_at0 rfl rfl rfl dX0_free_11 rfl rfl rfl ?_
    refine gw_aload_n X 15 0 dX0_free_14 rfl rfl rfl ?_
    refine gw_iconst X 16 dX0_free_15 rfl gw_ci_m1 ?_
    obtain ⟨r3, h4, hp⟩ := gw_b1_some hp
    refine gw_callVi X 19 [.int (-1)] (mt_X0_handOf h4) lk_X0_198 ydv_X0_handOf gX_cl0 gX_at0 rfl rfl rfl dX0_free_16 rfl rfl rfl ?_
    cases hp
    exact gw_iret X dX0_free_19 (fun _ h => ⟨rfl, h⟩) (Nat.le_of_ble_eq_true rfl) (Nat.le_of_ble_eq_true rfl)
  · replace hp := gw_f z hp
    refine gw_bipush X 9 dX0_free_7 rfl gw_cb_m2 ?_
    cases hp
    exact gw_iret X dX0_free_9 (fun _ h => ⟨rfl, h⟩) (Nat.le_of_ble_eq_true rfl) (Nat.le_of_ble_eq_true rfl)
abbrev rm_X0_under : Room := { frames := 16, cells := 384, slots := 1024, locals := 821 }
def fx_X0_under (σ : gw_S) (x1 : Int32) : Option (Int32 × gw_S) := (if fx_X0_isPerson σ (Int32.toInt64 x1) = true then gw_b1 (fx_X0_asItIs σ) (fun σ1 => gw_b1 (fx_X0_underOf σ1 x1) (fun r3 => some (r3, σ1))) else some ((-2), σ))
set_option maxHeartbeats 4000000 in
theorem mt_X0_under {l : Launch} {D : gw_D} {a : Nat → Nat} {Wr : va_W → Prop} {σ : gw_S} {x1 : Int32} {res : Int32 × gw_S} (hp : fx_X0_under σ x1 = some res) : gw_Ct D l yX0_under cX0_under 2 (some .int) rm_X0_under [.ref (a 0), .int x1] (gw_st (wX D a σ) (gw_sp (gK D a) Wr)) (gw_pI res.1 (gw_st (wX D a res.2) (gw_sp (gK D a) Wr))) := by
  refine gw_ct (own := RX0) [(0, .ref (a 0)), (1, .int x1)] (by decide) rfl (Nat.le_of_ble_eq_true rfl) rfl ?_
  intro E X
  unfold fx_X0_under at hp
  refine gw_aload_n X 1 0 dX0_under_0 rfl rfl rfl ?_
  refine gw_iload_n X 2 1 dX0_under_1 rfl rfl rfl ?_
  refine gw_i2l X 3 dX0_under_2 rfl ?_
  refine gw_callVi X 6 [.long (Int32.toInt64 x1)] (mt_X0_isPerson rfl) lk_X0_186 ydv_X0_isPerson gX_cl0 gX_at0 rfl rfl rfl dX0_under_3 rfl rfl rfl ?_
  refine gw_if_neB X 12 9 dX0_under_6 rfl rfl (fun z => ?_) (fun z => ?_)
  · replace hp := gw_t z hp
    refine gw_aload_n X 13 0 dX0_under_12 rfl rfl rfl ?_
    obtain ⟨σ1, h2, hp⟩ := gw_b1_some hp
    refine gw_callVv X 16 [] (mt_X0_asItIs h2) lk_X0_190 ydv_X0_asItIs gX_cl0 gX_at0 rfl rfl rfl dX0_under_13 rfl rfl rfl ?_
    refine gw_aload_n X 17 0 dX0_under_16 rfl rfl rfl ?_
    refine gw_iload_n X 18 1 dX0_under_17 rfl rfl rfl ?_
    obtain ⟨r3, h4, hp⟩ := gw_b1_some hp
    refine gw_callVi X 21 [.int x1] (mt_X0_underOf h4) lk_X0_208 ydv_X0_underOf gX_cl0 gX_at0 rfl rfl rfl dX0_under_18 rfl rfl rfl ?_
    cases hp
    exact gw_iret X dX0_under_21 (fun _ h => ⟨rfl, h⟩) (Nat.le_of_ble_eq_true rfl) (Nat.le_of_ble_eq_true rfl)
  · replace hp := gw_f z hp
    refine gw_bipush X 11 dX0_under_9 rfl gw_cb_m2 ?_
    cases hp
    exact gw_iret X dX0_under_11 (fun _ h => ⟨rfl, h⟩) (Nat.le_of_ble_eq_true rfl) (Nat.le_of_ble_eq_true rfl)
abbrev rm_X0_time : Room := { frames := 16, cells := 384, slots := 1024, locals := 821 }
def fx_X0_time (σ : gw_S) (x1 : Int32) (x2 : Int32) : Option (Int32 × gw_S) := (if fx_X0_isPerson σ (Int32.toInt64 x1) = true then (if fx_X0_isPerson σ (Int32.toInt64 x2) = true then gw_b1 (fx_X0_asItIs σ) (fun σ1 => gw_b1 (fx_X0_timeOf σ1 x1 x2) (fun r3 => some (r3, σ1))) else some ((-2), σ)) else some ((-2), σ))
set_option maxHeartbeats 4000000 in
theorem mt_X0_time {l : Launch} {D : gw_D} {a : Nat → Nat} {Wr : va_W → Prop} {σ : gw_S} {x1 : Int32} {x2 : Int32} {res : Int32 × gw_S} (hp : fx_X0_time σ x1 x2 = some res) : gw_Ct D l yX0_time cX0_time 3 (some .int) rm_X0_time [.ref (a 0), .int x1, .int x2] (gw_st (wX D a σ) (gw_sp (gK D a) Wr)) (gw_pI res.1 (gw_st (wX D a res.2) (gw_sp (gK D a) Wr))) := by
  refine gw_ct (own := RX0) [(0, .ref (a 0)), (1, .int x1), (2, .int x2)] (by decide) rfl (Nat.le_of_ble_eq_true rfl) rfl ?_
  intro E X
  unfold fx_X0_time at hp
  refine gw_aload_n X 1 0 dX0_time_0 rfl rfl rfl ?_
  refine gw_iload_n X 2 1 dX0_time_1 rfl rfl rfl ?_
  refine gw_i2l X 3 dX0_time_2 rfl ?_
  refine gw_callVi X 6 [.long (Int32.toInt64 x1)] (mt_X0_isPerson rfl) lk_X0_186 ydv_X0_isPerson gX_cl0 gX_at0 rfl rfl rfl dX0_time_3 rfl rfl rfl ?_
  refine gw_if_eqB X 18 9 dX0_time_6 rfl rfl (fun z => ?_) (fun z => ?_)
  · replace hp := gw_f z hp
    refine gw_bipush X 20 dX0_time_18 rfl gw_cb_m2 ?_
    cases hp
    exact gw_iret X dX0_time_20 (fun _ h => ⟨rfl, h⟩) (Nat.le_of_ble_eq_true rfl) (Nat.le_of_ble_eq_true rfl)
  · replace hp := gw_t z hp
    refine gw_aload_n X 10 0 dX0_time_9 rfl rfl rfl ?_
    refine gw_iload_n X 11 2 dX0_time_10 rfl rfl rfl ?_
    refine gw_i2l X 12 dX0_time_11 rfl ?_
    refine gw_callVi X 15 [.long (Int32.toInt64 x2)] (mt_X0_isPerson rfl) lk_X0_186 ydv_X0_isPerson gX_cl0 gX_at0 rfl rfl rfl dX0_time_12 rfl rfl rfl ?_
    refine gw_if_neB X 21 18 dX0_time_15 rfl rfl (fun z => ?_) (fun z => ?_)
    · replace hp := gw_t z hp
      refine gw_aload_n X 22 0 dX0_time_21 rfl rfl rfl ?_
      obtain ⟨σ1, h2, hp⟩ := gw_b1_some hp
      refine gw_callVv X 25 [] (mt_X0_asItIs h2) lk_X0_190 ydv_X0_asItIs gX_cl0 gX_at0 rfl rfl rfl dX0_time_22 rfl rfl rfl ?_
      refine gw_aload_n X 26 0 dX0_time_25 rfl rfl rfl ?_
      refine gw_iload_n X 27 1 dX0_time_26 rfl rfl rfl ?_
      refine gw_iload_n X 28 2 dX0_time_27 rfl rfl rfl ?_
      obtain ⟨r3, h4, hp⟩ := gw_b1_some hp
      refine gw_callVi X 31 [.int x1, .int x2] (mt_X0_timeOf h4) lk_X0_214 ydv_X0_timeOf gX_cl0 gX_at0 rfl rfl rfl dX0_time_28 rfl rfl rfl ?_
      cases hp
      exact gw_iret X dX0_time_31 (fun _ h => ⟨rfl, h⟩) (Nat.le_of_ble_eq_true rfl) (Nat.le_of_ble_eq_true rfl)
    · replace hp := gw_f z hp
      refine gw_bipush X 20 dX0_time_18 rfl gw_cb_m2 ?_
      cases hp
      exact gw_iret X dX0_time_20 (fun _ h => ⟨rfl, h⟩) (Nat.le_of_ble_eq_true rfl) (Nat.le_of_ble_eq_true rfl)
abbrev rm_X0_top : Room := { frames := 16, cells := 384, slots := 1024, locals := 821 }
def fx_X0_top_L20 (σ : gw_S)  : Nat → Int32 → Int32 → Option (Int32 × gw_S)
  | 0, _, _ => none
  | n + 1, c2, c3 => (if (σ.1 1 2) < c3 then some ((-1), σ) else gw_ck c2 8 ((if (σ.1 3 (Int32.toNatClampNeg c2)) = (-1 : Int32) then some (c2, σ) else gw_ck c2 8 (fx_X0_top_L20 σ n (σ.1 3 (Int32.toNatClampNeg c2)) (c3 + 1)))))
def fx_X0_top (σ : gw_S) (x1 : Int32) : Option (Int32 × gw_S) := (if fx_X0_isPerson σ (Int32.toInt64 x1) = true then gw_b1 (fx_X0_asItIs σ) (fun σ1 => fx_X0_top_L20 σ1 1000 x1 (0 : Int32)) else some ((-2), σ))
set_option maxHeartbeats 4000000 in
theorem wk_X0_top_L20 {E : gw_E} {l : Launch} {D : gw_D} {a : Nat → Nat} {Wr : va_W → Prop} {σ : gw_S} {res : Int32 × gw_S} (X : gw_X E cX0_top 4 RX0 (some .int) l D rm_X0_top (some (gw_pI res.1 (gw_st (wX D a res.2) (gw_sp (gK D a) Wr)))))  : ∀ {n : Nat} {c2 : Int32} {c3 : Int32}, fx_X0_top_L20 σ n c2 c3 = some res → gw_W E 20 [(0, .ref (a 0)), (2, .int c2), (3, .int c3)] [] (gw_st (wX D a σ) (gw_sp (gK D a) Wr)) 384 1024 := by
  intro n
  induction n with
  | zero =>
    intro c2 c3 hp
    cases (show none = some res from hp)
  | succ n ih =>
    intro c2 c3 hp
    rw [fx_X0_top_L20] at hp
    refine gw_iload_n X 21 2 dX0_top_20 rfl rfl rfl ?_
    refine gw_aload_n X 22 0 dX0_top_21 rfl rfl rfl ?_
    refine gX_g0_0 X 25 q280 dX0_top_22 rfl ?_
    refine gX_g1_2N X 28 q193 dX0_top_25 rfl ?_
    refine gw_icmp_gt X 56 31 dX0_top_28 rfl rfl (fun z => ?_) (fun z => ?_)
    · replace hp := gw_t z hp
      refine gw_iconst X 57 dX0_top_56 rfl gw_ci_m1 ?_
      cases hp
      exact gw_iret X dX0_top_57 (fun _ h => ⟨rfl, h⟩) (Nat.le_of_ble_eq_true rfl) (Nat.le_of_ble_eq_true rfl)
    · replace hp := gw_f z hp
      refine gw_aload_n X 32 0 dX0_top_31 rfl rfl rfl ?_
      refine gX_g0_9 X 35 q303 dX0_top_32 rfl ?_
      refine gw_iload_n X 36 1 dX0_top_35 rfl rfl rfl ?_
      obtain ⟨hc, hp⟩ := gw_ck_some hp
      refine gX_l3 X 37 (Int32.toNatClampNeg c2) hc rfl dX0_top_36 rfl ?_
      refine gw_iconst X 38 dX0_top_37 rfl gw_ci_m1 ?_
      refine gw_icmp_ne X 43 41 dX0_top_38 rfl rfl (fun z => ?_) (fun z => ?_)
      · replace hp := gw_f z hp
        refine gw_aload_n X 44 0 dX0_top_43 rfl rfl rfl ?_
        refine gX_g0_9 X 47 q303 dX0_top_44 rfl ?_
        refine gw_iload_n X 48 1 dX0_top_47 rfl rfl rfl ?_
        obtain ⟨hc, hp⟩ := gw_ck_some hp
        refine gX_l3 X 49 (Int32.toNatClampNeg c2) hc rfl dX0_top_48 rfl ?_
        refine gw_istore_n X 50 [(2, .int (σ.1 3 (Int32.toNatClampNeg c2))), (0, .ref (a 0)), (3, .int c3)] dX0_top_49 rfl rfl (by decide) rfl ?_
        refine gw_iinc X 53 2 [(3, .int (c3 + 1)), (2, .int (σ.1 3 (Int32.toNatClampNeg c2))), (0, .ref (a 0))] dX0_top_50 rfl rfl gw_ci_1 (by decide) rfl ?_
        refine gw_goto X 20 dX0_top_53 rfl ?_
        refine gw_lv [2, 1, 0] rfl ?_
        exact ih hp
      · replace hp := gw_t z hp
        refine gw_iload_n X 42 1 dX0_top_41 rfl rfl rfl ?_
        cases hp
        exact gw_iret X dX0_top_42 (fun _ h => ⟨rfl, h⟩) (Nat.le_of_ble_eq_true rfl) (Nat.le_of_ble_eq_true rfl)
set_option maxHeartbeats 4000000 in
theorem mt_X0_top {l : Launch} {D : gw_D} {a : Nat → Nat} {Wr : va_W → Prop} {σ : gw_S} {x1 : Int32} {res : Int32 × gw_S} (hp : fx_X0_top σ x1 = some res) : gw_Ct D l yX0_top cX0_top 4 (some .int) rm_X0_top [.ref (a 0), .int x1] (gw_st (wX D a σ) (gw_sp (gK D a) Wr)) (gw_pI res.1 (gw_st (wX D a res.2) (gw_sp (gK D a) Wr))) := by
  refine gw_ct (own := RX0) [(0, .ref (a 0)), (1, .int x1)] (by decide) rfl (Nat.le_of_ble_eq_true rfl) rfl ?_
  intro E X
  unfold fx_X0_top at hp
  refine gw_aload_n X 1 0 dX0_top_0 rfl rfl rfl ?_
  refine gw_iload_n X 2 1 dX0_top_1 rfl rfl rfl ?_
  refine gw_i2l X 3 dX0_top_2 rfl ?_
  refine gw_callVi X 6 [.long (Int32.toInt64 x1)] (mt_X0_isPerson rfl) lk_X0_186 ydv_X0_isPerson gX_cl0 gX_at0 rfl rfl rfl dX0_top_3 rfl rfl rfl ?_
  refine gw_if_neB X 12 9 dX0_top_6 rfl rfl (fun z => ?_) (fun z => ?_)
  · replace hp := gw_t z hp
    refine gw_aload_n X 13 0 dX0_top_12 rfl rfl rfl ?_
    obtain ⟨σ1, h2, hp⟩ := gw_b1_some hp
    refine gw_callVv X 16 [] (mt_X0_asItIs h2) lk_X0_190 ydv_X0_asItIs gX_cl0 gX_at0 rfl rfl rfl dX0_top_13 rfl rfl rfl ?_
    refine gw_iload_n X 17 1 dX0_top_16 rfl rfl rfl ?_
    refine gw_istore_n X 18 [(2, .int x1), (0, .ref (a 0)), (1, .int x1)] dX0_top_17 rfl rfl (by decide) rfl ?_
    refine gw_iconst X 19 dX0_top_18 rfl gw_ci_0 ?_
    refine gw_istore_n X 20 [(3, .int 0), (2, .int x1), (0, .ref (a 0)), (1, .int x1)] dX0_top_19 rfl rfl (by decide) rfl ?_
    refine gw_lv [2, 1, 0] rfl ?_
    exact wk_X0_top_L20 X hp
  · replace hp := gw_f z hp
    refine gw_bipush X 11 dX0_top_9 rfl gw_cb_m2 ?_
    cases hp
    exact gw_iret X dX0_top_11 (fun _ h => ⟨rfl, h⟩) (Nat.le_of_ble_eq_true rfl) (Nat.le_of_ble_eq_true rfl)
abbrev rm_X0_ring : Room := { frames := 16, cells := 384, slots := 1024, locals := 821 }
def fx_X0_ring (σ : gw_S) (x1 : Int32) : Option (Int32 × gw_S) := (if fx_X0_isPerson σ (Int32.toInt64 x1) = true then gw_b1 (fx_X0_asItIs σ) (fun σ1 => gw_b1 (fx_X0_ringOf σ1 x1) (fun r3 => some (r3, σ1))) else some ((-2), σ))
set_option maxHeartbeats 4000000 in
theorem mt_X0_ring {l : Launch} {D : gw_D} {a : Nat → Nat} {Wr : va_W → Prop} {σ : gw_S} {x1 : Int32} {res : Int32 × gw_S} (hp : fx_X0_ring σ x1 = some res) : gw_Ct D l yX0_ring cX0_ring 2 (some .int) rm_X0_ring [.ref (a 0), .int x1] (gw_st (wX D a σ) (gw_sp (gK D a) Wr)) (gw_pI res.1 (gw_st (wX D a res.2) (gw_sp (gK D a) Wr))) := by
  refine gw_ct (own := RX0) [(0, .ref (a 0)), (1, .int x1)] (by decide) rfl (Nat.le_of_ble_eq_true rfl) rfl ?_
  intro E X
  unfold fx_X0_ring at hp
  refine gw_aload_n X 1 0 dX0_ring_0 rfl rfl rfl ?_
  refine gw_iload_n X 2 1 dX0_ring_1 rfl rfl rfl ?_
  refine gw_i2l X 3 dX0_ring_2 rfl ?_
  refine gw_callVi X 6 [.long (Int32.toInt64 x1)] (mt_X0_isPerson rfl) lk_X0_186 ydv_X0_isPerson gX_cl0 gX_at0 rfl rfl rfl dX0_ring_3 rfl rfl rfl ?_
  refine gw_if_neB X 12 9 dX0_ring_6 rfl rfl (fun z => ?_) (fun z => ?_)
  · replace hp := gw_t z hp
    refine gw_aload_n X 13 0 dX0_ring_12 rfl rfl rfl ?_
    obtain ⟨σ1, h2, hp⟩ := gw_b1_some hp
    refine gw_callVv X 16 [] (mt_X0_asItIs h2) lk_X0_190 ydv_X0_asItIs gX_cl0 gX_at0 rfl rfl rfl dX0_ring_13 rfl rfl rfl ?_
    refine gw_aload_n X 17 0 dX0_ring_16 rfl rfl rfl ?_
    refine gw_iload_n X 18 1 dX0_ring_17 rfl rfl rfl ?_
    obtain ⟨r3, h4, hp⟩ := gw_b1_some hp
    refine gw_callVi X 21 [.int x1] (mt_X0_ringOf h4) lk_X0_218 ydv_X0_ringOf gX_cl0 gX_at0 rfl rfl rfl dX0_ring_18 rfl rfl rfl ?_
    cases hp
    exact gw_iret X dX0_ring_21 (fun _ h => ⟨rfl, h⟩) (Nat.le_of_ble_eq_true rfl) (Nat.le_of_ble_eq_true rfl)
  · replace hp := gw_f z hp
    refine gw_bipush X 11 dX0_ring_9 rfl gw_cb_m2 ?_
    cases hp
    exact gw_iret X dX0_ring_11 (fun _ h => ⟨rfl, h⟩) (Nat.le_of_ble_eq_true rfl) (Nat.le_of_ble_eq_true rfl)
abbrev rm_X0_rings : Room := { frames := 16, cells := 384, slots := 1024, locals := 821 }
def fx_X0_rings (σ : gw_S)  : Option (Int32 × gw_S) := (if fx_X0_isCity σ = true then gw_b1 (fx_X0_asItIs σ) (fun σ1 => gw_b1 (fx_X0_ringMany σ1) (fun r3 => some (r3, σ1))) else some ((-2), σ))
set_option maxHeartbeats 4000000 in
theorem mt_X0_rings {l : Launch} {D : gw_D} {a : Nat → Nat} {Wr : va_W → Prop} {σ : gw_S}  {res : Int32 × gw_S} (hp : fx_X0_rings σ  = some res) : gw_Ct D l yX0_rings cX0_rings 1 (some .int) rm_X0_rings [.ref (a 0)] (gw_st (wX D a σ) (gw_sp (gK D a) Wr)) (gw_pI res.1 (gw_st (wX D a res.2) (gw_sp (gK D a) Wr))) := by
  refine gw_ct (own := RX0) [(0, .ref (a 0))] (by decide) rfl (Nat.le_of_ble_eq_true rfl) rfl ?_
  intro E X
  unfold fx_X0_rings at hp
  refine gw_aload_n X 1 0 dX0_rings_0 rfl rfl rfl ?_
  refine gw_callVi X 4 [] (mt_X0_isCity rfl) lk_X0_103 ydv_X0_isCity gX_cl0 gX_at0 rfl rfl rfl dX0_rings_1 rfl rfl rfl ?_
  refine gw_if_neB X 10 7 dX0_rings_4 rfl rfl (fun z => ?_) (fun z => ?_)
  · replace hp := gw_t z hp
    refine gw_aload_n X 11 0 dX0_rings_10 rfl rfl rfl ?_
    obtain ⟨σ1, h2, hp⟩ := gw_b1_some hp
    refine gw_callVv X 14 [] (mt_X0_asItIs h2) lk_X0_190 ydv_X0_asItIs gX_cl0 gX_at0 rfl rfl rfl dX0_rings_11 rfl rfl rfl ?_
    refine gw_aload_n X 15 0 dX0_rings_14 rfl rfl rfl ?_
    obtain ⟨r3, h4, hp⟩ := gw_b1_some hp
    refine gw_callVi X 18 [] (mt_X0_ringMany h4) lk_X0_229 ydv_X0_ringMany gX_cl0 gX_at0 rfl rfl rfl dX0_rings_15 rfl rfl rfl ?_
    cases hp
    exact gw_iret X dX0_rings_18 (fun _ h => ⟨rfl, h⟩) (Nat.le_of_ble_eq_true rfl) (Nat.le_of_ble_eq_true rfl)
  · replace hp := gw_f z hp
    refine gw_bipush X 9 dX0_rings_7 rfl gw_cb_m2 ?_
    cases hp
    exact gw_iret X dX0_rings_9 (fun _ h => ⟨rfl, h⟩) (Nat.le_of_ble_eq_true rfl) (Nat.le_of_ble_eq_true rfl)
abbrev rm_X0_chain : Room := { frames := 16, cells := 384, slots := 1024, locals := 821 }
def fx_X0_chain (σ : gw_S) (x1 : Int32) (x2 : Int32) : Option (Int32 × gw_S) := (if fx_X0_isPerson σ (Int32.toInt64 x1) = true then (if fx_X0_isDeed (Int32.toInt64 x2) = true then gw_b1 (fx_X0_asItIs σ) (fun σ1 => gw_b1 (fx_X0_doerOf σ1 x1 x2) (fun r3 => (if r3 = (-1 : Int32) then some ((-1), σ1) else gw_b1 (fx_X0_timeOf σ1 x1 r3) (fun r5 => some (r5, σ1))))) else some ((-2), σ)) else some ((-2), σ))
set_option maxHeartbeats 4000000 in
theorem mt_X0_chain {l : Launch} {D : gw_D} {a : Nat → Nat} {Wr : va_W → Prop} {σ : gw_S} {x1 : Int32} {x2 : Int32} {res : Int32 × gw_S} (hp : fx_X0_chain σ x1 x2 = some res) : gw_Ct D l yX0_chain cX0_chain 4 (some .int) rm_X0_chain [.ref (a 0), .int x1, .int x2] (gw_st (wX D a σ) (gw_sp (gK D a) Wr)) (gw_pI res.1 (gw_st (wX D a res.2) (gw_sp (gK D a) Wr))) := by
  refine gw_ct (own := RX0) [(0, .ref (a 0)), (1, .int x1), (2, .int x2)] (by decide) rfl (Nat.le_of_ble_eq_true rfl) rfl ?_
  intro E X
  unfold fx_X0_chain at hp
  refine gw_aload_n X 1 0 dX0_chain_0 rfl rfl rfl ?_
  refine gw_iload_n X 2 1 dX0_chain_1 rfl rfl rfl ?_
  refine gw_i2l X 3 dX0_chain_2 rfl ?_
  refine gw_callVi X 6 [.long (Int32.toInt64 x1)] (mt_X0_isPerson rfl) lk_X0_186 ydv_X0_isPerson gX_cl0 gX_at0 rfl rfl rfl dX0_chain_3 rfl rfl rfl ?_
  refine gw_if_eqB X 17 9 dX0_chain_6 rfl rfl (fun z => ?_) (fun z => ?_)
  · replace hp := gw_f z hp
    refine gw_bipush X 19 dX0_chain_17 rfl gw_cb_m2 ?_
    cases hp
    exact gw_iret X dX0_chain_19 (fun _ h => ⟨rfl, h⟩) (Nat.le_of_ble_eq_true rfl) (Nat.le_of_ble_eq_true rfl)
  · replace hp := gw_t z hp
    refine gw_iload_n X 10 2 dX0_chain_9 rfl rfl rfl ?_
    refine gw_i2l X 11 dX0_chain_10 rfl ?_
    refine gw_callSi X 14 [.long (Int32.toInt64 x2)] (mt_X0_isDeed rfl) lk_X0_232 yd_X0_isDeed rfl rfl rfl dX0_chain_11 rfl rfl rfl ?_
    refine gw_if_neB X 20 17 dX0_chain_14 rfl rfl (fun z => ?_) (fun z => ?_)
    · replace hp := gw_t z hp
      refine gw_aload_n X 21 0 dX0_chain_20 rfl rfl rfl ?_
      obtain ⟨σ1, h2, hp⟩ := gw_b1_some hp
      refine gw_callVv X 24 [] (mt_X0_asItIs h2) lk_X0_190 ydv_X0_asItIs gX_cl0 gX_at0 rfl rfl rfl dX0_chain_21 rfl rfl rfl ?_
      refine gw_aload_n X 25 0 dX0_chain_24 rfl rfl rfl ?_
      refine gw_iload_n X 26 1 dX0_chain_25 rfl rfl rfl ?_
      refine gw_iload_n X 27 2 dX0_chain_26 rfl rfl rfl ?_
      obtain ⟨r3, h4, hp⟩ := gw_b1_some hp
      refine gw_callVi X 30 [.int x1, .int x2] (mt_X0_doerOf h4) lk_X0_235 ydv_X0_doerOf gX_cl0 gX_at0 rfl rfl rfl dX0_chain_27 rfl rfl rfl ?_
      refine gw_istore_n X 31 [(3, .int r3), (0, .ref (a 0)), (1, .int x1), (2, .int x2)] dX0_chain_30 rfl rfl (by decide) rfl ?_
      refine gw_iload_n X 32 0 dX0_chain_31 rfl rfl rfl ?_
      refine gw_iconst X 33 dX0_chain_32 rfl gw_ci_m1 ?_
      refine gw_icmp_ne X 40 36 dX0_chain_33 rfl rfl (fun z => ?_) (fun z => ?_)
      · replace hp := gw_f z hp
        refine gw_aload_n X 41 1 dX0_chain_40 rfl rfl rfl ?_
        refine gw_iload_n X 42 2 dX0_chain_41 rfl rfl rfl ?_
        refine gw_iload_n X 43 0 dX0_chain_42 rfl rfl rfl ?_
        obtain ⟨r5, h6, hp⟩ := gw_b1_some hp
        refine gw_callVi X 46 [.int x1, .int r3] (mt_X0_timeOf h6) lk_X0_214 ydv_X0_timeOf gX_cl0 gX_at0 rfl rfl rfl dX0_chain_43 rfl rfl rfl ?_
        cases hp
        exact gw_iret X dX0_chain_46 (fun _ h => ⟨rfl, h⟩) (Nat.le_of_ble_eq_true rfl) (Nat.le_of_ble_eq_true rfl)
      · replace hp := gw_t z hp
        refine gw_iconst X 37 dX0_chain_36 rfl gw_ci_m1 ?_
        refine gw_goto X 46 dX0_chain_37 rfl ?_
        cases hp
        exact gw_iret X dX0_chain_46 (fun _ h => ⟨rfl, h⟩) (Nat.le_of_ble_eq_true rfl) (Nat.le_of_ble_eq_true rfl)
    · replace hp := gw_f z hp
      refine gw_bipush X 19 dX0_chain_17 rfl gw_cb_m2 ?_
      cases hp
      exact gw_iret X dX0_chain_19 (fun _ h => ⟨rfl, h⟩) (Nat.le_of_ble_eq_true rfl) (Nat.le_of_ble_eq_true rfl)
abbrev rm_X0_doer : Room := { frames := 16, cells := 384, slots := 1024, locals := 821 }
def fx_X0_doer (σ : gw_S) (x1 : Int32) (x2 : Int32) : Option (Int32 × gw_S) := (if fx_X0_isPerson σ (Int32.toInt64 x1) = true then (if fx_X0_isDeed (Int32.toInt64 x2) = true then gw_b1 (fx_X0_asItIs σ) (fun σ1 => gw_b1 (fx_X0_doerOf σ1 x1 x2) (fun r3 => some (r3, σ1))) else some ((-2), σ)) else some ((-2), σ))
set_option maxHeartbeats 4000000 in
theorem mt_X0_doer {l : Launch} {D : gw_D} {a : Nat → Nat} {Wr : va_W → Prop} {σ : gw_S} {x1 : Int32} {x2 : Int32} {res : Int32 × gw_S} (hp : fx_X0_doer σ x1 x2 = some res) : gw_Ct D l yX0_doer cX0_doer 3 (some .int) rm_X0_doer [.ref (a 0), .int x1, .int x2] (gw_st (wX D a σ) (gw_sp (gK D a) Wr)) (gw_pI res.1 (gw_st (wX D a res.2) (gw_sp (gK D a) Wr))) := by
  refine gw_ct (own := RX0) [(0, .ref (a 0)), (1, .int x1), (2, .int x2)] (by decide) rfl (Nat.le_of_ble_eq_true rfl) rfl ?_
  intro E X
  unfold fx_X0_doer at hp
  refine gw_aload_n X 1 0 dX0_doer_0 rfl rfl rfl ?_
  refine gw_iload_n X 2 1 dX0_doer_1 rfl rfl rfl ?_
  refine gw_i2l X 3 dX0_doer_2 rfl ?_
  refine gw_callVi X 6 [.long (Int32.toInt64 x1)] (mt_X0_isPerson rfl) lk_X0_186 ydv_X0_isPerson gX_cl0 gX_at0 rfl rfl rfl dX0_doer_3 rfl rfl rfl ?_
  refine gw_if_eqB X 17 9 dX0_doer_6 rfl rfl (fun z => ?_) (fun z => ?_)
  · replace hp := gw_f z hp
    refine gw_bipush X 19 dX0_doer_17 rfl gw_cb_m2 ?_
    cases hp
    exact gw_iret X dX0_doer_19 (fun _ h => ⟨rfl, h⟩) (Nat.le_of_ble_eq_true rfl) (Nat.le_of_ble_eq_true rfl)
  · replace hp := gw_t z hp
    refine gw_iload_n X 10 2 dX0_doer_9 rfl rfl rfl ?_
    refine gw_i2l X 11 dX0_doer_10 rfl ?_
    refine gw_callSi X 14 [.long (Int32.toInt64 x2)] (mt_X0_isDeed rfl) lk_X0_232 yd_X0_isDeed rfl rfl rfl dX0_doer_11 rfl rfl rfl ?_
    refine gw_if_neB X 20 17 dX0_doer_14 rfl rfl (fun z => ?_) (fun z => ?_)
    · replace hp := gw_t z hp
      refine gw_aload_n X 21 0 dX0_doer_20 rfl rfl rfl ?_
      obtain ⟨σ1, h2, hp⟩ := gw_b1_some hp
      refine gw_callVv X 24 [] (mt_X0_asItIs h2) lk_X0_190 ydv_X0_asItIs gX_cl0 gX_at0 rfl rfl rfl dX0_doer_21 rfl rfl rfl ?_
      refine gw_aload_n X 25 0 dX0_doer_24 rfl rfl rfl ?_
      refine gw_iload_n X 26 1 dX0_doer_25 rfl rfl rfl ?_
      refine gw_iload_n X 27 2 dX0_doer_26 rfl rfl rfl ?_
      obtain ⟨r3, h4, hp⟩ := gw_b1_some hp
      refine gw_callVi X 30 [.int x1, .int x2] (mt_X0_doerOf h4) lk_X0_235 ydv_X0_doerOf gX_cl0 gX_at0 rfl rfl rfl dX0_doer_27 rfl rfl rfl ?_
      cases hp
      exact gw_iret X dX0_doer_30 (fun _ h => ⟨rfl, h⟩) (Nat.le_of_ble_eq_true rfl) (Nat.le_of_ble_eq_true rfl)
    · replace hp := gw_f z hp
      refine gw_bipush X 19 dX0_doer_17 rfl gw_cb_m2 ?_
      cases hp
      exact gw_iret X dX0_doer_19 (fun _ h => ⟨rfl, h⟩) (Nat.le_of_ble_eq_true rfl) (Nat.le_of_ble_eq_true rfl)
abbrev rm_X0_asked : Room := { frames := 16, cells := 384, slots := 1024, locals := 821 }
def fx_X0_asked_L52 {τ : Type} (k : Int32 → Option (τ)) (σ : gw_S) (v1 : Int32) (v3 : Int32) (v4 : Int32) : Nat → Int32 → Int32 → Option (τ)
  | 0, _, _ => none
  | n + 1, c5, c6 => (if c6 = v1 then k c5 else gw_ck c6 8 (fx_X0_asked_L52 k σ v1 v3 v4 n (c5 + 1) (σ.1 3 (Int32.toNatClampNeg c6))))
def fx_X0_asked_L99 (σ : gw_S) (v3 : Int32) : Nat → Int32 → Int32 → Option (Int32 × gw_S)
  | 0, _, _ => none
  | n + 1, c6, c7 => (if c7 ≤ v3 then some (c6, σ) else gw_ck c6 8 (fx_X0_asked_L99 σ v3 n (σ.1 3 (Int32.toNatClampNeg c6)) (c7 + (-1))))
def fx_X0_asked (σ : gw_S) (x1 : Int32) (x2 : Int32) (x3 : Int32) : Option (Int32 × gw_S) := (if fx_X0_isPerson σ (Int32.toInt64 x1) = true then (if fx_X0_isDeed (Int32.toInt64 x2) = true then gw_b1 (fx_X0_asItIs σ) (fun σ1 => gw_b1 (fx_X0_doerOf σ1 x1 x2) (fun r3 => (if r3 = (-1 : Int32) then some ((-1), σ1) else gw_ck r3 8 (fx_X0_asked_L52 (fun (e5 : Int32) => (if fx_X0_isIn (Int32.toInt64 x3) (0 : Int64) (Int32.toInt64 (e5 - (1 : Int32))) = true then fx_X0_asked_L99 σ1 x3 1000 r3 (e5 - (1 : Int32)) else some ((-1), σ1))) σ1 x1 x3 r3 1000 (1 : Int32) (σ1.1 3 (Int32.toNatClampNeg r3)))))) else some ((-2), σ)) else some ((-2), σ))
set_option maxHeartbeats 4000000 in
theorem wk_X0_asked_L52 {E : gw_E} {l : Launch} {D : gw_D} {a : Nat → Nat} {Wr : va_W → Prop} {σ : gw_S} {τ : Type} {res : τ} {post : Option (Option Value → va_W → Prop)} (X : gw_X E cX0_asked 8 RX0 (some .int) l D rm_X0_asked post) {k : Int32 → Option (τ)} {v1 : Int32} {v3 : Int32} {v4 : Int32} : ∀ {n : Nat} {c5 : Int32} {c6 : Int32}, fx_X0_asked_L52 k σ v1 v3 v4 n c5 c6 = some res → (∀ (c5 : Int32), k c5 = some res → gw_W E 73 [(0, .ref (a 0)), (3, .int v3), (4, .int v4), (5, .int c5)] [] (gw_st (wX D a σ) (gw_sp (gK D a) Wr)) 384 1024) → gw_W E 52 [(0, .ref (a 0)), (1, .int v1), (3, .int v3), (4, .int v4), (5, .int c5), (6, .int c6)] [] (gw_st (wX D a σ) (gw_sp (gK D a) Wr)) 384 1024 := by
  intro n
  induction n with
  | zero =>
    intro c5 c6 hp hk
    cases (show none = some res from hp)
  | succ n ih =>
    intro c5 c6 hp hk
    rw [fx_X0_asked_L52] at hp
    refine gw_iload X 54 5 dX0_asked_52 rfl rfl ?_
    refine gw_iload_n X 55 1 dX0_asked_54 rfl rfl rfl ?_
    refine gw_icmp_eq X 73 58 dX0_asked_55 rfl rfl (fun z => ?_) (fun z => ?_)
    · replace hp := gw_t z hp
      refine gw_lv [0, 2, 3, 4] rfl ?_
      exact hk _ hp
    · replace hp := gw_f z hp
      refine gw_iinc X 61 4 [(5, .int (c5 + 1)), (0, .ref (a 0)), (1, .int v1), (3, .int v3), (4, .int v4), (6, .int c6)] dX0_asked_58 rfl rfl gw_ci_1 (by decide) rfl ?_
      refine gw_aload_n X 62 1 dX0_asked_61 rfl rfl rfl ?_
      refine gX_g0_9 X 65 q303 dX0_asked_62 rfl ?_
      refine gw_iload X 67 5 dX0_asked_65 rfl rfl ?_
      obtain ⟨hc, hp⟩ := gw_ck_some hp
      refine gX_l3 X 68 (Int32.toNatClampNeg c6) hc rfl dX0_asked_67 rfl ?_
      refine gw_istore X 70 [(6, .int (σ.1 3 (Int32.toNatClampNeg c6))), (5, .int (c5 + 1)), (0, .ref (a 0)), (1, .int v1), (3, .int v3), (4, .int v4)] dX0_asked_68 rfl (by decide) rfl ?_
      refine gw_goto X 52 dX0_asked_70 rfl ?_
      refine gw_lv [2, 3, 4, 5, 1, 0] rfl ?_
      exact ih hp hk
set_option maxHeartbeats 4000000 in
theorem wk_X0_asked_L99 {E : gw_E} {l : Launch} {D : gw_D} {a : Nat → Nat} {Wr : va_W → Prop} {σ : gw_S} {res : Int32 × gw_S} (X : gw_X E cX0_asked 8 RX0 (some .int) l D rm_X0_asked (some (gw_pI res.1 (gw_st (wX D a res.2) (gw_sp (gK D a) Wr))))) {v3 : Int32} : ∀ {n : Nat} {c6 : Int32} {c7 : Int32}, fx_X0_asked_L99 σ v3 n c6 c7 = some res → gw_W E 99 [(0, .ref (a 0)), (3, .int v3), (6, .int c6), (7, .int c7)] [] (gw_st (wX D a σ) (gw_sp (gK D a) Wr)) 384 1024 := by
  intro n
  induction n with
  | zero =>
    intro c6 c7 hp
    cases (show none = some res from hp)
  | succ n ih =>
    intro c6 c7 hp
    rw [fx_X0_asked_L99] at hp
    refine gw_iload X 101 3 dX0_asked_99 rfl rfl ?_
    refine gw_iload_n X 102 1 dX0_asked_101 rfl rfl rfl ?_
    refine gw_icmp_le X 120 105 dX0_asked_102 rfl rfl (fun z => ?_) (fun z => ?_)
    · replace hp := gw_t z hp
      refine gw_iload X 122 2 dX0_asked_120 rfl rfl ?_
      cases hp
      exact gw_iret X dX0_asked_122 (fun _ h => ⟨rfl, h⟩) (Nat.le_of_ble_eq_true rfl) (Nat.le_of_ble_eq_true rfl)
    · replace hp := gw_f z hp
      refine gw_aload_n X 106 0 dX0_asked_105 rfl rfl rfl ?_
      refine gX_g0_9 X 109 q303 dX0_asked_106 rfl ?_
      refine gw_iload X 111 2 dX0_asked_109 rfl rfl ?_
      obtain ⟨hc, hp⟩ := gw_ck_some hp
      refine gX_l3 X 112 (Int32.toNatClampNeg c6) hc rfl dX0_asked_111 rfl ?_
      refine gw_istore X 114 [(6, .int (σ.1 3 (Int32.toNatClampNeg c6))), (0, .ref (a 0)), (3, .int v3), (7, .int c7)] dX0_asked_112 rfl (by decide) rfl ?_
      refine gw_iinc X 117 3 [(7, .int (c7 + (-1))), (6, .int (σ.1 3 (Int32.toNatClampNeg c6))), (0, .ref (a 0)), (3, .int v3)] dX0_asked_114 rfl rfl gw_ci_m1 (by decide) rfl ?_
      refine gw_goto X 99 dX0_asked_117 rfl ?_
      refine gw_lv [2, 3, 1, 0] rfl ?_
      exact ih hp
set_option maxHeartbeats 4000000 in
theorem mt_X0_asked {l : Launch} {D : gw_D} {a : Nat → Nat} {Wr : va_W → Prop} {σ : gw_S} {x1 : Int32} {x2 : Int32} {x3 : Int32} {res : Int32 × gw_S} (hp : fx_X0_asked σ x1 x2 x3 = some res) : gw_Ct D l yX0_asked cX0_asked 8 (some .int) rm_X0_asked [.ref (a 0), .int x1, .int x2, .int x3] (gw_st (wX D a σ) (gw_sp (gK D a) Wr)) (gw_pI res.1 (gw_st (wX D a res.2) (gw_sp (gK D a) Wr))) := by
  refine gw_ct (own := RX0) [(0, .ref (a 0)), (1, .int x1), (2, .int x2), (3, .int x3)] (by decide) rfl (Nat.le_of_ble_eq_true rfl) rfl ?_
  intro E X
  unfold fx_X0_asked at hp
  refine gw_aload_n X 1 0 dX0_asked_0 rfl rfl rfl ?_
  refine gw_iload_n X 2 1 dX0_asked_1 rfl rfl rfl ?_
  refine gw_i2l X 3 dX0_asked_2 rfl ?_
  refine gw_callVi X 6 [.long (Int32.toInt64 x1)] (mt_X0_isPerson rfl) lk_X0_186 ydv_X0_isPerson gX_cl0 gX_at0 rfl rfl rfl dX0_asked_3 rfl rfl rfl ?_
  refine gw_if_eqB X 17 9 dX0_asked_6 rfl rfl (fun z => ?_) (fun z => ?_)
  · replace hp := gw_f z hp
    refine gw_bipush X 19 dX0_asked_17 rfl gw_cb_m2 ?_
    cases hp
    exact gw_iret X dX0_asked_19 (fun _ h => ⟨rfl, h⟩) (Nat.le_of_ble_eq_true rfl) (Nat.le_of_ble_eq_true rfl)
  · replace hp := gw_t z hp
    refine gw_iload_n X 10 2 dX0_asked_9 rfl rfl rfl ?_
    refine gw_i2l X 11 dX0_asked_10 rfl ?_
    refine gw_callSi X 14 [.long (Int32.toInt64 x2)] (mt_X0_isDeed rfl) lk_X0_232 yd_X0_isDeed rfl rfl rfl dX0_asked_11 rfl rfl rfl ?_
    refine gw_if_neB X 20 17 dX0_asked_14 rfl rfl (fun z => ?_) (fun z => ?_)
    · replace hp := gw_t z hp
      refine gw_aload_n X 21 0 dX0_asked_20 rfl rfl rfl ?_
      obtain ⟨σ1, h2, hp⟩ := gw_b1_some hp
      refine gw_callVv X 24 [] (mt_X0_asItIs h2) lk_X0_190 ydv_X0_asItIs gX_cl0 gX_at0 rfl rfl rfl dX0_asked_21 rfl rfl rfl ?_
      refine gw_aload_n X 25 0 dX0_asked_24 rfl rfl rfl ?_
      refine gw_iload_n X 26 1 dX0_asked_25 rfl rfl rfl ?_
      refine gw_iload_n X 27 2 dX0_asked_26 rfl rfl rfl ?_
      obtain ⟨r3, h4, hp⟩ := gw_b1_some hp
      refine gw_callVi X 30 [.int x1, .int x2] (mt_X0_doerOf h4) lk_X0_235 ydv_X0_doerOf gX_cl0 gX_at0 rfl rfl rfl dX0_asked_27 rfl rfl rfl ?_
      refine gw_istore X 32 [(4, .int r3), (0, .ref (a 0)), (1, .int x1), (2, .int x2), (3, .int x3)] dX0_asked_30 rfl (by decide) rfl ?_
      refine gw_iload X 34 0 dX0_asked_32 rfl rfl ?_
      refine gw_iconst X 35 dX0_asked_34 rfl gw_ci_m1 ?_
      refine gw_icmp_ne X 40 38 dX0_asked_35 rfl rfl (fun z => ?_) (fun z => ?_)
      · replace hp := gw_f z hp
        refine gw_iconst X 41 dX0_asked_40 rfl gw_ci_1 ?_
        refine gw_istore X 43 [(5, .int 1), (4, .int r3), (0, .ref (a 0)), (1, .int x1), (2, .int x2), (3, .int x3)] dX0_asked_41 rfl (by decide) rfl ?_
        refine gw_aload_n X 44 2 dX0_asked_43 rfl rfl rfl ?_
        refine gX_g0_9 X 47 q303 dX0_asked_44 rfl ?_
        refine gw_iload X 49 1 dX0_asked_47 rfl rfl ?_
        obtain ⟨hc, hp⟩ := gw_ck_some hp
        refine gX_l3 X 50 (Int32.toNatClampNeg r3) hc rfl dX0_asked_49 rfl ?_
        refine gw_istore X 52 [(6, .int (σ1.1 3 (Int32.toNatClampNeg r3))), (5, .int 1), (4, .int r3), (0, .ref (a 0)), (1, .int x1), (2, .int x2), (3, .int x3)] dX0_asked_50 rfl (by decide) rfl ?_
        refine gw_lv [3, 4, 6, 2, 1, 0] rfl ?_
        refine wk_X0_asked_L52 X hp ?_
        clear hp
        intro e5 hp
        refine gw_iload_n X 74 1 dX0_asked_73 rfl rfl rfl ?_
        refine gw_i2l X 75 dX0_asked_74 rfl ?_
        refine gw_lconst X 76 dX0_asked_75 rfl gw_cl_0 ?_
        refine gw_iload X 78 3 dX0_asked_76 rfl rfl ?_
        refine gw_iconst X 79 dX0_asked_78 rfl gw_ci_1 ?_
        refine gw_isub X 80 dX0_asked_79 rfl ?_
        refine gw_i2l X 81 dX0_asked_80 rfl ?_
        refine gw_callSi X 84 [.long (Int32.toInt64 x3), .long 0, .long (Int32.toInt64 (e5 - (1 : Int32)))] (mt_X0_isIn rfl) lk_X0_67 yd_X0_isIn rfl rfl rfl dX0_asked_81 rfl rfl rfl ?_
        refine gw_if_neB X 89 87 dX0_asked_84 rfl rfl (fun z => ?_) (fun z => ?_)
        · replace hp := gw_t z hp
          refine gw_iload X 91 2 dX0_asked_89 rfl rfl ?_
          refine gw_istore X 93 [(6, .int r3), (0, .ref (a 0)), (3, .int x3), (4, .int r3), (5, .int e5)] dX0_asked_91 rfl (by decide) rfl ?_
          refine gw_iload X 95 4 dX0_asked_93 rfl rfl ?_
          refine gw_iconst X 96 dX0_asked_95 rfl gw_ci_1 ?_
          refine gw_isub X 97 dX0_asked_96 rfl ?_
          refine gw_istore X 99 [(7, .int (e5 - (1 : Int32))), (6, .int r3), (0, .ref (a 0)), (3, .int x3), (4, .int r3), (5, .int e5)] dX0_asked_97 rfl (by decide) rfl ?_
          refine gw_lv [2, 3, 1, 0] rfl ?_
          exact wk_X0_asked_L99 X hp
        · replace hp := gw_f z hp
          refine gw_iconst X 88 dX0_asked_87 rfl gw_ci_m1 ?_
          cases hp
          exact gw_iret X dX0_asked_88 (fun _ h => ⟨rfl, h⟩) (Nat.le_of_ble_eq_true rfl) (Nat.le_of_ble_eq_true rfl)
      · replace hp := gw_t z hp
        refine gw_iconst X 39 dX0_asked_38 rfl gw_ci_m1 ?_
        cases hp
        exact gw_iret X dX0_asked_39 (fun _ h => ⟨rfl, h⟩) (Nat.le_of_ble_eq_true rfl) (Nat.le_of_ble_eq_true rfl)
    · replace hp := gw_f z hp
      refine gw_bipush X 19 dX0_asked_17 rfl gw_cb_m2 ?_
      cases hp
      exact gw_iret X dX0_asked_19 (fun _ h => ⟨rfl, h⟩) (Nat.le_of_ble_eq_true rfl) (Nat.le_of_ble_eq_true rfl)
abbrev rm_X0_can : Room := { frames := 16, cells := 384, slots := 1024, locals := 821 }
def fx_X0_can (σ : gw_S) (x1 : Int32) : Option (Int32 × gw_S) := (if fx_X0_isPerson σ (Int32.toInt64 x1) = true then gw_b1 (fx_X0_asItIs σ) (fun σ1 => gw_ck x1 8 (gw_b1 (fx_X0_underOf σ1 x1) (fun r3 => gw_b1 (fx_X0_deedsOf σ1 r3) (fun r5 => some ((σ1.1 11 (Int32.toNatClampNeg x1)) &&& r5, σ1))))) else some ((-2), σ))
set_option maxHeartbeats 4000000 in
theorem mt_X0_can {l : Launch} {D : gw_D} {a : Nat → Nat} {Wr : va_W → Prop} {σ : gw_S} {x1 : Int32} {res : Int32 × gw_S} (hp : fx_X0_can σ x1 = some res) : gw_Ct D l yX0_can cX0_can 2 (some .int) rm_X0_can [.ref (a 0), .int x1] (gw_st (wX D a σ) (gw_sp (gK D a) Wr)) (gw_pI res.1 (gw_st (wX D a res.2) (gw_sp (gK D a) Wr))) := by
  refine gw_ct (own := RX0) [(0, .ref (a 0)), (1, .int x1)] (by decide) rfl (Nat.le_of_ble_eq_true rfl) rfl ?_
  intro E X
  unfold fx_X0_can at hp
  refine gw_aload_n X 1 0 dX0_can_0 rfl rfl rfl ?_
  refine gw_iload_n X 2 1 dX0_can_1 rfl rfl rfl ?_
  refine gw_i2l X 3 dX0_can_2 rfl ?_
  refine gw_callVi X 6 [.long (Int32.toInt64 x1)] (mt_X0_isPerson rfl) lk_X0_186 ydv_X0_isPerson gX_cl0 gX_at0 rfl rfl rfl dX0_can_3 rfl rfl rfl ?_
  refine gw_if_neB X 12 9 dX0_can_6 rfl rfl (fun z => ?_) (fun z => ?_)
  · replace hp := gw_t z hp
    refine gw_aload_n X 13 0 dX0_can_12 rfl rfl rfl ?_
    obtain ⟨σ1, h2, hp⟩ := gw_b1_some hp
    refine gw_callVv X 16 [] (mt_X0_asItIs h2) lk_X0_190 ydv_X0_asItIs gX_cl0 gX_at0 rfl rfl rfl dX0_can_13 rfl rfl rfl ?_
    refine gw_aload_n X 17 0 dX0_can_16 rfl rfl rfl ?_
    refine gX_g0_0 X 20 q280 dX0_can_17 rfl ?_
    refine gX_g1_8N X 23 q210 dX0_can_20 rfl ?_
    refine gw_iload_n X 24 1 dX0_can_23 rfl rfl rfl ?_
    obtain ⟨hc, hp⟩ := gw_ck_some hp
    refine gX_l11 X 25 (Int32.toNatClampNeg x1) hc rfl dX0_can_24 rfl ?_
    refine gw_aload_n X 26 0 dX0_can_25 rfl rfl rfl ?_
    refine gw_aload_n X 27 0 dX0_can_26 rfl rfl rfl ?_
    refine gw_iload_n X 28 1 dX0_can_27 rfl rfl rfl ?_
    obtain ⟨r3, h4, hp⟩ := gw_b1_some hp
    refine gw_callVi X 31 [.int x1] (mt_X0_underOf h4) lk_X0_208 ydv_X0_underOf gX_cl0 gX_at0 rfl rfl rfl dX0_can_28 rfl rfl rfl ?_
    obtain ⟨r5, h6, hp⟩ := gw_b1_some hp
    refine gw_callVi X 34 [.int r3] (mt_X0_deedsOf h6) lk_X0_238 ydv_X0_deedsOf gX_cl0 gX_at0 rfl rfl rfl dX0_can_31 rfl rfl rfl ?_
    refine gw_iand X 35 dX0_can_34 rfl ?_
    cases hp
    exact gw_iret X dX0_can_35 (fun _ h => ⟨rfl, h⟩) (Nat.le_of_ble_eq_true rfl) (Nat.le_of_ble_eq_true rfl)
  · replace hp := gw_f z hp
    refine gw_bipush X 11 dX0_can_9 rfl gw_cb_m2 ?_
    cases hp
    exact gw_iret X dX0_can_11 (fun _ h => ⟨rfl, h⟩) (Nat.le_of_ble_eq_true rfl) (Nat.le_of_ble_eq_true rfl)
abbrev rm_X0_why : Room := { frames := 16, cells := 384, slots := 1024, locals := 821 }
def fx_X0_why (σ : gw_S) (x1 : Int32) (x2 : Int32) (x3 : Int32) : Option (Int32 × gw_S) := (if fx_X0_isAsking σ x1 x2 x3 = true then gw_b1 (fx_X0_asItIs σ) (fun σ1 => gw_b1 (fx_X0_whyNot σ1 x1 x2 x3) (fun r3 => some (r3, σ1))) else some ((-2), σ))
set_option maxHeartbeats 4000000 in
theorem mt_X0_why {l : Launch} {D : gw_D} {a : Nat → Nat} {Wr : va_W → Prop} {σ : gw_S} {x1 : Int32} {x2 : Int32} {x3 : Int32} {res : Int32 × gw_S} (hp : fx_X0_why σ x1 x2 x3 = some res) : gw_Ct D l yX0_why cX0_why 4 (some .int) rm_X0_why [.ref (a 0), .int x1, .int x2, .int x3] (gw_st (wX D a σ) (gw_sp (gK D a) Wr)) (gw_pI res.1 (gw_st (wX D a res.2) (gw_sp (gK D a) Wr))) := by
  refine gw_ct (own := RX0) [(0, .ref (a 0)), (1, .int x1), (2, .int x2), (3, .int x3)] (by decide) rfl (Nat.le_of_ble_eq_true rfl) rfl ?_
  intro E X
  unfold fx_X0_why at hp
  refine gw_aload_n X 1 0 dX0_why_0 rfl rfl rfl ?_
  refine gw_iload_n X 2 1 dX0_why_1 rfl rfl rfl ?_
  refine gw_iload_n X 3 2 dX0_why_2 rfl rfl rfl ?_
  refine gw_iload_n X 4 3 dX0_why_3 rfl rfl rfl ?_
  refine gw_callVi X 7 [.int x1, .int x2, .int x3] (mt_X0_isAsking rfl) lk_X0_241 ydv_X0_isAsking gX_cl0 gX_at0 rfl rfl rfl dX0_why_4 rfl rfl rfl ?_
  refine gw_if_neB X 13 10 dX0_why_7 rfl rfl (fun z => ?_) (fun z => ?_)
  · replace hp := gw_t z hp
    refine gw_aload_n X 14 0 dX0_why_13 rfl rfl rfl ?_
    obtain ⟨σ1, h2, hp⟩ := gw_b1_some hp
    refine gw_callVv X 17 [] (mt_X0_asItIs h2) lk_X0_190 ydv_X0_asItIs gX_cl0 gX_at0 rfl rfl rfl dX0_why_14 rfl rfl rfl ?_
    refine gw_aload_n X 18 0 dX0_why_17 rfl rfl rfl ?_
    refine gw_iload_n X 19 1 dX0_why_18 rfl rfl rfl ?_
    refine gw_iload_n X 20 2 dX0_why_19 rfl rfl rfl ?_
    refine gw_iload_n X 21 3 dX0_why_20 rfl rfl rfl ?_
    obtain ⟨r3, h4, hp⟩ := gw_b1_some hp
    refine gw_callVi X 24 [.int x1, .int x2, .int x3] (mt_X0_whyNot h4) lk_X0_245 ydv_X0_whyNot gX_cl0 gX_at0 rfl rfl rfl dX0_why_21 rfl rfl rfl ?_
    cases hp
    exact gw_iret X dX0_why_24 (fun _ h => ⟨rfl, h⟩) (Nat.le_of_ble_eq_true rfl) (Nat.le_of_ble_eq_true rfl)
  · replace hp := gw_f z hp
    refine gw_bipush X 12 dX0_why_10 rfl gw_cb_m2 ?_
    cases hp
    exact gw_iret X dX0_why_12 (fun _ h => ⟨rfl, h⟩) (Nat.le_of_ble_eq_true rfl) (Nat.le_of_ble_eq_true rfl)
abbrev rm_X0_keeps : Room := { frames := 15, cells := 6, slots := 16, locals := 721 }
def fx_X0_keeps (σ : gw_S) (x1 : Int32) (x2 : Int32) (x3 : Int32) (x4 : Int32) (x5 : Int32) : Option (gw_S) := gw_ck (σ.1 1 3) 40 (gw_let (gw_u σ 13 (Int32.toNatClampNeg (σ.1 1 3)) ((((((10000 : Int32) * x1) + ((1000 : Int32) * x2)) + ((100 : Int32) * x3)) + ((10 : Int32) * x4)) + x5)) (fun σ1 => gw_let (gw_u σ1 1 3 ((σ1.1 1 3) + (1 : Int32))) (fun σ3 => gw_b1 (fx_X0_does σ3 ((((((10000 : Int32) * x1) + ((1000 : Int32) * x2)) + ((100 : Int32) * x3)) + ((10 : Int32) * x4)) + x5)) (fun σ5 => some σ5))))
set_option maxHeartbeats 4000000 in
theorem mt_X0_keeps {l : Launch} {D : gw_D} {a : Nat → Nat} {Wr : va_W → Prop} {σ : gw_S} {x1 : Int32} {x2 : Int32} {x3 : Int32} {x4 : Int32} {x5 : Int32} {res : gw_S} (hp : fx_X0_keeps σ x1 x2 x3 x4 x5 = some res) : gw_Ct D l yX0_keeps cX0_keeps 7 none rm_X0_keeps [.ref (a 0), .int x1, .int x2, .int x3, .int x4, .int x5] (gw_st (wX D a σ) (gw_sp (gK D a) Wr)) (gw_pV (gw_st (wX D a res) (gw_sp (gK D a) Wr))) := by
  refine gw_ct (own := RX0) [(0, .ref (a 0)), (1, .int x1), (2, .int x2), (3, .int x3), (4, .int x4), (5, .int x5)] (by decide) rfl (Nat.le_of_ble_eq_true rfl) rfl ?_
  intro E X
  unfold fx_X0_keeps at hp
  refine gw_sipush X 3 dX0_keeps_0 rfl gw_cs_10000 ?_
  refine gw_iload_n X 4 1 dX0_keeps_3 rfl rfl rfl ?_
  refine gw_imul X 5 dX0_keeps_4 rfl ?_
  refine gw_sipush X 8 dX0_keeps_5 rfl gw_cs_1000 ?_
  refine gw_iload_n X 9 2 dX0_keeps_8 rfl rfl rfl ?_
  refine gw_imul X 10 dX0_keeps_9 rfl ?_
  refine gw_iadd X 11 dX0_keeps_10 rfl ?_
  refine gw_bipush X 13 dX0_keeps_11 rfl gw_cb_100 ?_
  refine gw_iload_n X 14 3 dX0_keeps_13 rfl rfl rfl ?_
  refine gw_imul X 15 dX0_keeps_14 rfl ?_
  refine gw_iadd X 16 dX0_keeps_15 rfl ?_
  refine gw_bipush X 18 dX0_keeps_16 rfl gw_cb_10 ?_
  refine gw_iload X 20 4 dX0_keeps_18 rfl rfl ?_
  refine gw_imul X 21 dX0_keeps_20 rfl ?_
  refine gw_iadd X 22 dX0_keeps_21 rfl ?_
  refine gw_iload X 24 5 dX0_keeps_22 rfl rfl ?_
  refine gw_iadd X 25 dX0_keeps_24 rfl ?_
  refine gw_istore X 27 [(6, .int ((((((10000 : Int32) * x1) + ((1000 : Int32) * x2)) + ((100 : Int32) * x3)) + ((10 : Int32) * x4)) + x5)), (0, .ref (a 0)), (1, .int x1), (2, .int x2), (3, .int x3), (4, .int x4), (5, .int x5)] dX0_keeps_25 rfl (by decide) rfl ?_
  refine gw_aload_n X 28 1 dX0_keeps_27 rfl rfl rfl ?_
  refine gX_g0_0 X 31 q280 dX0_keeps_28 rfl ?_
  refine gX_g1_10N X 34 q215 dX0_keeps_31 rfl ?_
  refine gw_aload_n X 35 1 dX0_keeps_34 rfl rfl rfl ?_
  refine gX_g0_0 X 38 q280 dX0_keeps_35 rfl ?_
  refine gX_g1_3N X 41 q196 dX0_keeps_38 rfl ?_
  refine gw_iload X 43 0 dX0_keeps_41 rfl rfl ?_
  obtain ⟨hc, hp⟩ := gw_ck_some hp
  refine gX_s13 X 44 (Int32.toNatClampNeg (σ.1 1 3)) hc rfl dX0_keeps_43 rfl ?_
  refine gw_aload_n X 45 1 dX0_keeps_44 rfl rfl rfl ?_
  obtain ⟨σ1, h2, hp⟩ := gw_let_some hp
  rw [← h2]
  clear h2
  refine gX_g0_0 X 48 q280 dX0_keeps_45 rfl ?_
  refine gw_dup X 49 dX0_keeps_48 rfl rfl ?_
  refine gX_g1_3N X 52 q196 dX0_keeps_49 rfl ?_
  refine gw_iconst X 53 dX0_keeps_52 rfl gw_ci_1 ?_
  refine gw_iadd X 54 dX0_keeps_53 rfl ?_
  refine gX_p1_3N X 57 q196 dX0_keeps_54 rfl ?_
  refine gw_aload_n X 58 1 dX0_keeps_57 rfl rfl rfl ?_
  refine gw_iload X 60 0 dX0_keeps_58 rfl rfl ?_
  obtain ⟨σ3, h4, hp⟩ := gw_let_some hp
  rw [← h4]
  clear h4
  obtain ⟨σ5, h6, hp⟩ := gw_b1_some hp
  refine gw_callVv X 63 [.int ((((((10000 : Int32) * x1) + ((1000 : Int32) * x2)) + ((100 : Int32) * x3)) + ((10 : Int32) * x4)) + x5)] (mt_X0_does h6) lk_X0_149 ydv_X0_does gX_cl0 gX_at0 rfl rfl rfl dX0_keeps_60 rfl rfl rfl ?_
  cases hp
  exact gw_vret X dX0_keeps_63 (fun _ h => ⟨rfl, h⟩) (Nat.le_of_ble_eq_true rfl) (Nat.le_of_ble_eq_true rfl)
abbrev rm_X0_ask : Room := { frames := 16, cells := 390, slots := 1040, locals := 821 }
def fx_X0_ask (σ : gw_S) (x1 : Int32) (x2 : Int32) (x3 : Int32) : Option (Int32 × gw_S) := (if fx_X0_isAsking σ x1 x2 x3 = true then gw_b1 (fx_X0_asItIs σ) (fun σ1 => gw_b1 (fx_X0_whyNot σ1 x1 x2 x3) (fun r3 => (if r3 = 0 then (if (σ1.1 1 3) = (40 : Int32) then some ((-5), σ1) else gw_b1 (fx_X0_keeps σ1 (0 : Int32) x1 x2 x3 (0 : Int32)) (fun σ5 => gw_ck x2 8 (some ((fx_X0_limit σ5 x2) - (σ5.1 4 (Int32.toNatClampNeg x2)), σ5)))) else some ((-5), σ1)))) else some ((-2), σ))
set_option maxHeartbeats 4000000 in
theorem mt_X0_ask {l : Launch} {D : gw_D} {a : Nat → Nat} {Wr : va_W → Prop} {σ : gw_S} {x1 : Int32} {x2 : Int32} {x3 : Int32} {res : Int32 × gw_S} (hp : fx_X0_ask σ x1 x2 x3 = some res) : gw_Ct D l yX0_ask cX0_ask 4 (some .int) rm_X0_ask [.ref (a 0), .int x1, .int x2, .int x3] (gw_st (wX D a σ) (gw_sp (gK D a) Wr)) (gw_pI res.1 (gw_st (wX D a res.2) (gw_sp (gK D a) Wr))) := by
  refine gw_ct (own := RX0) [(0, .ref (a 0)), (1, .int x1), (2, .int x2), (3, .int x3)] (by decide) rfl (Nat.le_of_ble_eq_true rfl) rfl ?_
  intro E X
  unfold fx_X0_ask at hp
  refine gw_aload_n X 1 0 dX0_ask_0 rfl rfl rfl ?_
  refine gw_iload_n X 2 1 dX0_ask_1 rfl rfl rfl ?_
  refine gw_iload_n X 3 2 dX0_ask_2 rfl rfl rfl ?_
  refine gw_iload_n X 4 3 dX0_ask_3 rfl rfl rfl ?_
  refine gw_callVi X 7 [.int x1, .int x2, .int x3] (mt_X0_isAsking rfl) lk_X0_241 ydv_X0_isAsking gX_cl0 gX_at0 rfl rfl rfl dX0_ask_4 rfl rfl rfl ?_
  refine gw_if_neB X 13 10 dX0_ask_7 rfl rfl (fun z => ?_) (fun z => ?_)
  · replace hp := gw_t z hp
    refine gw_aload_n X 14 0 dX0_ask_13 rfl rfl rfl ?_
    obtain ⟨σ1, h2, hp⟩ := gw_b1_some hp
    refine gw_callVv X 17 [] (mt_X0_asItIs h2) lk_X0_190 ydv_X0_asItIs gX_cl0 gX_at0 rfl rfl rfl dX0_ask_14 rfl rfl rfl ?_
    refine gw_aload_n X 18 0 dX0_ask_17 rfl rfl rfl ?_
    refine gw_iload_n X 19 1 dX0_ask_18 rfl rfl rfl ?_
    refine gw_iload_n X 20 2 dX0_ask_19 rfl rfl rfl ?_
    refine gw_iload_n X 21 3 dX0_ask_20 rfl rfl rfl ?_
    obtain ⟨r3, h4, hp⟩ := gw_b1_some hp
    refine gw_callVi X 24 [.int x1, .int x2, .int x3] (mt_X0_whyNot h4) lk_X0_245 ydv_X0_whyNot gX_cl0 gX_at0 rfl rfl rfl dX0_ask_21 rfl rfl rfl ?_
    refine gw_if_ne X 39 27 dX0_ask_24 rfl rfl (fun z => ?_) (fun z => ?_)
    · replace hp := gw_f z hp
      refine gw_bipush X 41 dX0_ask_39 rfl gw_cb_m5 ?_
      cases hp
      exact gw_iret X dX0_ask_41 (fun _ h => ⟨rfl, h⟩) (Nat.le_of_ble_eq_true rfl) (Nat.le_of_ble_eq_true rfl)
    · replace hp := gw_t z hp
      refine gw_aload_n X 28 0 dX0_ask_27 rfl rfl rfl ?_
      refine gX_g0_0 X 31 q280 dX0_ask_28 rfl ?_
      refine gX_g1_3N X 34 q196 dX0_ask_31 rfl ?_
      refine gw_bipush X 36 dX0_ask_34 rfl gw_cb_40 ?_
      refine gw_icmp_ne X 42 39 dX0_ask_36 rfl rfl (fun z => ?_) (fun z => ?_)
      · replace hp := gw_f z hp
        refine gw_aload_n X 43 0 dX0_ask_42 rfl rfl rfl ?_
        refine gw_iconst X 44 dX0_ask_43 rfl gw_ci_0 ?_
        refine gw_iload_n X 45 1 dX0_ask_44 rfl rfl rfl ?_
        refine gw_iload_n X 46 2 dX0_ask_45 rfl rfl rfl ?_
        refine gw_iload_n X 47 3 dX0_ask_46 rfl rfl rfl ?_
        refine gw_iconst X 48 dX0_ask_47 rfl gw_ci_0 ?_
        obtain ⟨σ5, h6, hp⟩ := gw_b1_some hp
        refine gw_callVv X 51 [.int 0, .int x1, .int x2, .int x3, .int 0] (mt_X0_keeps h6) lk_X0_249 ydv_X0_keeps gX_cl0 gX_at0 rfl rfl rfl dX0_ask_48 rfl rfl rfl ?_
        refine gw_aload_n X 52 0 dX0_ask_51 rfl rfl rfl ?_
        refine gw_iload_n X 53 2 dX0_ask_52 rfl rfl rfl ?_
        refine gw_callVi X 56 [.int x2] (mt_X0_limit rfl) lk_X0_205 ydv_X0_limit gX_cl0 gX_at0 rfl rfl rfl dX0_ask_53 rfl rfl rfl ?_
        refine gw_aload_n X 57 0 dX0_ask_56 rfl rfl rfl ?_
        refine gX_g0_10 X 60 q305 dX0_ask_57 rfl ?_
        refine gw_iload_n X 61 2 dX0_ask_60 rfl rfl rfl ?_
        obtain ⟨hc, hp⟩ := gw_ck_some hp
        refine gX_l4 X 62 (Int32.toNatClampNeg x2) hc rfl dX0_ask_61 rfl ?_
        refine gw_isub X 63 dX0_ask_62 rfl ?_
        cases hp
        exact gw_iret X dX0_ask_63 (fun _ h => ⟨rfl, h⟩) (Nat.le_of_ble_eq_true rfl) (Nat.le_of_ble_eq_true rfl)
      · replace hp := gw_t z hp
        refine gw_bipush X 41 dX0_ask_39 rfl gw_cb_m5 ?_
        cases hp
        exact gw_iret X dX0_ask_41 (fun _ h => ⟨rfl, h⟩) (Nat.le_of_ble_eq_true rfl) (Nat.le_of_ble_eq_true rfl)
  · replace hp := gw_f z hp
    refine gw_bipush X 12 dX0_ask_10 rfl gw_cb_m2 ?_
    cases hp
    exact gw_iret X dX0_ask_12 (fun _ h => ⟨rfl, h⟩) (Nat.le_of_ble_eq_true rfl) (Nat.le_of_ble_eq_true rfl)
abbrev rm_X0_give : Room := { frames := 16, cells := 390, slots := 1040, locals := 821 }
def fx_X0_give (σ : gw_S) (x1 : Int32) (x2 : Int32) (x3 : Int32) (x4 : Int32) : Option (Int32 × gw_S) := (if fx_X0_isPerson σ (Int32.toInt64 x1) = true then (if fx_X0_isPerson σ (Int32.toInt64 x2) = true then (if fx_X0_isPerson σ (Int32.toInt64 x3) = true then (if fx_X0_isPerson σ (Int32.toInt64 x4) = true then gw_b1 (fx_X0_asItIs σ) (fun σ1 => gw_b1 (fx_X0_whyNot σ1 x1 x2 (-1 : Int32)) (fun r3 => (if r3 = 0 then gw_ck x3 8 ((if (σ1.1 3 (Int32.toNatClampNeg x3)) = x2 then (if (σ1.1 1 3) = (40 : Int32) then some ((-5), σ1) else gw_b1 (fx_X0_keeps σ1 (1 : Int32) x1 x2 x3 x4) (fun σ5 => some (0, σ5))) else some ((-5), σ1))) else some ((-5), σ1)))) else some ((-2), σ)) else some ((-2), σ)) else some ((-2), σ)) else some ((-2), σ))
set_option maxHeartbeats 4000000 in
theorem mt_X0_give {l : Launch} {D : gw_D} {a : Nat → Nat} {Wr : va_W → Prop} {σ : gw_S} {x1 : Int32} {x2 : Int32} {x3 : Int32} {x4 : Int32} {res : Int32 × gw_S} (hp : fx_X0_give σ x1 x2 x3 x4 = some res) : gw_Ct D l yX0_give cX0_give 5 (some .int) rm_X0_give [.ref (a 0), .int x1, .int x2, .int x3, .int x4] (gw_st (wX D a σ) (gw_sp (gK D a) Wr)) (gw_pI res.1 (gw_st (wX D a res.2) (gw_sp (gK D a) Wr))) := by
  refine gw_ct (own := RX0) [(0, .ref (a 0)), (1, .int x1), (2, .int x2), (3, .int x3), (4, .int x4)] (by decide) rfl (Nat.le_of_ble_eq_true rfl) rfl ?_
  intro E X
  unfold fx_X0_give at hp
  refine gw_aload_n X 1 0 dX0_give_0 rfl rfl rfl ?_
  refine gw_iload_n X 2 1 dX0_give_1 rfl rfl rfl ?_
  refine gw_i2l X 3 dX0_give_2 rfl ?_
  refine gw_callVi X 6 [.long (Int32.toInt64 x1)] (mt_X0_isPerson rfl) lk_X0_186 ydv_X0_isPerson gX_cl0 gX_at0 rfl rfl rfl dX0_give_3 rfl rfl rfl ?_
  refine gw_if_eqB X 37 9 dX0_give_6 rfl rfl (fun z => ?_) (fun z => ?_)
  · replace hp := gw_f z hp
    refine gw_bipush X 39 dX0_give_37 rfl gw_cb_m2 ?_
    cases hp
    exact gw_iret X dX0_give_39 (fun _ h => ⟨rfl, h⟩) (Nat.le_of_ble_eq_true rfl) (Nat.le_of_ble_eq_true rfl)
  · replace hp := gw_t z hp
    refine gw_aload_n X 10 0 dX0_give_9 rfl rfl rfl ?_
    refine gw_iload_n X 11 2 dX0_give_10 rfl rfl rfl ?_
    refine gw_i2l X 12 dX0_give_11 rfl ?_
    refine gw_callVi X 15 [.long (Int32.toInt64 x2)] (mt_X0_isPerson rfl) lk_X0_186 ydv_X0_isPerson gX_cl0 gX_at0 rfl rfl rfl dX0_give_12 rfl rfl rfl ?_
    refine gw_if_eqB X 37 18 dX0_give_15 rfl rfl (fun z => ?_) (fun z => ?_)
    · replace hp := gw_f z hp
      refine gw_bipush X 39 dX0_give_37 rfl gw_cb_m2 ?_
      cases hp
      exact gw_iret X dX0_give_39 (fun _ h => ⟨rfl, h⟩) (Nat.le_of_ble_eq_true rfl) (Nat.le_of_ble_eq_true rfl)
    · replace hp := gw_t z hp
      refine gw_aload_n X 19 0 dX0_give_18 rfl rfl rfl ?_
      refine gw_iload_n X 20 3 dX0_give_19 rfl rfl rfl ?_
      refine gw_i2l X 21 dX0_give_20 rfl ?_
      refine gw_callVi X 24 [.long (Int32.toInt64 x3)] (mt_X0_isPerson rfl) lk_X0_186 ydv_X0_isPerson gX_cl0 gX_at0 rfl rfl rfl dX0_give_21 rfl rfl rfl ?_
      refine gw_if_eqB X 37 27 dX0_give_24 rfl rfl (fun z => ?_) (fun z => ?_)
      · replace hp := gw_f z hp
        refine gw_bipush X 39 dX0_give_37 rfl gw_cb_m2 ?_
        cases hp
        exact gw_iret X dX0_give_39 (fun _ h => ⟨rfl, h⟩) (Nat.le_of_ble_eq_true rfl) (Nat.le_of_ble_eq_true rfl)
      · replace hp := gw_t z hp
        refine gw_aload_n X 28 0 dX0_give_27 rfl rfl rfl ?_
        refine gw_iload X 30 4 dX0_give_28 rfl rfl ?_
        refine gw_i2l X 31 dX0_give_30 rfl ?_
        refine gw_callVi X 34 [.long (Int32.toInt64 x4)] (mt_X0_isPerson rfl) lk_X0_186 ydv_X0_isPerson gX_cl0 gX_at0 rfl rfl rfl dX0_give_31 rfl rfl rfl ?_
        refine gw_if_neB X 40 37 dX0_give_34 rfl rfl (fun z => ?_) (fun z => ?_)
        · replace hp := gw_t z hp
          refine gw_aload_n X 41 0 dX0_give_40 rfl rfl rfl ?_
          obtain ⟨σ1, h2, hp⟩ := gw_b1_some hp
          refine gw_callVv X 44 [] (mt_X0_asItIs h2) lk_X0_190 ydv_X0_asItIs gX_cl0 gX_at0 rfl rfl rfl dX0_give_41 rfl rfl rfl ?_
          refine gw_aload_n X 45 0 dX0_give_44 rfl rfl rfl ?_
          refine gw_iload_n X 46 1 dX0_give_45 rfl rfl rfl ?_
          refine gw_iload_n X 47 2 dX0_give_46 rfl rfl rfl ?_
          refine gw_iconst X 48 dX0_give_47 rfl gw_ci_m1 ?_
          obtain ⟨r3, h4, hp⟩ := gw_b1_some hp
          refine gw_callVi X 51 [.int x1, .int x2, .int (-1)] (mt_X0_whyNot h4) lk_X0_245 ydv_X0_whyNot gX_cl0 gX_at0 rfl rfl rfl dX0_give_48 rfl rfl rfl ?_
          refine gw_if_ne X 76 54 dX0_give_51 rfl rfl (fun z => ?_) (fun z => ?_)
          · replace hp := gw_f z hp
            refine gw_bipush X 78 dX0_give_76 rfl gw_cb_m5 ?_
            cases hp
            exact gw_iret X dX0_give_78 (fun _ h => ⟨rfl, h⟩) (Nat.le_of_ble_eq_true rfl) (Nat.le_of_ble_eq_true rfl)
          · replace hp := gw_t z hp
            refine gw_aload_n X 55 0 dX0_give_54 rfl rfl rfl ?_
            refine gX_g0_9 X 58 q303 dX0_give_55 rfl ?_
            refine gw_iload_n X 59 3 dX0_give_58 rfl rfl rfl ?_
            obtain ⟨hc, hp⟩ := gw_ck_some hp
            refine gX_l3 X 60 (Int32.toNatClampNeg x3) hc rfl dX0_give_59 rfl ?_
            refine gw_iload_n X 61 2 dX0_give_60 rfl rfl rfl ?_
            refine gw_icmp_ne X 76 64 dX0_give_61 rfl rfl (fun z => ?_) (fun z => ?_)
            · replace hp := gw_f z hp
              refine gw_bipush X 78 dX0_give_76 rfl gw_cb_m5 ?_
              cases hp
              exact gw_iret X dX0_give_78 (fun _ h => ⟨rfl, h⟩) (Nat.le_of_ble_eq_true rfl) (Nat.le_of_ble_eq_true rfl)
            · replace hp := gw_t z hp
              refine gw_aload_n X 65 0 dX0_give_64 rfl rfl rfl ?_
              refine gX_g0_0 X 68 q280 dX0_give_65 rfl ?_
              refine gX_g1_3N X 71 q196 dX0_give_68 rfl ?_
              refine gw_bipush X 73 dX0_give_71 rfl gw_cb_40 ?_
              refine gw_icmp_ne X 79 76 dX0_give_73 rfl rfl (fun z => ?_) (fun z => ?_)
              · replace hp := gw_f z hp
                refine gw_aload_n X 80 0 dX0_give_79 rfl rfl rfl ?_
                refine gw_iconst X 81 dX0_give_80 rfl gw_ci_1 ?_
                refine gw_iload_n X 82 1 dX0_give_81 rfl rfl rfl ?_
                refine gw_iload_n X 83 2 dX0_give_82 rfl rfl rfl ?_
                refine gw_iload_n X 84 3 dX0_give_83 rfl rfl rfl ?_
                refine gw_iload X 86 4 dX0_give_84 rfl rfl ?_
                obtain ⟨σ5, h6, hp⟩ := gw_b1_some hp
                refine gw_callVv X 89 [.int 1, .int x1, .int x2, .int x3, .int x4] (mt_X0_keeps h6) lk_X0_249 ydv_X0_keeps gX_cl0 gX_at0 rfl rfl rfl dX0_give_86 rfl rfl rfl ?_
                refine gw_iconst X 90 dX0_give_89 rfl gw_ci_0 ?_
                cases hp
                exact gw_iret X dX0_give_90 (fun _ h => ⟨rfl, h⟩) (Nat.le_of_ble_eq_true rfl) (Nat.le_of_ble_eq_true rfl)
              · replace hp := gw_t z hp
                refine gw_bipush X 78 dX0_give_76 rfl gw_cb_m5 ?_
                cases hp
                exact gw_iret X dX0_give_78 (fun _ h => ⟨rfl, h⟩) (Nat.le_of_ble_eq_true rfl) (Nat.le_of_ble_eq_true rfl)
        · replace hp := gw_f z hp
          refine gw_bipush X 39 dX0_give_37 rfl gw_cb_m2 ?_
          cases hp
          exact gw_iret X dX0_give_39 (fun _ h => ⟨rfl, h⟩) (Nat.le_of_ble_eq_true rfl) (Nat.le_of_ble_eq_true rfl)
abbrev rm_X0_swap : Room := { frames := 16, cells := 390, slots := 1040, locals := 821 }
def fx_X0_swap (σ : gw_S) (x1 : Int32) (x2 : Int32) : Option (Int32 × gw_S) := (if fx_X0_isPerson σ (Int32.toInt64 x1) = true then (if fx_X0_isPerson σ (Int32.toInt64 x2) = true then (if x1 = x2 then some ((-2), σ) else gw_b1 (fx_X0_asItIs σ) (fun σ1 => gw_ck x1 8 ((if (σ1.1 3 (Int32.toNatClampNeg x1)) = (-1 : Int32) then some ((-5), σ1) else gw_ck x2 8 ((if (σ1.1 3 (Int32.toNatClampNeg x2)) = (-1 : Int32) then some ((-5), σ1) else gw_ck x1 8 (gw_ck x2 8 ((if (σ1.1 3 (Int32.toNatClampNeg x1)) = (σ1.1 3 (Int32.toNatClampNeg x2)) then some ((-5), σ1) else (if (σ1.1 1 3) = (40 : Int32) then some ((-5), σ1) else gw_b1 (fx_X0_keeps σ1 (2 : Int32) x1 x2 (0 : Int32) (0 : Int32)) (fun σ3 => some (0, σ3)))))))))))) else some ((-2), σ)) else some ((-2), σ))
set_option maxHeartbeats 4000000 in
theorem mt_X0_swap {l : Launch} {D : gw_D} {a : Nat → Nat} {Wr : va_W → Prop} {σ : gw_S} {x1 : Int32} {x2 : Int32} {res : Int32 × gw_S} (hp : fx_X0_swap σ x1 x2 = some res) : gw_Ct D l yX0_swap cX0_swap 3 (some .int) rm_X0_swap [.ref (a 0), .int x1, .int x2] (gw_st (wX D a σ) (gw_sp (gK D a) Wr)) (gw_pI res.1 (gw_st (wX D a res.2) (gw_sp (gK D a) Wr))) := by
  refine gw_ct (own := RX0) [(0, .ref (a 0)), (1, .int x1), (2, .int x2)] (by decide) rfl (Nat.le_of_ble_eq_true rfl) rfl ?_
  intro E X
  unfold fx_X0_swap at hp
  refine gw_aload_n X 1 0 dX0_swap_0 rfl rfl rfl ?_
  refine gw_iload_n X 2 1 dX0_swap_1 rfl rfl rfl ?_
  refine gw_i2l X 3 dX0_swap_2 rfl ?_
  refine gw_callVi X 6 [.long (Int32.toInt64 x1)] (mt_X0_isPerson rfl) lk_X0_186 ydv_X0_isPerson gX_cl0 gX_at0 rfl rfl rfl dX0_swap_3 rfl rfl rfl ?_
  refine gw_if_eqB X 23 9 dX0_swap_6 rfl rfl (fun z => ?_) (fun z => ?_)
  · replace hp := gw_f z hp
    refine gw_bipush X 25 dX0_swap_23 rfl gw_cb_m2 ?_
    cases hp
    exact gw_iret X dX0_swap_25 (fun _ h => ⟨rfl, h⟩) (Nat.le_of_ble_eq_true rfl) (Nat.le_of_ble_eq_true rfl)
  · replace hp := gw_t z hp
    refine gw_aload_n X 10 0 dX0_swap_9 rfl rfl rfl ?_
    refine gw_iload_n X 11 2 dX0_swap_10 rfl rfl rfl ?_
    refine gw_i2l X 12 dX0_swap_11 rfl ?_
    refine gw_callVi X 15 [.long (Int32.toInt64 x2)] (mt_X0_isPerson rfl) lk_X0_186 ydv_X0_isPerson gX_cl0 gX_at0 rfl rfl rfl dX0_swap_12 rfl rfl rfl ?_
    refine gw_if_eqB X 23 18 dX0_swap_15 rfl rfl (fun z => ?_) (fun z => ?_)
    · replace hp := gw_f z hp
      refine gw_bipush X 25 dX0_swap_23 rfl gw_cb_m2 ?_
      cases hp
      exact gw_iret X dX0_swap_25 (fun _ h => ⟨rfl, h⟩) (Nat.le_of_ble_eq_true rfl) (Nat.le_of_ble_eq_true rfl)
    · replace hp := gw_t z hp
      refine gw_iload_n X 19 1 dX0_swap_18 rfl rfl rfl ?_
      refine gw_iload_n X 20 2 dX0_swap_19 rfl rfl rfl ?_
      refine gw_icmp_ne X 26 23 dX0_swap_20 rfl rfl (fun z => ?_) (fun z => ?_)
      · replace hp := gw_f z hp
        refine gw_aload_n X 27 0 dX0_swap_26 rfl rfl rfl ?_
        obtain ⟨σ1, h2, hp⟩ := gw_b1_some hp
        refine gw_callVv X 30 [] (mt_X0_asItIs h2) lk_X0_190 ydv_X0_asItIs gX_cl0 gX_at0 rfl rfl rfl dX0_swap_27 rfl rfl rfl ?_
        refine gw_aload_n X 31 0 dX0_swap_30 rfl rfl rfl ?_
        refine gX_g0_9 X 34 q303 dX0_swap_31 rfl ?_
        refine gw_iload_n X 35 1 dX0_swap_34 rfl rfl rfl ?_
        obtain ⟨hc, hp⟩ := gw_ck_some hp
        refine gX_l3 X 36 (Int32.toNatClampNeg x1) hc rfl dX0_swap_35 rfl ?_
        refine gw_iconst X 37 dX0_swap_36 rfl gw_ci_m1 ?_
        refine gw_icmp_eq X 77 40 dX0_swap_37 rfl rfl (fun z => ?_) (fun z => ?_)
        · replace hp := gw_t z hp
          refine gw_bipush X 79 dX0_swap_77 rfl gw_cb_m5 ?_
          cases hp
          exact gw_iret X dX0_swap_79 (fun _ h => ⟨rfl, h⟩) (Nat.le_of_ble_eq_true rfl) (Nat.le_of_ble_eq_true rfl)
        · replace hp := gw_f z hp
          refine gw_aload_n X 41 0 dX0_swap_40 rfl rfl rfl ?_
          refine gX_g0_9 X 44 q303 dX0_swap_41 rfl ?_
          refine gw_iload_n X 45 2 dX0_swap_44 rfl rfl rfl ?_
          obtain ⟨hc, hp⟩ := gw_ck_some hp
          refine gX_l3 X 46 (Int32.toNatClampNeg x2) hc rfl dX0_swap_45 rfl ?_
          refine gw_iconst X 47 dX0_swap_46 rfl gw_ci_m1 ?_
          refine gw_icmp_eq X 77 50 dX0_swap_47 rfl rfl (fun z => ?_) (fun z => ?_)
          · replace hp := gw_t z hp
            refine gw_bipush X 79 dX0_swap_77 rfl gw_cb_m5 ?_
            cases hp
            exact gw_iret X dX0_swap_79 (fun _ h => ⟨rfl, h⟩) (Nat.le_of_ble_eq_true rfl) (Nat.le_of_ble_eq_true rfl)
          · replace hp := gw_f z hp
            refine gw_aload_n X 51 0 dX0_swap_50 rfl rfl rfl ?_
            refine gX_g0_9 X 54 q303 dX0_swap_51 rfl ?_
            refine gw_iload_n X 55 1 dX0_swap_54 rfl rfl rfl ?_
            obtain ⟨hc, hp⟩ := gw_ck_some hp
            refine gX_l3 X 56 (Int32.toNatClampNeg x1) hc rfl dX0_swap_55 rfl ?_
            refine gw_aload_n X 57 0 dX0_swap_56 rfl rfl rfl ?_
            refine gX_g0_9 X 60 q303 dX0_swap_57 rfl ?_
            refine gw_iload_n X 61 2 dX0_swap_60 rfl rfl rfl ?_
            obtain ⟨hc, hp⟩ := gw_ck_some hp
            refine gX_l3 X 62 (Int32.toNatClampNeg x2) hc rfl dX0_swap_61 rfl ?_
            refine gw_icmp_eq X 77 65 dX0_swap_62 rfl rfl (fun z => ?_) (fun z => ?_)
            · replace hp := gw_t z hp
              refine gw_bipush X 79 dX0_swap_77 rfl gw_cb_m5 ?_
              cases hp
              exact gw_iret X dX0_swap_79 (fun _ h => ⟨rfl, h⟩) (Nat.le_of_ble_eq_true rfl) (Nat.le_of_ble_eq_true rfl)
            · replace hp := gw_f z hp
              refine gw_aload_n X 66 0 dX0_swap_65 rfl rfl rfl ?_
              refine gX_g0_0 X 69 q280 dX0_swap_66 rfl ?_
              refine gX_g1_3N X 72 q196 dX0_swap_69 rfl ?_
              refine gw_bipush X 74 dX0_swap_72 rfl gw_cb_40 ?_
              refine gw_icmp_ne X 80 77 dX0_swap_74 rfl rfl (fun z => ?_) (fun z => ?_)
              · replace hp := gw_f z hp
                refine gw_aload_n X 81 0 dX0_swap_80 rfl rfl rfl ?_
                refine gw_iconst X 82 dX0_swap_81 rfl gw_ci_2 ?_
                refine gw_iload_n X 83 1 dX0_swap_82 rfl rfl rfl ?_
                refine gw_iload_n X 84 2 dX0_swap_83 rfl rfl rfl ?_
                refine gw_iconst X 85 dX0_swap_84 rfl gw_ci_0 ?_
                refine gw_iconst X 86 dX0_swap_85 rfl gw_ci_0 ?_
                obtain ⟨σ3, h4, hp⟩ := gw_b1_some hp
                refine gw_callVv X 89 [.int 2, .int x1, .int x2, .int 0, .int 0] (mt_X0_keeps h4) lk_X0_249 ydv_X0_keeps gX_cl0 gX_at0 rfl rfl rfl dX0_swap_86 rfl rfl rfl ?_
                refine gw_iconst X 90 dX0_swap_89 rfl gw_ci_0 ?_
                cases hp
                exact gw_iret X dX0_swap_90 (fun _ h => ⟨rfl, h⟩) (Nat.le_of_ble_eq_true rfl) (Nat.le_of_ble_eq_true rfl)
              · replace hp := gw_t z hp
                refine gw_bipush X 79 dX0_swap_77 rfl gw_cb_m5 ?_
                cases hp
                exact gw_iret X dX0_swap_79 (fun _ h => ⟨rfl, h⟩) (Nat.le_of_ble_eq_true rfl) (Nat.le_of_ble_eq_true rfl)
      · replace hp := gw_t z hp
        refine gw_bipush X 25 dX0_swap_23 rfl gw_cb_m2 ?_
        cases hp
        exact gw_iret X dX0_swap_25 (fun _ h => ⟨rfl, h⟩) (Nat.le_of_ble_eq_true rfl) (Nat.le_of_ble_eq_true rfl)
abbrev rm_X0_steal : Room := { frames := 16, cells := 390, slots := 1040, locals := 821 }
def fx_X0_steal (σ : gw_S) (x1 : Int32) (x2 : Int32) : Option (Int32 × gw_S) := (if fx_X0_isPerson σ (Int32.toInt64 x1) = true then (if fx_X0_isPerson σ (Int32.toInt64 x2) = true then gw_b1 (fx_X0_asItIs σ) (fun σ1 => gw_ck x2 8 ((if (σ1.1 3 (Int32.toNatClampNeg x2)) = (-1 : Int32) then some ((-5), σ1) else (if (σ1.1 3 (Int32.toNatClampNeg x2)) = x1 then some ((-5), σ1) else (if fx_X0_isOf (σ1.1 0 7) x2 = true then some ((-5), σ1) else (if (σ1.1 1 3) = (40 : Int32) then some ((-5), σ1) else gw_b1 (fx_X0_keeps σ1 (3 : Int32) x1 x2 (0 : Int32) (0 : Int32)) (fun σ3 => some (σ1.1 3 (Int32.toNatClampNeg x2), σ3)))))))) else some ((-2), σ)) else some ((-2), σ))
set_option maxHeartbeats 4000000 in
theorem mt_X0_steal {l : Launch} {D : gw_D} {a : Nat → Nat} {Wr : va_W → Prop} {σ : gw_S} {x1 : Int32} {x2 : Int32} {res : Int32 × gw_S} (hp : fx_X0_steal σ x1 x2 = some res) : gw_Ct D l yX0_steal cX0_steal 4 (some .int) rm_X0_steal [.ref (a 0), .int x1, .int x2] (gw_st (wX D a σ) (gw_sp (gK D a) Wr)) (gw_pI res.1 (gw_st (wX D a res.2) (gw_sp (gK D a) Wr))) := by
  refine gw_ct (own := RX0) [(0, .ref (a 0)), (1, .int x1), (2, .int x2)] (by decide) rfl (Nat.le_of_ble_eq_true rfl) rfl ?_
  intro E X
  unfold fx_X0_steal at hp
  refine gw_aload_n X 1 0 dX0_steal_0 rfl rfl rfl ?_
  refine gw_iload_n X 2 1 dX0_steal_1 rfl rfl rfl ?_
  refine gw_i2l X 3 dX0_steal_2 rfl ?_
  refine gw_callVi X 6 [.long (Int32.toInt64 x1)] (mt_X0_isPerson rfl) lk_X0_186 ydv_X0_isPerson gX_cl0 gX_at0 rfl rfl rfl dX0_steal_3 rfl rfl rfl ?_
  refine gw_if_eqB X 18 9 dX0_steal_6 rfl rfl (fun z => ?_) (fun z => ?_)
  · replace hp := gw_f z hp
    refine gw_bipush X 20 dX0_steal_18 rfl gw_cb_m2 ?_
    cases hp
    exact gw_iret X dX0_steal_20 (fun _ h => ⟨rfl, h⟩) (Nat.le_of_ble_eq_true rfl) (Nat.le_of_ble_eq_true rfl)
  · replace hp := gw_t z hp
    refine gw_aload_n X 10 0 dX0_steal_9 rfl rfl rfl ?_
    refine gw_iload_n X 11 2 dX0_steal_10 rfl rfl rfl ?_
    refine gw_i2l X 12 dX0_steal_11 rfl ?_
    refine gw_callVi X 15 [.long (Int32.toInt64 x2)] (mt_X0_isPerson rfl) lk_X0_186 ydv_X0_isPerson gX_cl0 gX_at0 rfl rfl rfl dX0_steal_12 rfl rfl rfl ?_
    refine gw_if_neB X 21 18 dX0_steal_15 rfl rfl (fun z => ?_) (fun z => ?_)
    · replace hp := gw_t z hp
      refine gw_aload_n X 22 0 dX0_steal_21 rfl rfl rfl ?_
      obtain ⟨σ1, h2, hp⟩ := gw_b1_some hp
      refine gw_callVv X 25 [] (mt_X0_asItIs h2) lk_X0_190 ydv_X0_asItIs gX_cl0 gX_at0 rfl rfl rfl dX0_steal_22 rfl rfl rfl ?_
      refine gw_aload_n X 26 0 dX0_steal_25 rfl rfl rfl ?_
      refine gX_g0_9 X 29 q303 dX0_steal_26 rfl ?_
      refine gw_iload_n X 30 2 dX0_steal_29 rfl rfl rfl ?_
      obtain ⟨hc, hp⟩ := gw_ck_some hp
      refine gX_l3 X 31 (Int32.toNatClampNeg x2) hc rfl dX0_steal_30 rfl ?_
      refine gw_istore_n X 32 [(3, .int (σ1.1 3 (Int32.toNatClampNeg x2))), (0, .ref (a 0)), (1, .int x1), (2, .int x2)] dX0_steal_31 rfl rfl (by decide) rfl ?_
      refine gw_iload_n X 33 0 dX0_steal_32 rfl rfl rfl ?_
      refine gw_iconst X 34 dX0_steal_33 rfl gw_ci_m1 ?_
      refine gw_icmp_eq X 65 37 dX0_steal_34 rfl rfl (fun z => ?_) (fun z => ?_)
      · replace hp := gw_t z hp
        refine gw_bipush X 67 dX0_steal_65 rfl gw_cb_m5 ?_
        cases hp
        exact gw_iret X dX0_steal_67 (fun _ h => ⟨rfl, h⟩) (Nat.le_of_ble_eq_true rfl) (Nat.le_of_ble_eq_true rfl)
      · replace hp := gw_f z hp
        refine gw_iload_n X 38 0 dX0_steal_37 rfl rfl rfl ?_
        refine gw_iload_n X 39 2 dX0_steal_38 rfl rfl rfl ?_
        refine gw_icmp_eq X 65 42 dX0_steal_39 rfl rfl (fun z => ?_) (fun z => ?_)
        · replace hp := gw_t z hp
          refine gw_bipush X 67 dX0_steal_65 rfl gw_cb_m5 ?_
          cases hp
          exact gw_iret X dX0_steal_67 (fun _ h => ⟨rfl, h⟩) (Nat.le_of_ble_eq_true rfl) (Nat.le_of_ble_eq_true rfl)
        · replace hp := gw_f z hp
          refine gw_aload_n X 43 1 dX0_steal_42 rfl rfl rfl ?_
          refine gX_g0_7 X 46 q294 dX0_steal_43 rfl ?_
          refine gw_iload_n X 47 3 dX0_steal_46 rfl rfl rfl ?_
          refine gw_callSi X 50 [.int (σ1.1 0 7), .int x2] (mt_X0_isOf rfl) lk_X0_114 yd_X0_isOf rfl rfl rfl dX0_steal_47 rfl rfl rfl ?_
          refine gw_if_neB X 65 53 dX0_steal_50 rfl rfl (fun z => ?_) (fun z => ?_)
          · replace hp := gw_t z hp
            refine gw_bipush X 67 dX0_steal_65 rfl gw_cb_m5 ?_
            cases hp
            exact gw_iret X dX0_steal_67 (fun _ h => ⟨rfl, h⟩) (Nat.le_of_ble_eq_true rfl) (Nat.le_of_ble_eq_true rfl)
          · replace hp := gw_f z hp
            refine gw_aload_n X 54 1 dX0_steal_53 rfl rfl rfl ?_
            refine gX_g0_0 X 57 q280 dX0_steal_54 rfl ?_
            refine gX_g1_3N X 60 q196 dX0_steal_57 rfl ?_
            refine gw_bipush X 62 dX0_steal_60 rfl gw_cb_40 ?_
            refine gw_icmp_ne X 68 65 dX0_steal_62 rfl rfl (fun z => ?_) (fun z => ?_)
            · replace hp := gw_f z hp
              refine gw_aload_n X 69 1 dX0_steal_68 rfl rfl rfl ?_
              refine gw_iconst X 70 dX0_steal_69 rfl gw_ci_3 ?_
              refine gw_iload_n X 71 2 dX0_steal_70 rfl rfl rfl ?_
              refine gw_iload_n X 72 3 dX0_steal_71 rfl rfl rfl ?_
              refine gw_iconst X 73 dX0_steal_72 rfl gw_ci_0 ?_
              refine gw_iconst X 74 dX0_steal_73 rfl gw_ci_0 ?_
              obtain ⟨σ3, h4, hp⟩ := gw_b1_some hp
              refine gw_callVv X 77 [.int 3, .int x1, .int x2, .int 0, .int 0] (mt_X0_keeps h4) lk_X0_249 ydv_X0_keeps gX_cl0 gX_at0 rfl rfl rfl dX0_steal_74 rfl rfl rfl ?_
              refine gw_iload_n X 78 0 dX0_steal_77 rfl rfl rfl ?_
              cases hp
              exact gw_iret X dX0_steal_78 (fun _ h => ⟨rfl, h⟩) (Nat.le_of_ble_eq_true rfl) (Nat.le_of_ble_eq_true rfl)
            · replace hp := gw_t z hp
              refine gw_bipush X 67 dX0_steal_65 rfl gw_cb_m5 ?_
              cases hp
              exact gw_iret X dX0_steal_67 (fun _ h => ⟨rfl, h⟩) (Nat.le_of_ble_eq_true rfl) (Nat.le_of_ble_eq_true rfl)
    · replace hp := gw_f z hp
      refine gw_bipush X 20 dX0_steal_18 rfl gw_cb_m2 ?_
      cases hp
      exact gw_iret X dX0_steal_20 (fun _ h => ⟨rfl, h⟩) (Nat.le_of_ble_eq_true rfl) (Nat.le_of_ble_eq_true rfl)
abbrev rm_X0_day : Room := { frames := 16, cells := 390, slots := 1040, locals := 821 }
def fx_X0_day (σ : gw_S)  : Option (Int32 × gw_S) := (if fx_X0_isCity σ = true then (if (σ.1 1 3) = (40 : Int32) then some ((-5), σ) else gw_b1 (fx_X0_asItIs σ) (fun σ1 => gw_b1 (fx_X0_keeps σ1 (4 : Int32) (0 : Int32) (0 : Int32) (0 : Int32) (0 : Int32)) (fun σ3 => some ((σ3.1 0 5) - (1 : Int32), σ3)))) else some ((-2), σ))
set_option maxHeartbeats 4000000 in
theorem mt_X0_day {l : Launch} {D : gw_D} {a : Nat → Nat} {Wr : va_W → Prop} {σ : gw_S}  {res : Int32 × gw_S} (hp : fx_X0_day σ  = some res) : gw_Ct D l yX0_day cX0_day 1 (some .int) rm_X0_day [.ref (a 0)] (gw_st (wX D a σ) (gw_sp (gK D a) Wr)) (gw_pI res.1 (gw_st (wX D a res.2) (gw_sp (gK D a) Wr))) := by
  refine gw_ct (own := RX0) [(0, .ref (a 0))] (by decide) rfl (Nat.le_of_ble_eq_true rfl) rfl ?_
  intro E X
  unfold fx_X0_day at hp
  refine gw_aload_n X 1 0 dX0_day_0 rfl rfl rfl ?_
  refine gw_callVi X 4 [] (mt_X0_isCity rfl) lk_X0_103 ydv_X0_isCity gX_cl0 gX_at0 rfl rfl rfl dX0_day_1 rfl rfl rfl ?_
  refine gw_if_neB X 10 7 dX0_day_4 rfl rfl (fun z => ?_) (fun z => ?_)
  · replace hp := gw_t z hp
    refine gw_aload_n X 11 0 dX0_day_10 rfl rfl rfl ?_
    refine gX_g0_0 X 14 q280 dX0_day_11 rfl ?_
    refine gX_g1_3N X 17 q196 dX0_day_14 rfl ?_
    refine gw_bipush X 19 dX0_day_17 rfl gw_cb_40 ?_
    refine gw_icmp_ne X 25 22 dX0_day_19 rfl rfl (fun z => ?_) (fun z => ?_)
    · replace hp := gw_f z hp
      refine gw_aload_n X 26 0 dX0_day_25 rfl rfl rfl ?_
      obtain ⟨σ1, h2, hp⟩ := gw_b1_some hp
      refine gw_callVv X 29 [] (mt_X0_asItIs h2) lk_X0_190 ydv_X0_asItIs gX_cl0 gX_at0 rfl rfl rfl dX0_day_26 rfl rfl rfl ?_
      refine gw_aload_n X 30 0 dX0_day_29 rfl rfl rfl ?_
      refine gw_iconst X 31 dX0_day_30 rfl gw_ci_4 ?_
      refine gw_iconst X 32 dX0_day_31 rfl gw_ci_0 ?_
      refine gw_iconst X 33 dX0_day_32 rfl gw_ci_0 ?_
      refine gw_iconst X 34 dX0_day_33 rfl gw_ci_0 ?_
      refine gw_iconst X 35 dX0_day_34 rfl gw_ci_0 ?_
      obtain ⟨σ3, h4, hp⟩ := gw_b1_some hp
      refine gw_callVv X 38 [.int 4, .int 0, .int 0, .int 0, .int 0] (mt_X0_keeps h4) lk_X0_249 ydv_X0_keeps gX_cl0 gX_at0 rfl rfl rfl dX0_day_35 rfl rfl rfl ?_
      refine gw_aload_n X 39 0 dX0_day_38 rfl rfl rfl ?_
      refine gX_g0_5 X 42 q288 dX0_day_39 rfl ?_
      refine gw_iconst X 43 dX0_day_42 rfl gw_ci_1 ?_
      refine gw_isub X 44 dX0_day_43 rfl ?_
      cases hp
      exact gw_iret X dX0_day_44 (fun _ h => ⟨rfl, h⟩) (Nat.le_of_ble_eq_true rfl) (Nat.le_of_ble_eq_true rfl)
    · replace hp := gw_t z hp
      refine gw_bipush X 24 dX0_day_22 rfl gw_cb_m5 ?_
      cases hp
      exact gw_iret X dX0_day_24 (fun _ h => ⟨rfl, h⟩) (Nat.le_of_ble_eq_true rfl) (Nat.le_of_ble_eq_true rfl)
  · replace hp := gw_f z hp
    refine gw_bipush X 9 dX0_day_7 rfl gw_cb_m2 ?_
    cases hp
    exact gw_iret X dX0_day_9 (fun _ h => ⟨rfl, h⟩) (Nat.le_of_ble_eq_true rfl) (Nat.le_of_ble_eq_true rfl)
abbrev rm_X0_now : Room := { frames := 16, cells := 384, slots := 1024, locals := 821 }
def fx_X0_now (σ : gw_S) (x1 : Int32) : Option (Int32 × gw_S) := (if fx_X0_isCity σ = true then (if fx_X0_isOneOf (Int32.toInt64 x1) (4 : Int32) = true then gw_b1 (fx_X0_asItIs σ) (fun σ1 => (if x1 = 0 then some (σ1.1 0 5, σ1) else (if x1 = (1 : Int32) then some (σ1.1 0 6, σ1) else (if x1 = (2 : Int32) then some (σ1.1 0 7, σ1) else some (σ1.1 0 8, σ1))))) else some ((-2), σ)) else some ((-2), σ))
set_option maxHeartbeats 4000000 in
theorem mt_X0_now {l : Launch} {D : gw_D} {a : Nat → Nat} {Wr : va_W → Prop} {σ : gw_S} {x1 : Int32} {res : Int32 × gw_S} (hp : fx_X0_now σ x1 = some res) : gw_Ct D l yX0_now cX0_now 2 (some .int) rm_X0_now [.ref (a 0), .int x1] (gw_st (wX D a σ) (gw_sp (gK D a) Wr)) (gw_pI res.1 (gw_st (wX D a res.2) (gw_sp (gK D a) Wr))) := by
  refine gw_ct (own := RX0) [(0, .ref (a 0)), (1, .int x1)] (by decide) rfl (Nat.le_of_ble_eq_true rfl) rfl ?_
  intro E X
  unfold fx_X0_now at hp
  refine gw_aload_n X 1 0 dX0_now_0 rfl rfl rfl ?_
  refine gw_callVi X 4 [] (mt_X0_isCity rfl) lk_X0_103 ydv_X0_isCity gX_cl0 gX_at0 rfl rfl rfl dX0_now_1 rfl rfl rfl ?_
  refine gw_if_eqB X 16 7 dX0_now_4 rfl rfl (fun z => ?_) (fun z => ?_)
  · replace hp := gw_f z hp
    refine gw_bipush X 18 dX0_now_16 rfl gw_cb_m2 ?_
    cases hp
    exact gw_iret X dX0_now_18 (fun _ h => ⟨rfl, h⟩) (Nat.le_of_ble_eq_true rfl) (Nat.le_of_ble_eq_true rfl)
  · replace hp := gw_t z hp
    refine gw_iload_n X 8 1 dX0_now_7 rfl rfl rfl ?_
    refine gw_i2l X 9 dX0_now_8 rfl ?_
    refine gw_iconst X 10 dX0_now_9 rfl gw_ci_4 ?_
    refine gw_callSi X 13 [.long (Int32.toInt64 x1), .int 4] (mt_X0_isOneOf rfl) lk_X0_97 yd_X0_isOneOf rfl rfl rfl dX0_now_10 rfl rfl rfl ?_
    refine gw_if_neB X 19 16 dX0_now_13 rfl rfl (fun z => ?_) (fun z => ?_)
    · replace hp := gw_t z hp
      refine gw_aload_n X 20 0 dX0_now_19 rfl rfl rfl ?_
      obtain ⟨σ1, h2, hp⟩ := gw_b1_some hp
      refine gw_callVv X 23 [] (mt_X0_asItIs h2) lk_X0_190 ydv_X0_asItIs gX_cl0 gX_at0 rfl rfl rfl dX0_now_20 rfl rfl rfl ?_
      refine gw_iload_n X 24 1 dX0_now_23 rfl rfl rfl ?_
      refine gw_if_ne X 34 27 dX0_now_24 rfl rfl (fun z => ?_) (fun z => ?_)
      · replace hp := gw_f z hp
        refine gw_iload_n X 35 1 dX0_now_34 rfl rfl rfl ?_
        refine gw_iconst X 36 dX0_now_35 rfl gw_ci_1 ?_
        refine gw_icmp_ne X 46 39 dX0_now_36 rfl rfl (fun z => ?_) (fun z => ?_)
        · replace hp := gw_f z hp
          refine gw_iload_n X 47 1 dX0_now_46 rfl rfl rfl ?_
          refine gw_iconst X 48 dX0_now_47 rfl gw_ci_2 ?_
          refine gw_icmp_ne X 58 51 dX0_now_48 rfl rfl (fun z => ?_) (fun z => ?_)
          · replace hp := gw_f z hp
            refine gw_aload_n X 59 0 dX0_now_58 rfl rfl rfl ?_
            refine gX_g0_8 X 62 q297 dX0_now_59 rfl ?_
            cases hp
            exact gw_iret X dX0_now_62 (fun _ h => ⟨rfl, h⟩) (Nat.le_of_ble_eq_true rfl) (Nat.le_of_ble_eq_true rfl)
          · replace hp := gw_t z hp
            refine gw_aload_n X 52 0 dX0_now_51 rfl rfl rfl ?_
            refine gX_g0_7 X 55 q294 dX0_now_52 rfl ?_
            refine gw_goto X 62 dX0_now_55 rfl ?_
            cases hp
            exact gw_iret X dX0_now_62 (fun _ h => ⟨rfl, h⟩) (Nat.le_of_ble_eq_true rfl) (Nat.le_of_ble_eq_true rfl)
        · replace hp := gw_t z hp
          refine gw_aload_n X 40 0 dX0_now_39 rfl rfl rfl ?_
          refine gX_g0_6 X 43 q291 dX0_now_40 rfl ?_
          refine gw_goto X 62 dX0_now_43 rfl ?_
          cases hp
          exact gw_iret X dX0_now_62 (fun _ h => ⟨rfl, h⟩) (Nat.le_of_ble_eq_true rfl) (Nat.le_of_ble_eq_true rfl)
      · replace hp := gw_t z hp
        refine gw_aload_n X 28 0 dX0_now_27 rfl rfl rfl ?_
        refine gX_g0_5 X 31 q288 dX0_now_28 rfl ?_
        refine gw_goto X 62 dX0_now_31 rfl ?_
        cases hp
        exact gw_iret X dX0_now_62 (fun _ h => ⟨rfl, h⟩) (Nat.le_of_ble_eq_true rfl) (Nat.le_of_ble_eq_true rfl)
    · replace hp := gw_f z hp
      refine gw_bipush X 18 dX0_now_16 rfl gw_cb_m2 ?_
      cases hp
      exact gw_iret X dX0_now_18 (fun _ h => ⟨rfl, h⟩) (Nat.le_of_ble_eq_true rfl) (Nat.le_of_ble_eq_true rfl)
abbrev rm_X0_own : Room := { frames := 16, cells := 384, slots := 1024, locals := 821 }
def fx_X0_own (σ : gw_S)  : Option (Int32 × gw_S) := (if fx_X0_isCity σ = true then gw_b1 (fx_X0_asItIs σ) (fun σ1 => gw_b1 (fx_X0_isDealt σ1) (fun r3 => (if r3 = true then gw_b1 (fx_X0_ringMany σ1) (fun r5 => some ((σ1.1 1 2) - r5, σ1)) else some ((-1), σ1)))) else some ((-2), σ))
set_option maxHeartbeats 4000000 in
theorem mt_X0_own {l : Launch} {D : gw_D} {a : Nat → Nat} {Wr : va_W → Prop} {σ : gw_S}  {res : Int32 × gw_S} (hp : fx_X0_own σ  = some res) : gw_Ct D l yX0_own cX0_own 1 (some .int) rm_X0_own [.ref (a 0)] (gw_st (wX D a σ) (gw_sp (gK D a) Wr)) (gw_pI res.1 (gw_st (wX D a res.2) (gw_sp (gK D a) Wr))) := by
  refine gw_ct (own := RX0) [(0, .ref (a 0))] (by decide) rfl (Nat.le_of_ble_eq_true rfl) rfl ?_
  intro E X
  unfold fx_X0_own at hp
  refine gw_aload_n X 1 0 dX0_own_0 rfl rfl rfl ?_
  refine gw_callVi X 4 [] (mt_X0_isCity rfl) lk_X0_103 ydv_X0_isCity gX_cl0 gX_at0 rfl rfl rfl dX0_own_1 rfl rfl rfl ?_
  refine gw_if_neB X 10 7 dX0_own_4 rfl rfl (fun z => ?_) (fun z => ?_)
  · replace hp := gw_t z hp
    refine gw_aload_n X 11 0 dX0_own_10 rfl rfl rfl ?_
    obtain ⟨σ1, h2, hp⟩ := gw_b1_some hp
    refine gw_callVv X 14 [] (mt_X0_asItIs h2) lk_X0_190 ydv_X0_asItIs gX_cl0 gX_at0 rfl rfl rfl dX0_own_11 rfl rfl rfl ?_
    refine gw_aload_n X 15 0 dX0_own_14 rfl rfl rfl ?_
    obtain ⟨r3, h4, hp⟩ := gw_b1_some hp
    refine gw_callVi X 18 [] (mt_X0_isDealt h4) lk_X0_253 ydv_X0_isDealt gX_cl0 gX_at0 rfl rfl rfl dX0_own_15 rfl rfl rfl ?_
    refine gw_if_eqB X 36 21 dX0_own_18 rfl rfl (fun z => ?_) (fun z => ?_)
    · replace hp := gw_f z hp
      refine gw_iconst X 37 dX0_own_36 rfl gw_ci_m1 ?_
      cases hp
      exact gw_iret X dX0_own_37 (fun _ h => ⟨rfl, h⟩) (Nat.le_of_ble_eq_true rfl) (Nat.le_of_ble_eq_true rfl)
    · replace hp := gw_t z hp
      refine gw_aload_n X 22 0 dX0_own_21 rfl rfl rfl ?_
      refine gX_g0_0 X 25 q280 dX0_own_22 rfl ?_
      refine gX_g1_2N X 28 q193 dX0_own_25 rfl ?_
      refine gw_aload_n X 29 0 dX0_own_28 rfl rfl rfl ?_
      obtain ⟨r5, h6, hp⟩ := gw_b1_some hp
      refine gw_callVi X 32 [] (mt_X0_ringMany h6) lk_X0_229 ydv_X0_ringMany gX_cl0 gX_at0 rfl rfl rfl dX0_own_29 rfl rfl rfl ?_
      refine gw_isub X 33 dX0_own_32 rfl ?_
      refine gw_goto X 37 dX0_own_33 rfl ?_
      cases hp
      exact gw_iret X dX0_own_37 (fun _ h => ⟨rfl, h⟩) (Nat.le_of_ble_eq_true rfl) (Nat.le_of_ble_eq_true rfl)
  · replace hp := gw_f z hp
    refine gw_bipush X 9 dX0_own_7 rfl gw_cb_m2 ?_
    cases hp
    exact gw_iret X dX0_own_9 (fun _ h => ⟨rfl, h⟩) (Nat.le_of_ble_eq_true rfl) (Nat.le_of_ble_eq_true rfl)
