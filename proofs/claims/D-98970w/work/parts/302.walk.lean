set_option maxRecDepth 100000
abbrev rm_X3_cardLine : Room := { frames := 4, cells := 0, slots := 0, locals := 88 }
def fx_X3_cardLine (σ : gw_S)  : Option (gw_S) := gw_b1 (if (σ.1 0 12) = 0 then (if (σ.1 0 8) = (2 : Int32) then gw_b1 (fx_X3_hasRead σ (1 : Int32)) (fun r2 => (if r2 ≤ (σ.1 0 10) then some σ else gw_ck (((5 : Int32) * ((32 : Int32) + (σ.1 0 10))) + (3 : Int32)) 200 ((if (σ.1 8 (Int32.toNatClampNeg (((5 : Int32) * ((32 : Int32) + (σ.1 0 10))) + (3 : Int32)))) = (-1 : Int32) then some σ else some (fx_X3_fails σ (2 : Int32)))))) else some σ) else some σ) (fun (σ1 : gw_S) => gw_b1 (fx_X3_hasRead σ1 (1 : Int32)) (fun r4 => gw_b2 (fx_X3_number_2 σ1 (0 : Int32) (r4 - (1 : Int32))) (fun r6 σ7 => gw_b1 (fx_X3_asks σ7 (555 : Int64)) (fun σ9 => gw_b1 (fx_X3_hasRead σ9 (1 : Int32)) (fun r11 => gw_b2 (fx_X3_number_2 σ9 (0 : Int32) (r11 - (1 : Int32))) (fun r13 σ14 => gw_b2 (if (σ14.1 0 12) = 0 then gw_b2 (fx_X3_takes σ14 (94424593 : Int64)) (fun r18 σ19 => (if r18 = true then some ((1 : Int32), σ19) else some ((0 : Int32), σ19))) else some ((0 : Int32), σ14)) (fun (y16 : Int32) (σ17 : gw_S) => (if fx_X3_isGood σ17 = true then gw_ck (((5 : Int32) * ((32 : Int32) + r6)) + (3 : Int32)) 200 (gw_let (gw_u σ17 8 (Int32.toNatClampNeg (((5 : Int32) * ((32 : Int32) + r6)) + (3 : Int32))) r13) (fun σ21 => gw_b1 (if y16 = 0 then some (0 : Int32) else some (1 : Int32)) (fun (y23 : Int32) => gw_ck (((5 : Int32) * ((32 : Int32) + r6)) + (4 : Int32)) 200 (some (gw_u σ21 8 (Int32.toNatClampNeg (((5 : Int32) * ((32 : Int32) + r6)) + (4 : Int32))) y23))))) else some σ17))))))))
set_option maxHeartbeats 4000000 in
theorem mt_X3_cardLine {l : Launch} {D : gw_D} {a : Nat → Nat} {Wr : va_W → Prop} {σ : gw_S}  {res : gw_S} (hp : fx_X3_cardLine σ  = some res) : gw_Ct D l yX3_cardLine cX3_cardLine 4 none rm_X3_cardLine [.ref (a 0)] (gw_st (wM D a σ) Wr) (gw_pV (gw_st (wM D a res) Wr)) := by
  refine gw_ct (own := RX3) [(0, .ref (a 0))] (by decide) rfl (Nat.le_of_ble_eq_true rfl) rfl ?_
  intro E X
  unfold fx_X3_cardLine at hp
  refine gw_aload_n X 1 0 dX3_cardLine_0 rfl rfl rfl ?_
  refine gM_g0_12 X 4 q1406 dX3_cardLine_1 rfl ?_
  obtain ⟨σ1, h26, hp⟩ := gw_b1_some hp
  have kJ : gw_W E 52 [(0, .ref (a 0))] [] (gw_st (wM D a σ1) Wr) 0 0 := by
    refine gw_aload_n X 53 0 dX3_cardLine_52 rfl rfl rfl ?_
    refine gw_iconst X 54 dX3_cardLine_53 rfl gw_ci_0 ?_
    refine gw_aload_n X 55 0 dX3_cardLine_54 rfl rfl rfl ?_
    refine gw_iconst X 56 dX3_cardLine_55 rfl gw_ci_1 ?_
    obtain ⟨r4, h5, hp⟩ := gw_b1_some hp
    refine gw_callVi X 59 [.int 1] (mt_X3_hasRead h5) lk_X3_145 ydv_X3_hasRead gM_cl0 gM_at0 rfl rfl rfl dX3_cardLine_56 rfl rfl rfl ?_
    refine gw_iconst X 60 dX3_cardLine_59 rfl gw_ci_1 ?_
    refine gw_isub X 61 dX3_cardLine_60 rfl ?_
    obtain ⟨r6, σ7, h8, hp⟩ := gw_b2_some hp
    refine gw_callVi X 64 [.int 0, .int (r4 - (1 : Int32))] (mt_X3_number_2 h8) lk_X3_134 ydv_X3_number_2 gM_cl0 gM_at0 rfl rfl rfl dX3_cardLine_61 rfl rfl rfl ?_
    refine gw_istore_n X 65 [(1, .int r6), (0, .ref (a 0))] dX3_cardLine_64 rfl rfl (by decide) rfl ?_
    refine gw_aload_n X 66 1 dX3_cardLine_65 rfl rfl rfl ?_
    refine gw_ldc2 X 69 dX3_cardLine_66 rfl q1611 ?_
    obtain ⟨σ9, h10, hp⟩ := gw_b1_some hp
    refine gw_callVv X 72 [.long 555] (mt_X3_asks h10) lk_X3_130 ydv_X3_asks gM_cl0 gM_at0 rfl rfl rfl dX3_cardLine_69 rfl rfl rfl ?_
    refine gw_aload_n X 73 1 dX3_cardLine_72 rfl rfl rfl ?_
    refine gw_iconst X 74 dX3_cardLine_73 rfl gw_ci_0 ?_
    refine gw_aload_n X 75 1 dX3_cardLine_74 rfl rfl rfl ?_
    refine gw_iconst X 76 dX3_cardLine_75 rfl gw_ci_1 ?_
    obtain ⟨r11, h12, hp⟩ := gw_b1_some hp
    refine gw_callVi X 79 [.int 1] (mt_X3_hasRead h12) lk_X3_145 ydv_X3_hasRead gM_cl0 gM_at0 rfl rfl rfl dX3_cardLine_76 rfl rfl rfl ?_
    refine gw_iconst X 80 dX3_cardLine_79 rfl gw_ci_1 ?_
    refine gw_isub X 81 dX3_cardLine_80 rfl ?_
    obtain ⟨r13, σ14, h15, hp⟩ := gw_b2_some hp
    refine gw_callVi X 84 [.int 0, .int (r11 - (1 : Int32))] (mt_X3_number_2 h15) lk_X3_134 ydv_X3_number_2 gM_cl0 gM_at0 rfl rfl rfl dX3_cardLine_81 rfl rfl rfl ?_
    refine gw_istore_n X 85 [(2, .int r13), (1, .int r6), (0, .ref (a 0))] dX3_cardLine_84 rfl rfl (by decide) rfl ?_
    refine gw_aload_n X 86 2 dX3_cardLine_85 rfl rfl rfl ?_
    refine gM_g0_12 X 89 q1406 dX3_cardLine_86 rfl ?_
    obtain ⟨y16, σ17, h25, hp⟩ := gw_b2_some hp
    have kJ : gw_W E 107 [(0, .ref (a 0)), (1, .int r6), (2, .int r13)] [.int y16] (gw_st (wM D a σ17) Wr) 0 0 := by
      refine gw_istore_n X 108 [(3, .int y16), (0, .ref (a 0)), (1, .int r6), (2, .int r13)] dX3_cardLine_107 rfl rfl (by decide) rfl ?_
      refine gw_aload_n X 109 1 dX3_cardLine_108 rfl rfl rfl ?_
      refine gw_callVi X 112 [] (mt_X3_isGood rfl) lk_X3_141 ydv_X3_isGood gM_cl0 gM_at0 rfl rfl rfl dX3_cardLine_109 rfl rfl rfl ?_
      refine gw_if_neB X 116 115 dX3_cardLine_112 rfl rfl (fun z => ?_) (fun z => ?_)
      · replace hp := gw_t z hp
        refine gw_aload_n X 117 1 dX3_cardLine_116 rfl rfl rfl ?_
        refine gM_g0_18 X 120 q1412 dX3_cardLine_117 rfl ?_
        refine gw_iconst X 121 dX3_cardLine_120 rfl gw_ci_5 ?_
        refine gw_bipush X 123 dX3_cardLine_121 rfl gw_cb_32 ?_
        refine gw_iload_n X 124 2 dX3_cardLine_123 rfl rfl rfl ?_
        refine gw_iadd X 125 dX3_cardLine_124 rfl ?_
        refine gw_imul X 126 dX3_cardLine_125 rfl ?_
        refine gw_iconst X 127 dX3_cardLine_126 rfl gw_ci_3 ?_
        refine gw_iadd X 128 dX3_cardLine_127 rfl ?_
        refine gw_iload_n X 129 3 dX3_cardLine_128 rfl rfl rfl ?_
        obtain ⟨hc, hp⟩ := gw_ck_some hp
        refine gM_s8 X 130 (Int32.toNatClampNeg (((5 : Int32) * ((32 : Int32) + r6)) + (3 : Int32))) hc rfl dX3_cardLine_129 rfl ?_
        refine gw_aload_n X 131 1 dX3_cardLine_130 rfl rfl rfl ?_
        obtain ⟨σ21, h22, hp⟩ := gw_let_some hp
        rw [← h22]
        clear h22
        refine gM_g0_18 X 134 q1412 dX3_cardLine_131 rfl ?_
        refine gw_iconst X 135 dX3_cardLine_134 rfl gw_ci_5 ?_
        refine gw_bipush X 137 dX3_cardLine_135 rfl gw_cb_32 ?_
        refine gw_iload_n X 138 2 dX3_cardLine_137 rfl rfl rfl ?_
        refine gw_iadd X 139 dX3_cardLine_138 rfl ?_
        refine gw_imul X 140 dX3_cardLine_139 rfl ?_
        refine gw_iconst X 141 dX3_cardLine_140 rfl gw_ci_4 ?_
        refine gw_iadd X 142 dX3_cardLine_141 rfl ?_
        refine gw_iload_n X 143 0 dX3_cardLine_142 rfl rfl rfl ?_
        obtain ⟨y23, h24, hp⟩ := gw_b1_some hp
        have kJ : gw_W E 151 [] [.int y23, .int (((5 : Int32) * ((32 : Int32) + r6)) + (4 : Int32)), .ref (a 8)] (gw_st (wM D a σ21) Wr) 0 0 := by
          obtain ⟨hc, hp⟩ := gw_ck_some hp
          refine gM_s8 X 152 (Int32.toNatClampNeg (((5 : Int32) * ((32 : Int32) + r6)) + (4 : Int32))) hc rfl dX3_cardLine_151 rfl ?_
          cases hp
          exact gw_vret X dX3_cardLine_152 (fun _ h => ⟨rfl, h⟩) (Nat.le_of_ble_eq_true rfl) (Nat.le_of_ble_eq_true rfl)
        clear hp
        have hp := h24
        clear h24
        refine gw_if_eq X 150 146 dX3_cardLine_143 rfl rfl (fun z => ?_) (fun z => ?_)
        · replace hp := gw_t z hp
          refine gw_iconst X 151 dX3_cardLine_150 rfl gw_ci_0 ?_
          cases hp
          exact gw_lv [] rfl kJ
        · replace hp := gw_f z hp
          refine gw_iconst X 147 dX3_cardLine_146 rfl gw_ci_1 ?_
          refine gw_goto X 151 dX3_cardLine_147 rfl ?_
          cases hp
          exact gw_lv [] rfl kJ
      · replace hp := gw_f z hp
        cases hp
        exact gw_vret X dX3_cardLine_115 (fun _ h => ⟨rfl, h⟩) (Nat.le_of_ble_eq_true rfl) (Nat.le_of_ble_eq_true rfl)
    clear hp
    have hp := h25
    clear h25
    refine gw_if_ne X 106 92 dX3_cardLine_89 rfl rfl (fun z => ?_) (fun z => ?_)
    · replace hp := gw_f z hp
      refine gw_iconst X 107 dX3_cardLine_106 rfl gw_ci_0 ?_
      cases hp
      exact gw_lv [2, 1, 0] rfl kJ
    · replace hp := gw_t z hp
      refine gw_aload_n X 93 2 dX3_cardLine_92 rfl rfl rfl ?_
      refine gw_ldc2 X 96 dX3_cardLine_93 rfl q1612 ?_
      obtain ⟨r18, σ19, h20, hp⟩ := gw_b2_some hp
      refine gw_callVi X 99 [.long 94424593] (mt_X3_takes h20) lk_X3_124 ydv_X3_takes gM_cl0 gM_at0 rfl rfl rfl dX3_cardLine_96 rfl rfl rfl ?_
      refine gw_if_eqB X 106 102 dX3_cardLine_99 rfl rfl (fun z => ?_) (fun z => ?_)
      · replace hp := gw_f z hp
        refine gw_iconst X 107 dX3_cardLine_106 rfl gw_ci_0 ?_
        cases hp
        exact gw_lv [2, 1, 0] rfl kJ
      · replace hp := gw_t z hp
        refine gw_iconst X 103 dX3_cardLine_102 rfl gw_ci_1 ?_
        refine gw_goto X 107 dX3_cardLine_103 rfl ?_
        cases hp
        exact gw_lv [2, 1, 0] rfl kJ
  clear hp
  have hp := h26
  clear h26
  refine gw_if_ne X 52 7 dX3_cardLine_4 rfl rfl (fun z => ?_) (fun z => ?_)
  · replace hp := gw_f z hp
    cases hp
    exact gw_lv [0] rfl kJ
  · replace hp := gw_t z hp
    refine gw_aload_n X 8 0 dX3_cardLine_7 rfl rfl rfl ?_
    refine gM_g0_8 X 11 q1402 dX3_cardLine_8 rfl ?_
    refine gw_iconst X 12 dX3_cardLine_11 rfl gw_ci_2 ?_
    refine gw_icmp_ne X 52 15 dX3_cardLine_12 rfl rfl (fun z => ?_) (fun z => ?_)
    · replace hp := gw_f z hp
      cases hp
      exact gw_lv [0] rfl kJ
    · replace hp := gw_t z hp
      refine gw_aload_n X 16 0 dX3_cardLine_15 rfl rfl rfl ?_
      refine gM_g0_10 X 19 q1404 dX3_cardLine_16 rfl ?_
      refine gw_aload_n X 20 0 dX3_cardLine_19 rfl rfl rfl ?_
      refine gw_iconst X 21 dX3_cardLine_20 rfl gw_ci_1 ?_
      obtain ⟨r2, h3, hp⟩ := gw_b1_some hp
      refine gw_callVi X 24 [.int 1] (mt_X3_hasRead h3) lk_X3_145 ydv_X3_hasRead gM_cl0 gM_at0 rfl rfl rfl dX3_cardLine_21 rfl rfl rfl ?_
      refine gw_icmp_ge X 52 27 dX3_cardLine_24 rfl rfl (fun z => ?_) (fun z => ?_)
      · replace hp := gw_t z hp
        cases hp
        exact gw_lv [0] rfl kJ
      · replace hp := gw_f z hp
        refine gw_aload_n X 28 0 dX3_cardLine_27 rfl rfl rfl ?_
        refine gM_g0_18 X 31 q1412 dX3_cardLine_28 rfl ?_
        refine gw_iconst X 32 dX3_cardLine_31 rfl gw_ci_5 ?_
        refine gw_bipush X 34 dX3_cardLine_32 rfl gw_cb_32 ?_
        refine gw_aload_n X 35 0 dX3_cardLine_34 rfl rfl rfl ?_
        refine gM_g0_10 X 38 q1404 dX3_cardLine_35 rfl ?_
        refine gw_iadd X 39 dX3_cardLine_38 rfl ?_
        refine gw_imul X 40 dX3_cardLine_39 rfl ?_
        refine gw_iconst X 41 dX3_cardLine_40 rfl gw_ci_3 ?_
        refine gw_iadd X 42 dX3_cardLine_41 rfl ?_
        obtain ⟨hc, hp⟩ := gw_ck_some hp
        refine gM_l8 X 43 (Int32.toNatClampNeg (((5 : Int32) * ((32 : Int32) + (σ.1 0 10))) + (3 : Int32))) hc rfl dX3_cardLine_42 rfl ?_
        refine gw_iconst X 44 dX3_cardLine_43 rfl gw_ci_m1 ?_
        refine gw_icmp_eq X 52 47 dX3_cardLine_44 rfl rfl (fun z => ?_) (fun z => ?_)
        · replace hp := gw_t z hp
          cases hp
          exact gw_lv [0] rfl kJ
        · replace hp := gw_f z hp
          refine gw_aload_n X 48 0 dX3_cardLine_47 rfl rfl rfl ?_
          refine gw_iconst X 49 dX3_cardLine_48 rfl gw_ci_2 ?_
          refine gw_callVv X 52 [.int 2] (mt_X3_fails rfl) lk_X3_127 ydv_X3_fails gM_cl0 gM_at0 rfl rfl rfl dX3_cardLine_49 rfl rfl rfl ?_
          cases hp
          exact gw_lv [0] rfl kJ
abbrev rm_X3_number : Room := { frames := 4, cells := 0, slots := 0, locals := 88 }
def fx_X3_number (σ : gw_S) (x1 : Int64) (x3 : Int32) (x4 : Int32) : Option (Int32 × gw_S) := gw_b1 (fx_X3_asks σ x1) (fun σ1 => gw_b2 (fx_X3_number_2 σ1 x3 x4) (fun r3 σ4 => some (r3, σ4)))
set_option maxHeartbeats 4000000 in
theorem mt_X3_number {l : Launch} {D : gw_D} {a : Nat → Nat} {Wr : va_W → Prop} {σ : gw_S} {x1 : Int64} {x3 : Int32} {x4 : Int32} {res : Int32 × gw_S} (hp : fx_X3_number σ x1 x3 x4 = some res) : gw_Ct D l yX3_number cX3_number 5 (some .int) rm_X3_number [.ref (a 0), .long x1, .int x3, .int x4] (gw_st (wM D a σ) Wr) (gw_pI res.1 (gw_st (wM D a res.2) Wr)) := by
  refine gw_ct (own := RX3) [(0, .ref (a 0)), (1, .long x1), (3, .int x3), (4, .int x4)] (by decide) rfl (Nat.le_of_ble_eq_true rfl) rfl ?_
  intro E X
  unfold fx_X3_number at hp
  refine gw_aload_n X 1 0 dX3_number_0 rfl rfl rfl ?_
  refine gw_lload_n X 2 1 dX3_number_1 rfl rfl rfl ?_
  obtain ⟨σ1, h2, hp⟩ := gw_b1_some hp
  refine gw_callVv X 5 [.long x1] (mt_X3_asks h2) lk_X3_130 ydv_X3_asks gM_cl0 gM_at0 rfl rfl rfl dX3_number_2 rfl rfl rfl ?_
  refine gw_aload_n X 6 0 dX3_number_5 rfl rfl rfl ?_
  refine gw_iload_n X 7 2 dX3_number_6 rfl rfl rfl ?_
  refine gw_iload X 9 3 dX3_number_7 rfl rfl ?_
  obtain ⟨r3, σ4, h5, hp⟩ := gw_b2_some hp
  refine gw_callVi X 12 [.int x3, .int x4] (mt_X3_number_2 h5) lk_X3_134 ydv_X3_number_2 gM_cl0 gM_at0 rfl rfl rfl dX3_number_9 rfl rfl rfl ?_
  cases hp
  exact gw_iret X dX3_number_12 (fun _ h => ⟨rfl, h⟩) (Nat.le_of_ble_eq_true rfl) (Nat.le_of_ble_eq_true rfl)
abbrev rm_X3_deedsHere : Room := { frames := 3, cells := 0, slots := 0, locals := 67 }
def fx_X3_deedsHere_L2  : Nat → Int32 → gw_S → Option (Int32 × gw_S)
  | 0, _, _ => none
  | n + 1, c1, σ => gw_b2 (fx_X3_number_2 σ (0 : Int32) (5 : Int32)) (fun r1 σ2 => (if fx_X3_isGood σ2 = true then (if (σ2.1 0 8) = (2 : Int32) then fx_X3_deedsHere_L2  n (c1 ||| ((1 : Int32) <<< (r1 &&& 31))) σ2 else some (c1 ||| ((1 : Int32) <<< (r1 &&& 31)), σ2)) else some (c1 ||| ((1 : Int32) <<< (r1 &&& 31)), σ2)))
def fx_X3_deedsHere (σ : gw_S)  : Option (Int32 × gw_S) := fx_X3_deedsHere_L2  1000 (0 : Int32) σ
set_option maxHeartbeats 4000000 in
theorem wk_X3_deedsHere_L2 {E : gw_E} {l : Launch} {D : gw_D} {a : Nat → Nat} {Wr : va_W → Prop} {res : Int32 × gw_S} (X : gw_X E cX3_deedsHere 2 RX3 (some .int) l D rm_X3_deedsHere (some (gw_pI res.1 (gw_st (wM D a res.2) Wr))))  : ∀ {n : Nat} {c1 : Int32} {σ : gw_S}, fx_X3_deedsHere_L2  n c1 σ = some res → gw_W E 2 [(0, .ref (a 0)), (1, .int c1)] [] (gw_st (wM D a σ) Wr) 0 0 := by
  intro n
  induction n with
  | zero =>
    intro c1 σ hp
    cases (show none = some res from hp)
  | succ n ih =>
    intro c1 σ hp
    rw [fx_X3_deedsHere_L2] at hp
    refine gw_iload_n X 3 1 dX3_deedsHere_2 rfl rfl rfl ?_
    refine gw_iconst X 4 dX3_deedsHere_3 rfl gw_ci_1 ?_
    refine gw_aload_n X 5 0 dX3_deedsHere_4 rfl rfl rfl ?_
    refine gw_iconst X 6 dX3_deedsHere_5 rfl gw_ci_0 ?_
    refine gw_iconst X 7 dX3_deedsHere_6 rfl gw_ci_5 ?_
    obtain ⟨r1, σ2, h3, hp⟩ := gw_b2_some hp
    refine gw_callVi X 10 [.int 0, .int 5] (mt_X3_number_2 h3) lk_X3_134 ydv_X3_number_2 gM_cl0 gM_at0 rfl rfl rfl dX3_deedsHere_7 rfl rfl rfl ?_
    refine gw_ishl X 11 dX3_deedsHere_10 rfl ?_
    refine gw_ior X 12 dX3_deedsHere_11 rfl ?_
    refine gw_istore_n X 13 [(1, .int (c1 ||| ((1 : Int32) <<< (r1 &&& 31)))), (0, .ref (a 0))] dX3_deedsHere_12 rfl rfl (by decide) rfl ?_
    refine gw_aload_n X 14 1 dX3_deedsHere_13 rfl rfl rfl ?_
    refine gw_callVi X 17 [] (mt_X3_isGood rfl) lk_X3_141 ydv_X3_isGood gM_cl0 gM_at0 rfl rfl rfl dX3_deedsHere_14 rfl rfl rfl ?_
    refine gw_if_eqB X 28 20 dX3_deedsHere_17 rfl rfl (fun z => ?_) (fun z => ?_)
    · replace hp := gw_f z hp
      refine gw_iload_n X 29 0 dX3_deedsHere_28 rfl rfl rfl ?_
      cases hp
      exact gw_iret X dX3_deedsHere_29 (fun _ h => ⟨rfl, h⟩) (Nat.le_of_ble_eq_true rfl) (Nat.le_of_ble_eq_true rfl)
    · replace hp := gw_t z hp
      refine gw_aload_n X 21 1 dX3_deedsHere_20 rfl rfl rfl ?_
      refine gM_g0_8 X 24 q1402 dX3_deedsHere_21 rfl ?_
      refine gw_iconst X 25 dX3_deedsHere_24 rfl gw_ci_2 ?_
      refine gw_icmp_eq X 2 28 dX3_deedsHere_25 rfl rfl (fun z => ?_) (fun z => ?_)
      · replace hp := gw_t z hp
        refine gw_lv [1, 0] rfl ?_
        exact ih hp
      · replace hp := gw_f z hp
        refine gw_iload_n X 29 0 dX3_deedsHere_28 rfl rfl rfl ?_
        cases hp
        exact gw_iret X dX3_deedsHere_29 (fun _ h => ⟨rfl, h⟩) (Nat.le_of_ble_eq_true rfl) (Nat.le_of_ble_eq_true rfl)
set_option maxHeartbeats 4000000 in
theorem mt_X3_deedsHere {l : Launch} {D : gw_D} {a : Nat → Nat} {Wr : va_W → Prop} {σ : gw_S}  {res : Int32 × gw_S} (hp : fx_X3_deedsHere σ  = some res) : gw_Ct D l yX3_deedsHere cX3_deedsHere 2 (some .int) rm_X3_deedsHere [.ref (a 0)] (gw_st (wM D a σ) Wr) (gw_pI res.1 (gw_st (wM D a res.2) Wr)) := by
  refine gw_ct (own := RX3) [(0, .ref (a 0))] (by decide) rfl (Nat.le_of_ble_eq_true rfl) rfl ?_
  intro E X
  unfold fx_X3_deedsHere at hp
  refine gw_iconst X 1 dX3_deedsHere_0 rfl gw_ci_0 ?_
  refine gw_istore_n X 2 [(1, .int 0), (0, .ref (a 0))] dX3_deedsHere_1 rfl rfl (by decide) rfl ?_
  refine gw_lv [1, 0] rfl ?_
  exact wk_X3_deedsHere_L2 X hp
abbrev rm_X3_personLine : Room := { frames := 5, cells := 0, slots := 0, locals := 112 }
def fx_X3_personLine (σ : gw_S)  : Option (gw_S) := gw_b1 (fx_X3_hasRead σ (1 : Int32)) (fun r1 => gw_b2 (fx_X3_number σ (12532058 : Int64) (1 : Int32) (999 : Int32)) (fun r3 σ4 => gw_ck ((5 : Int32) * ((32 : Int32) + r1)) 200 (gw_let (gw_u σ4 8 (Int32.toNatClampNeg ((5 : Int32) * ((32 : Int32) + r1))) r3) (fun σ6 => gw_b2 (if (σ6.1 0 12) = 0 then gw_b2 (fx_X3_takes σ6 (89821 : Int64)) (fun r10 σ11 => (if r10 = true then gw_b2 (fx_X3_deedsHere σ11) (fun r13 σ14 => some (r13, σ14)) else some ((0 : Int32), σ11))) else some ((0 : Int32), σ6)) (fun (y8 : Int32) (σ9 : gw_S) => gw_ck (((5 : Int32) * ((32 : Int32) + r1)) + (1 : Int32)) 200 (gw_let (gw_u σ9 8 (Int32.toNatClampNeg (((5 : Int32) * ((32 : Int32) + r1)) + (1 : Int32))) y8) (fun σ16 => gw_b2 (if (σ16.1 0 12) = 0 then gw_b2 (fx_X3_takes σ16 (335187793 : Int64)) (fun r20 σ21 => (if r20 = true then gw_b2 (fx_X3_deedsHere σ21) (fun r23 σ24 => some (r23, σ24)) else some ((0 : Int32), σ21))) else some ((0 : Int32), σ16)) (fun (y18 : Int32) (σ19 : gw_S) => gw_ck (((5 : Int32) * ((32 : Int32) + r1)) + (2 : Int32)) 200 (gw_let (gw_u σ19 8 (Int32.toNatClampNeg (((5 : Int32) * ((32 : Int32) + r1)) + (2 : Int32))) y18) (fun σ26 => gw_ck (((5 : Int32) * ((32 : Int32) + r1)) + (3 : Int32)) 200 (gw_let (gw_u σ26 8 (Int32.toNatClampNeg (((5 : Int32) * ((32 : Int32) + r1)) + (3 : Int32))) (-1)) (fun σ28 => gw_ck (((5 : Int32) * ((32 : Int32) + r1)) + (4 : Int32)) 200 (gw_let (gw_u σ28 8 (Int32.toNatClampNeg (((5 : Int32) * ((32 : Int32) + r1)) + (4 : Int32))) 0) (fun σ30 => gw_b1 (fx_X3_hasRead σ30 (1 : Int32)) (fun r32 => gw_b1 (fx_X3_tells σ30 (1 : Int32) (r32 + (1 : Int32))) (fun σ34 => some σ34))))))))))))))))
set_option maxHeartbeats 4000000 in
theorem mt_X3_personLine {l : Launch} {D : gw_D} {a : Nat → Nat} {Wr : va_W → Prop} {σ : gw_S}  {res : gw_S} (hp : fx_X3_personLine σ  = some res) : gw_Ct D l yX3_personLine cX3_personLine 2 none rm_X3_personLine [.ref (a 0)] (gw_st (wM D a σ) Wr) (gw_pV (gw_st (wM D a res) Wr)) := by
  refine gw_ct (own := RX3) [(0, .ref (a 0))] (by decide) rfl (Nat.le_of_ble_eq_true rfl) rfl ?_
  intro E X
  unfold fx_X3_personLine at hp
  refine gw_iconst X 1 dX3_personLine_0 rfl gw_ci_5 ?_
  refine gw_bipush X 3 dX3_personLine_1 rfl gw_cb_32 ?_
  refine gw_aload_n X 4 0 dX3_personLine_3 rfl rfl rfl ?_
  refine gw_iconst X 5 dX3_personLine_4 rfl gw_ci_1 ?_
  obtain ⟨r1, h2, hp⟩ := gw_b1_some hp
  refine gw_callVi X 8 [.int 1] (mt_X3_hasRead h2) lk_X3_145 ydv_X3_hasRead gM_cl0 gM_at0 rfl rfl rfl dX3_personLine_5 rfl rfl rfl ?_
  refine gw_iadd X 9 dX3_personLine_8 rfl ?_
  refine gw_imul X 10 dX3_personLine_9 rfl ?_
  refine gw_istore_n X 11 [(1, .int ((5 : Int32) * ((32 : Int32) + r1))), (0, .ref (a 0))] dX3_personLine_10 rfl rfl (by decide) rfl ?_
  refine gw_aload_n X 12 1 dX3_personLine_11 rfl rfl rfl ?_
  refine gM_g0_18 X 15 q1412 dX3_personLine_12 rfl ?_
  refine gw_iload_n X 16 0 dX3_personLine_15 rfl rfl rfl ?_
  refine gw_aload_n X 17 1 dX3_personLine_16 rfl rfl rfl ?_
  refine gw_ldc2 X 20 dX3_personLine_17 rfl q1599 ?_
  refine gw_iconst X 21 dX3_personLine_20 rfl gw_ci_1 ?_
  refine gw_sipush X 24 dX3_personLine_21 rfl gw_cs_999 ?_
  obtain ⟨r3, σ4, h5, hp⟩ := gw_b2_some hp
  refine gw_callVi X 27 [.long 12532058, .int 1, .int 999] (mt_X3_number h5) lk_X3_151 ydv_X3_number gM_cl0 gM_at0 rfl rfl rfl dX3_personLine_24 rfl rfl rfl ?_
  obtain ⟨hc, hp⟩ := gw_ck_some hp
  refine gM_s8 X 28 (Int32.toNatClampNeg ((5 : Int32) * ((32 : Int32) + r1))) hc rfl dX3_personLine_27 rfl ?_
  refine gw_aload_n X 29 1 dX3_personLine_28 rfl rfl rfl ?_
  obtain ⟨σ6, h7, hp⟩ := gw_let_some hp
  rw [← h7]
  clear h7
  refine gM_g0_18 X 32 q1412 dX3_personLine_29 rfl ?_
  refine gw_iload_n X 33 0 dX3_personLine_32 rfl rfl rfl ?_
  refine gw_iconst X 34 dX3_personLine_33 rfl gw_ci_1 ?_
  refine gw_iadd X 35 dX3_personLine_34 rfl ?_
  refine gw_aload_n X 36 1 dX3_personLine_35 rfl rfl rfl ?_
  refine gM_g0_12 X 39 q1406 dX3_personLine_36 rfl ?_
  obtain ⟨y8, σ9, h37, hp⟩ := gw_b2_some hp
  have kJ : gw_W E 60 [(0, .ref (a 0)), (1, .int ((5 : Int32) * ((32 : Int32) + r1)))] [.int y8, .int (((5 : Int32) * ((32 : Int32) + r1)) + (1 : Int32)), .ref (a 8)] (gw_st (wM D a σ9) Wr) 0 0 := by
    obtain ⟨hc, hp⟩ := gw_ck_some hp
    refine gM_s8 X 61 (Int32.toNatClampNeg (((5 : Int32) * ((32 : Int32) + r1)) + (1 : Int32))) hc rfl dX3_personLine_60 rfl ?_
    refine gw_aload_n X 62 0 dX3_personLine_61 rfl rfl rfl ?_
    obtain ⟨σ16, h17, hp⟩ := gw_let_some hp
    rw [← h17]
    clear h17
    refine gM_g0_18 X 65 q1412 dX3_personLine_62 rfl ?_
    refine gw_iload_n X 66 1 dX3_personLine_65 rfl rfl rfl ?_
    refine gw_iconst X 67 dX3_personLine_66 rfl gw_ci_2 ?_
    refine gw_iadd X 68 dX3_personLine_67 rfl ?_
    refine gw_aload_n X 69 0 dX3_personLine_68 rfl rfl rfl ?_
    refine gM_g0_12 X 72 q1406 dX3_personLine_69 rfl ?_
    obtain ⟨y18, σ19, h36, hp⟩ := gw_b2_some hp
    have kJ : gw_W E 93 [(0, .ref (a 0)), (1, .int ((5 : Int32) * ((32 : Int32) + r1)))] [.int y18, .int (((5 : Int32) * ((32 : Int32) + r1)) + (2 : Int32)), .ref (a 8)] (gw_st (wM D a σ19) Wr) 0 0 := by
      obtain ⟨hc, hp⟩ := gw_ck_some hp
      refine gM_s8 X 94 (Int32.toNatClampNeg (((5 : Int32) * ((32 : Int32) + r1)) + (2 : Int32))) hc rfl dX3_personLine_93 rfl ?_
      refine gw_aload_n X 95 0 dX3_personLine_94 rfl rfl rfl ?_
      obtain ⟨σ26, h27, hp⟩ := gw_let_some hp
      rw [← h27]
      clear h27
      refine gM_g0_18 X 98 q1412 dX3_personLine_95 rfl ?_
      refine gw_iload_n X 99 1 dX3_personLine_98 rfl rfl rfl ?_
      refine gw_iconst X 100 dX3_personLine_99 rfl gw_ci_3 ?_
      refine gw_iadd X 101 dX3_personLine_100 rfl ?_
      refine gw_iconst X 102 dX3_personLine_101 rfl gw_ci_m1 ?_
      obtain ⟨hc, hp⟩ := gw_ck_some hp
      refine gM_s8 X 103 (Int32.toNatClampNeg (((5 : Int32) * ((32 : Int32) + r1)) + (3 : Int32))) hc rfl dX3_personLine_102 rfl ?_
      refine gw_aload_n X 104 0 dX3_personLine_103 rfl rfl rfl ?_
      obtain ⟨σ28, h29, hp⟩ := gw_let_some hp
      rw [← h29]
      clear h29
      refine gM_g0_18 X 107 q1412 dX3_personLine_104 rfl ?_
      refine gw_iload_n X 108 1 dX3_personLine_107 rfl rfl rfl ?_
      refine gw_iconst X 109 dX3_personLine_108 rfl gw_ci_4 ?_
      refine gw_iadd X 110 dX3_personLine_109 rfl ?_
      refine gw_iconst X 111 dX3_personLine_110 rfl gw_ci_0 ?_
      obtain ⟨hc, hp⟩ := gw_ck_some hp
      refine gM_s8 X 112 (Int32.toNatClampNeg (((5 : Int32) * ((32 : Int32) + r1)) + (4 : Int32))) hc rfl dX3_personLine_111 rfl ?_
      refine gw_aload_n X 113 0 dX3_personLine_112 rfl rfl rfl ?_
      refine gw_iconst X 114 dX3_personLine_113 rfl gw_ci_1 ?_
      refine gw_aload_n X 115 0 dX3_personLine_114 rfl rfl rfl ?_
      refine gw_iconst X 116 dX3_personLine_115 rfl gw_ci_1 ?_
      obtain ⟨σ30, h31, hp⟩ := gw_let_some hp
      rw [← h31]
      clear h31
      obtain ⟨r32, h33, hp⟩ := gw_b1_some hp
      refine gw_callVi X 119 [.int 1] (mt_X3_hasRead h33) lk_X3_145 ydv_X3_hasRead gM_cl0 gM_at0 rfl rfl rfl dX3_personLine_116 rfl rfl rfl ?_
      refine gw_iconst X 120 dX3_personLine_119 rfl gw_ci_1 ?_
      refine gw_iadd X 121 dX3_personLine_120 rfl ?_
      obtain ⟨σ34, h35, hp⟩ := gw_b1_some hp
      refine gw_callVv X 124 [.int 1, .int (r32 + (1 : Int32))] (mt_X3_tells h35) lk_X3_162 ydv_X3_tells gM_cl0 gM_at0 rfl rfl rfl dX3_personLine_121 rfl rfl rfl ?_
      cases hp
      exact gw_vret X dX3_personLine_124 (fun _ h => ⟨rfl, h⟩) (Nat.le_of_ble_eq_true rfl) (Nat.le_of_ble_eq_true rfl)
    clear hp
    have hp := h36
    clear h36
    refine gw_if_ne X 92 75 dX3_personLine_72 rfl rfl (fun z => ?_) (fun z => ?_)
    · replace hp := gw_f z hp
      refine gw_iconst X 93 dX3_personLine_92 rfl gw_ci_0 ?_
      cases hp
      exact gw_lv [0, 1] rfl kJ
    · replace hp := gw_t z hp
      refine gw_aload_n X 76 0 dX3_personLine_75 rfl rfl rfl ?_
      refine gw_ldc2 X 79 dX3_personLine_76 rfl q1605 ?_
      obtain ⟨r20, σ21, h22, hp⟩ := gw_b2_some hp
      refine gw_callVi X 82 [.long 335187793] (mt_X3_takes h22) lk_X3_124 ydv_X3_takes gM_cl0 gM_at0 rfl rfl rfl dX3_personLine_79 rfl rfl rfl ?_
      refine gw_if_eqB X 92 85 dX3_personLine_82 rfl rfl (fun z => ?_) (fun z => ?_)
      · replace hp := gw_f z hp
        refine gw_iconst X 93 dX3_personLine_92 rfl gw_ci_0 ?_
        cases hp
        exact gw_lv [0, 1] rfl kJ
      · replace hp := gw_t z hp
        refine gw_aload_n X 86 0 dX3_personLine_85 rfl rfl rfl ?_
        obtain ⟨r23, σ24, h25, hp⟩ := gw_b2_some hp
        refine gw_callVi X 89 [] (mt_X3_deedsHere h25) lk_X3_156 ydv_X3_deedsHere gM_cl0 gM_at0 rfl rfl rfl dX3_personLine_86 rfl rfl rfl ?_
        refine gw_goto X 93 dX3_personLine_89 rfl ?_
        cases hp
        exact gw_lv [0, 1] rfl kJ
  clear hp
  have hp := h37
  clear h37
  refine gw_if_ne X 59 42 dX3_personLine_39 rfl rfl (fun z => ?_) (fun z => ?_)
  · replace hp := gw_f z hp
    refine gw_iconst X 60 dX3_personLine_59 rfl gw_ci_0 ?_
    cases hp
    exact gw_lv [1, 0] rfl kJ
  · replace hp := gw_t z hp
    refine gw_aload_n X 43 1 dX3_personLine_42 rfl rfl rfl ?_
    refine gw_ldc2 X 46 dX3_personLine_43 rfl q1600 ?_
    obtain ⟨r10, σ11, h12, hp⟩ := gw_b2_some hp
    refine gw_callVi X 49 [.long 89821] (mt_X3_takes h12) lk_X3_124 ydv_X3_takes gM_cl0 gM_at0 rfl rfl rfl dX3_personLine_46 rfl rfl rfl ?_
    refine gw_if_eqB X 59 52 dX3_personLine_49 rfl rfl (fun z => ?_) (fun z => ?_)
    · replace hp := gw_f z hp
      refine gw_iconst X 60 dX3_personLine_59 rfl gw_ci_0 ?_
      cases hp
      exact gw_lv [1, 0] rfl kJ
    · replace hp := gw_t z hp
      refine gw_aload_n X 53 1 dX3_personLine_52 rfl rfl rfl ?_
      obtain ⟨r13, σ14, h15, hp⟩ := gw_b2_some hp
      refine gw_callVi X 56 [] (mt_X3_deedsHere h15) lk_X3_156 ydv_X3_deedsHere gM_cl0 gM_at0 rfl rfl rfl dX3_personLine_53 rfl rfl rfl ?_
      refine gw_goto X 60 dX3_personLine_56 rfl ?_
      cases hp
      exact gw_lv [1, 0] rfl kJ
abbrev rm_X3_line : Room := { frames := 6, cells := 0, slots := 0, locals := 133 }
def fx_X3_line (σ : gw_S)  : Option (gw_S) := (if fx_X3_is σ (232608281 : Int64) = true then gw_b1 (fx_X3_hasRead σ (1 : Int32)) (fun r5 => gw_b1 (if r5 = (8 : Int32) then some (fx_X3_fails σ (3 : Int32)) else some σ) (fun (σ7 : gw_S) => (if (σ7.1 0 12) = 0 then gw_b1 (fx_X3_next σ7) (fun σ8 => gw_b1 (fx_X3_personLine σ8) (fun σ10 => some σ10)) else some σ7))) else gw_b1 (fx_X3_asks σ (60268 : Int64)) (fun σ1 => gw_b1 (fx_X3_cardLine σ1) (fun σ3 => some σ3)))
set_option maxHeartbeats 4000000 in
theorem mt_X3_line {l : Launch} {D : gw_D} {a : Nat → Nat} {Wr : va_W → Prop} {σ : gw_S}  {res : gw_S} (hp : fx_X3_line σ  = some res) : gw_Ct D l yX3_line cX3_line 1 none rm_X3_line [.ref (a 0)] (gw_st (wM D a σ) Wr) (gw_pV (gw_st (wM D a res) Wr)) := by
  refine gw_ct (own := RX3) [(0, .ref (a 0))] (by decide) rfl (Nat.le_of_ble_eq_true rfl) rfl ?_
  intro E X
  unfold fx_X3_line at hp
  refine gw_aload_n X 1 0 dX3_line_0 rfl rfl rfl ?_
  refine gw_ldc2 X 4 dX3_line_1 rfl q1590 ?_
  refine gw_callVi X 7 [.long 232608281] (mt_X3_is rfl) lk_X3_117 ydv_X3_is gM_cl0 gM_at0 rfl rfl rfl dX3_line_4 rfl rfl rfl ?_
  refine gw_if_eqB X 44 10 dX3_line_7 rfl rfl (fun z => ?_) (fun z => ?_)
  · replace hp := gw_f z hp
    refine gw_aload_n X 45 0 dX3_line_44 rfl rfl rfl ?_
    refine gw_ldc2 X 48 dX3_line_45 rfl q1606 ?_
    obtain ⟨σ1, h2, hp⟩ := gw_b1_some hp
    refine gw_callVv X 51 [.long 60268] (mt_X3_asks h2) lk_X3_130 ydv_X3_asks gM_cl0 gM_at0 rfl rfl rfl dX3_line_48 rfl rfl rfl ?_
    refine gw_aload_n X 52 0 dX3_line_51 rfl rfl rfl ?_
    obtain ⟨σ3, h4, hp⟩ := gw_b1_some hp
    refine gw_callVv X 55 [] (mt_X3_cardLine h4) lk_X3_177 ydv_X3_cardLine gM_cl0 gM_at0 rfl rfl rfl dX3_line_52 rfl rfl rfl ?_
    cases hp
    exact gw_vret X dX3_line_55 (fun _ h => ⟨rfl, h⟩) (Nat.le_of_ble_eq_true rfl) (Nat.le_of_ble_eq_true rfl)
  · replace hp := gw_t z hp
    refine gw_aload_n X 11 0 dX3_line_10 rfl rfl rfl ?_
    refine gw_iconst X 12 dX3_line_11 rfl gw_ci_1 ?_
    obtain ⟨r5, h6, hp⟩ := gw_b1_some hp
    refine gw_callVi X 15 [.int 1] (mt_X3_hasRead h6) lk_X3_145 ydv_X3_hasRead gM_cl0 gM_at0 rfl rfl rfl dX3_line_12 rfl rfl rfl ?_
    refine gw_bipush X 17 dX3_line_15 rfl gw_cb_8 ?_
    obtain ⟨σ7, h12, hp⟩ := gw_b1_some hp
    have kJ : gw_W E 25 [(0, .ref (a 0))] [] (gw_st (wM D a σ7) Wr) 0 0 := by
      refine gw_aload_n X 26 0 dX3_line_25 rfl rfl rfl ?_
      refine gM_g0_12 X 29 q1406 dX3_line_26 rfl ?_
      refine gw_if_eq X 33 32 dX3_line_29 rfl rfl (fun z => ?_) (fun z => ?_)
      · replace hp := gw_t z hp
        refine gw_aload_n X 34 0 dX3_line_33 rfl rfl rfl ?_
        obtain ⟨σ8, h9, hp⟩ := gw_b1_some hp
        refine gw_callVv X 37 [] (mt_X3_next h9) lk_X3_121 ydv_X3_next gM_cl0 gM_at0 rfl rfl rfl dX3_line_34 rfl rfl rfl ?_
        refine gw_aload_n X 38 0 dX3_line_37 rfl rfl rfl ?_
        obtain ⟨σ10, h11, hp⟩ := gw_b1_some hp
        refine gw_callVv X 41 [] (mt_X3_personLine h11) lk_X3_172 ydv_X3_personLine gM_cl0 gM_at0 rfl rfl rfl dX3_line_38 rfl rfl rfl ?_
        refine gw_goto X 55 dX3_line_41 rfl ?_
        cases hp
        exact gw_vret X dX3_line_55 (fun _ h => ⟨rfl, h⟩) (Nat.le_of_ble_eq_true rfl) (Nat.le_of_ble_eq_true rfl)
      · replace hp := gw_f z hp
        cases hp
        exact gw_vret X dX3_line_32 (fun _ h => ⟨rfl, h⟩) (Nat.le_of_ble_eq_true rfl) (Nat.le_of_ble_eq_true rfl)
    clear hp
    have hp := h12
    clear h12
    refine gw_icmp_ne X 25 20 dX3_line_17 rfl rfl (fun z => ?_) (fun z => ?_)
    · replace hp := gw_f z hp
      cases hp
      exact gw_lv [0] rfl kJ
    · replace hp := gw_t z hp
      refine gw_aload_n X 21 0 dX3_line_20 rfl rfl rfl ?_
      refine gw_iconst X 22 dX3_line_21 rfl gw_ci_3 ?_
      refine gw_callVv X 25 [.int 3] (mt_X3_fails rfl) lk_X3_127 ydv_X3_fails gM_cl0 gM_at0 rfl rfl rfl dX3_line_22 rfl rfl rfl ?_
      cases hp
      exact gw_lv [0] rfl kJ
abbrev rm_X3_ends : Room := { frames := 2, cells := 0, slots := 0, locals := 44 }
def fx_X3_ends (σ : gw_S)  : Option (gw_S) := gw_b1 (if (σ.1 0 8) = (3 : Int32) then some σ else some (fx_X3_fails σ (1 : Int32))) (fun (σ1 : gw_S) => (if (σ1.1 0 12) = 0 then gw_b1 (fx_X3_next σ1) (fun σ2 => some σ2) else some σ1))
set_option maxHeartbeats 4000000 in
theorem mt_X3_ends {l : Launch} {D : gw_D} {a : Nat → Nat} {Wr : va_W → Prop} {σ : gw_S}  {res : gw_S} (hp : fx_X3_ends σ  = some res) : gw_Ct D l yX3_ends cX3_ends 1 none rm_X3_ends [.ref (a 0)] (gw_st (wM D a σ) Wr) (gw_pV (gw_st (wM D a res) Wr)) := by
  refine gw_ct (own := RX3) [(0, .ref (a 0))] (by decide) rfl (Nat.le_of_ble_eq_true rfl) rfl ?_
  intro E X
  unfold fx_X3_ends at hp
  refine gw_aload_n X 1 0 dX3_ends_0 rfl rfl rfl ?_
  refine gM_g0_8 X 4 q1402 dX3_ends_1 rfl ?_
  refine gw_iconst X 5 dX3_ends_4 rfl gw_ci_3 ?_
  obtain ⟨σ1, h4, hp⟩ := gw_b1_some hp
  have kJ : gw_W E 13 [(0, .ref (a 0))] [] (gw_st (wM D a σ1) Wr) 0 0 := by
    refine gw_aload_n X 14 0 dX3_ends_13 rfl rfl rfl ?_
    refine gM_g0_12 X 17 q1406 dX3_ends_14 rfl ?_
    refine gw_if_ne X 24 20 dX3_ends_17 rfl rfl (fun z => ?_) (fun z => ?_)
    · replace hp := gw_f z hp
      cases hp
      exact gw_vret X dX3_ends_24 (fun _ h => ⟨rfl, h⟩) (Nat.le_of_ble_eq_true rfl) (Nat.le_of_ble_eq_true rfl)
    · replace hp := gw_t z hp
      refine gw_aload_n X 21 0 dX3_ends_20 rfl rfl rfl ?_
      obtain ⟨σ2, h3, hp⟩ := gw_b1_some hp
      refine gw_callVv X 24 [] (mt_X3_next h3) lk_X3_121 ydv_X3_next gM_cl0 gM_at0 rfl rfl rfl dX3_ends_21 rfl rfl rfl ?_
      cases hp
      exact gw_vret X dX3_ends_24 (fun _ h => ⟨rfl, h⟩) (Nat.le_of_ble_eq_true rfl) (Nat.le_of_ble_eq_true rfl)
  clear hp
  have hp := h4
  clear h4
  refine gw_icmp_eq X 13 8 dX3_ends_5 rfl rfl (fun z => ?_) (fun z => ?_)
  · replace hp := gw_t z hp
    cases hp
    exact gw_lv [0] rfl kJ
  · replace hp := gw_f z hp
    refine gw_aload_n X 9 0 dX3_ends_8 rfl rfl rfl ?_
    refine gw_iconst X 10 dX3_ends_9 rfl gw_ci_1 ?_
    refine gw_callVv X 13 [.int 1] (mt_X3_fails rfl) lk_X3_127 ydv_X3_fails gM_cl0 gM_at0 rfl rfl rfl dX3_ends_10 rfl rfl rfl ?_
    cases hp
    exact gw_lv [0] rfl kJ
abbrev rm_X3_isOver : Room := { frames := 0, cells := 0, slots := 0, locals := 0 }
def fx_X3_isOver (σ : gw_S)  : Option (gw_S) := gw_let (gw_u σ 0 6 0) (fun σ1 => gw_let (gw_u σ1 0 14 (σ1.1 0 12)) (fun σ3 => gw_b1 (if (σ3.1 0 12) = 0 then some (-1 : Int32) else some (σ3.1 0 13)) (fun (y5 : Int32) => some (gw_u σ3 0 15 y5))))
set_option maxHeartbeats 4000000 in
theorem mt_X3_isOver {l : Launch} {D : gw_D} {a : Nat → Nat} {Wr : va_W → Prop} {σ : gw_S}  {res : gw_S} (hp : fx_X3_isOver σ  = some res) : gw_Ct D l yX3_isOver cX3_isOver 1 none rm_X3_isOver [.ref (a 0)] (gw_st (wM D a σ) Wr) (gw_pV (gw_st (wM D a res) Wr)) := by
  refine gw_ct (own := RX3) [(0, .ref (a 0))] (by decide) rfl (Nat.le_of_ble_eq_true rfl) rfl ?_
  intro E X
  unfold fx_X3_isOver at hp
  refine gw_aload_n X 1 0 dX3_isOver_0 rfl rfl rfl ?_
  refine gw_iconst X 2 dX3_isOver_1 rfl gw_ci_0 ?_
  refine gM_p0_6 X 5 q1400 dX3_isOver_2 rfl ?_
  refine gw_aload_n X 6 0 dX3_isOver_5 rfl rfl rfl ?_
  refine gw_aload_n X 7 0 dX3_isOver_6 rfl rfl rfl ?_
  obtain ⟨σ1, h2, hp⟩ := gw_let_some hp
  rw [← h2]
  clear h2
  refine gM_g0_12 X 10 q1406 dX3_isOver_7 rfl ?_
  refine gM_p0_14 X 13 q1408 dX3_isOver_10 rfl ?_
  refine gw_aload_n X 14 0 dX3_isOver_13 rfl rfl rfl ?_
  refine gw_aload_n X 15 0 dX3_isOver_14 rfl rfl rfl ?_
  obtain ⟨σ3, h4, hp⟩ := gw_let_some hp
  rw [← h4]
  clear h4
  refine gM_g0_12 X 18 q1406 dX3_isOver_15 rfl ?_
  obtain ⟨y5, h6, hp⟩ := gw_b1_some hp
  have kJ : gw_W E 29 [] [.int y5, .ref (a 0)] (gw_st (wM D a σ3) Wr) 0 0 := by
    refine gM_p0_15 X 32 q1409 dX3_isOver_29 rfl ?_
    cases hp
    exact gw_vret X dX3_isOver_32 (fun _ h => ⟨rfl, h⟩) (Nat.le_of_ble_eq_true rfl) (Nat.le_of_ble_eq_true rfl)
  clear hp
  have hp := h6
  clear h6
  refine gw_if_ne X 25 21 dX3_isOver_18 rfl rfl (fun z => ?_) (fun z => ?_)
  · replace hp := gw_f z hp
    refine gw_aload_n X 26 0 dX3_isOver_25 rfl rfl rfl ?_
    refine gM_g0_13 X 29 q1407 dX3_isOver_26 rfl ?_
    cases hp
    exact gw_lv [] rfl kJ
  · replace hp := gw_t z hp
    refine gw_iconst X 22 dX3_isOver_21 rfl gw_ci_m1 ?_
    refine gw_goto X 29 dX3_isOver_22 rfl ?_
    cases hp
    exact gw_lv [] rfl kJ
abbrev rm_X3_copyRow_6 : Room := { frames := 0, cells := 0, slots := 0, locals := 0 }
def fx_X3_copyRow_6_L3 (v1 : Int32) (v2 : Int32) (v3 : Int32) : Nat → Int32 → gw_S → Option (gw_S)
  | 0, _, _ => none
  | n + 1, c4, σ => (if v1 ≤ c4 then some σ else gw_ck ((v1 * v2) + c4) 5 (gw_ck ((v1 * v3) + c4) 5 (fx_X3_copyRow_6_L3 v1 v2 v3 n (c4 + 1) (gw_u σ 6 (Int32.toNatClampNeg ((v1 * v3) + c4)) (σ.1 6 (Int32.toNatClampNeg ((v1 * v2) + c4)))))))
def fx_X3_copyRow_6 (σ : gw_S) (x1 : Int32) (x2 : Int32) (x3 : Int32) : Option (gw_S) := fx_X3_copyRow_6_L3 x1 x2 x3 1000 (0 : Int32) σ
set_option maxHeartbeats 4000000 in
theorem wk_X3_copyRow_6_L3 {E : gw_E} {l : Launch} {D : gw_D} {a : Nat → Nat} {Wr : va_W → Prop} {res : gw_S} (X : gw_X E cX3_copyRow 5 RX3 none l D rm_X3_copyRow_6 (some (gw_pV (gw_st (wM D a res) Wr)))) {v1 : Int32} {v2 : Int32} {v3 : Int32} : ∀ {n : Nat} {c4 : Int32} {σ : gw_S}, fx_X3_copyRow_6_L3 v1 v2 v3 n c4 σ = some res → gw_W E 3 [(0, .ref (a 6)), (1, .int v1), (2, .int v2), (3, .int v3), (4, .int c4)] [] (gw_st (wM D a σ) Wr) 0 0 := by
  intro n
  induction n with
  | zero =>
    intro c4 σ hp
    cases (show none = some res from hp)
  | succ n ih =>
    intro c4 σ hp
    rw [fx_X3_copyRow_6_L3] at hp
    refine gw_iload X 5 4 dX3_copyRow_3 rfl rfl ?_
    refine gw_iload_n X 6 1 dX3_copyRow_5 rfl rfl rfl ?_
    refine gw_icmp_ge X 31 9 dX3_copyRow_6 rfl rfl (fun z => ?_) (fun z => ?_)
    · replace hp := gw_t z hp
      cases hp
      exact gw_vret X dX3_copyRow_31 (fun _ h => ⟨rfl, h⟩) (Nat.le_of_ble_eq_true rfl) (Nat.le_of_ble_eq_true rfl)
    · replace hp := gw_f z hp
      refine gw_aload_n X 10 0 dX3_copyRow_9 rfl rfl rfl ?_
      refine gw_iload_n X 11 1 dX3_copyRow_10 rfl rfl rfl ?_
      refine gw_iload_n X 12 3 dX3_copyRow_11 rfl rfl rfl ?_
      refine gw_imul X 13 dX3_copyRow_12 rfl ?_
      refine gw_iload X 15 4 dX3_copyRow_13 rfl rfl ?_
      refine gw_iadd X 16 dX3_copyRow_15 rfl ?_
      refine gw_aload_n X 17 0 dX3_copyRow_16 rfl rfl rfl ?_
      refine gw_iload_n X 18 1 dX3_copyRow_17 rfl rfl rfl ?_
      refine gw_iload_n X 19 2 dX3_copyRow_18 rfl rfl rfl ?_
      refine gw_imul X 20 dX3_copyRow_19 rfl ?_
      refine gw_iload X 22 4 dX3_copyRow_20 rfl rfl ?_
      refine gw_iadd X 23 dX3_copyRow_22 rfl ?_
      obtain ⟨hc, hp⟩ := gw_ck_some hp
      refine gM_l6 X 24 (Int32.toNatClampNeg ((v1 * v2) + c4)) hc rfl dX3_copyRow_23 rfl ?_
      obtain ⟨hc, hp⟩ := gw_ck_some hp
      refine gM_s6 X 25 (Int32.toNatClampNeg ((v1 * v3) + c4)) hc rfl dX3_copyRow_24 rfl ?_
      refine gw_iinc X 28 4 [(4, .int (c4 + 1)), (0, .ref (a 6)), (1, .int v1), (2, .int v2), (3, .int v3)] dX3_copyRow_25 rfl rfl gw_ci_1 (by decide) rfl ?_
      refine gw_goto X 3 dX3_copyRow_28 rfl ?_
      refine gw_lv [1, 2, 3, 4, 0] rfl ?_
      exact ih hp
set_option maxHeartbeats 4000000 in
theorem mt_X3_copyRow_6 {l : Launch} {D : gw_D} {a : Nat → Nat} {Wr : va_W → Prop} {σ : gw_S} {x1 : Int32} {x2 : Int32} {x3 : Int32} {res : gw_S} (hp : fx_X3_copyRow_6 σ x1 x2 x3 = some res) : gw_Ct D l yX3_copyRow cX3_copyRow 5 none rm_X3_copyRow_6 [.ref (a 6), .int x1, .int x2, .int x3] (gw_st (wM D a σ) Wr) (gw_pV (gw_st (wM D a res) Wr)) := by
  refine gw_ct (own := RX3) [(0, .ref (a 6)), (1, .int x1), (2, .int x2), (3, .int x3)] (by decide) rfl (Nat.le_of_ble_eq_true rfl) rfl ?_
  intro E X
  unfold fx_X3_copyRow_6 at hp
  refine gw_iconst X 1 dX3_copyRow_0 rfl gw_ci_0 ?_
  refine gw_istore X 3 [(4, .int 0), (0, .ref (a 6)), (1, .int x1), (2, .int x2), (3, .int x3)] dX3_copyRow_1 rfl (by decide) rfl ?_
  refine gw_lv [1, 2, 3, 4, 0] rfl ?_
  exact wk_X3_copyRow_6_L3 X hp
abbrev rm_X3_copyRow_7 : Room := { frames := 0, cells := 0, slots := 0, locals := 0 }
def fx_X3_copyRow_7_L3 (v1 : Int32) (v2 : Int32) (v3 : Int32) : Nat → Int32 → gw_S → Option (gw_S)
  | 0, _, _ => none
  | n + 1, c4, σ => (if v1 ≤ c4 then some σ else gw_ck ((v1 * v2) + c4) 15 (gw_ck ((v1 * v3) + c4) 15 (fx_X3_copyRow_7_L3 v1 v2 v3 n (c4 + 1) (gw_u σ 7 (Int32.toNatClampNeg ((v1 * v3) + c4)) (σ.1 7 (Int32.toNatClampNeg ((v1 * v2) + c4)))))))
def fx_X3_copyRow_7 (σ : gw_S) (x1 : Int32) (x2 : Int32) (x3 : Int32) : Option (gw_S) := fx_X3_copyRow_7_L3 x1 x2 x3 1000 (0 : Int32) σ
set_option maxHeartbeats 4000000 in
theorem wk_X3_copyRow_7_L3 {E : gw_E} {l : Launch} {D : gw_D} {a : Nat → Nat} {Wr : va_W → Prop} {res : gw_S} (X : gw_X E cX3_copyRow 5 RX3 none l D rm_X3_copyRow_7 (some (gw_pV (gw_st (wM D a res) Wr)))) {v1 : Int32} {v2 : Int32} {v3 : Int32} : ∀ {n : Nat} {c4 : Int32} {σ : gw_S}, fx_X3_copyRow_7_L3 v1 v2 v3 n c4 σ = some res → gw_W E 3 [(0, .ref (a 7)), (1, .int v1), (2, .int v2), (3, .int v3), (4, .int c4)] [] (gw_st (wM D a σ) Wr) 0 0 := by
  intro n
  induction n with
  | zero =>
    intro c4 σ hp
    cases (show none = some res from hp)
  | succ n ih =>
    intro c4 σ hp
    rw [fx_X3_copyRow_7_L3] at hp
    refine gw_iload X 5 4 dX3_copyRow_3 rfl rfl ?_
    refine gw_iload_n X 6 1 dX3_copyRow_5 rfl rfl rfl ?_
    refine gw_icmp_ge X 31 9 dX3_copyRow_6 rfl rfl (fun z => ?_) (fun z => ?_)
    · replace hp := gw_t z hp
      cases hp
      exact gw_vret X dX3_copyRow_31 (fun _ h => ⟨rfl, h⟩) (Nat.le_of_ble_eq_true rfl) (Nat.le_of_ble_eq_true rfl)
    · replace hp := gw_f z hp
      refine gw_aload_n X 10 0 dX3_copyRow_9 rfl rfl rfl ?_
      refine gw_iload_n X 11 1 dX3_copyRow_10 rfl rfl rfl ?_
      refine gw_iload_n X 12 3 dX3_copyRow_11 rfl rfl rfl ?_
      refine gw_imul X 13 dX3_copyRow_12 rfl ?_
      refine gw_iload X 15 4 dX3_copyRow_13 rfl rfl ?_
      refine gw_iadd X 16 dX3_copyRow_15 rfl ?_
      refine gw_aload_n X 17 0 dX3_copyRow_16 rfl rfl rfl ?_
      refine gw_iload_n X 18 1 dX3_copyRow_17 rfl rfl rfl ?_
      refine gw_iload_n X 19 2 dX3_copyRow_18 rfl rfl rfl ?_
      refine gw_imul X 20 dX3_copyRow_19 rfl ?_
      refine gw_iload X 22 4 dX3_copyRow_20 rfl rfl ?_
      refine gw_iadd X 23 dX3_copyRow_22 rfl ?_
      obtain ⟨hc, hp⟩ := gw_ck_some hp
      refine gM_l7 X 24 (Int32.toNatClampNeg ((v1 * v2) + c4)) hc rfl dX3_copyRow_23 rfl ?_
      obtain ⟨hc, hp⟩ := gw_ck_some hp
      refine gM_s7 X 25 (Int32.toNatClampNeg ((v1 * v3) + c4)) hc rfl dX3_copyRow_24 rfl ?_
      refine gw_iinc X 28 4 [(4, .int (c4 + 1)), (0, .ref (a 7)), (1, .int v1), (2, .int v2), (3, .int v3)] dX3_copyRow_25 rfl rfl gw_ci_1 (by decide) rfl ?_
      refine gw_goto X 3 dX3_copyRow_28 rfl ?_
      refine gw_lv [1, 2, 3, 4, 0] rfl ?_
      exact ih hp
set_option maxHeartbeats 4000000 in
theorem mt_X3_copyRow_7 {l : Launch} {D : gw_D} {a : Nat → Nat} {Wr : va_W → Prop} {σ : gw_S} {x1 : Int32} {x2 : Int32} {x3 : Int32} {res : gw_S} (hp : fx_X3_copyRow_7 σ x1 x2 x3 = some res) : gw_Ct D l yX3_copyRow cX3_copyRow 5 none rm_X3_copyRow_7 [.ref (a 7), .int x1, .int x2, .int x3] (gw_st (wM D a σ) Wr) (gw_pV (gw_st (wM D a res) Wr)) := by
  refine gw_ct (own := RX3) [(0, .ref (a 7)), (1, .int x1), (2, .int x2), (3, .int x3)] (by decide) rfl (Nat.le_of_ble_eq_true rfl) rfl ?_
  intro E X
  unfold fx_X3_copyRow_7 at hp
  refine gw_iconst X 1 dX3_copyRow_0 rfl gw_ci_0 ?_
  refine gw_istore X 3 [(4, .int 0), (0, .ref (a 7)), (1, .int x1), (2, .int x2), (3, .int x3)] dX3_copyRow_1 rfl (by decide) rfl ?_
  refine gw_lv [1, 2, 3, 4, 0] rfl ?_
  exact wk_X3_copyRow_7_L3 X hp
abbrev rm_X3_copyRow_8 : Room := { frames := 0, cells := 0, slots := 0, locals := 0 }
def fx_X3_copyRow_8_L3 (v1 : Int32) (v2 : Int32) (v3 : Int32) : Nat → Int32 → gw_S → Option (gw_S)
  | 0, _, _ => none
  | n + 1, c4, σ => (if v1 ≤ c4 then some σ else gw_ck ((v1 * v2) + c4) 200 (gw_ck ((v1 * v3) + c4) 200 (fx_X3_copyRow_8_L3 v1 v2 v3 n (c4 + 1) (gw_u σ 8 (Int32.toNatClampNeg ((v1 * v3) + c4)) (σ.1 8 (Int32.toNatClampNeg ((v1 * v2) + c4)))))))
def fx_X3_copyRow_8 (σ : gw_S) (x1 : Int32) (x2 : Int32) (x3 : Int32) : Option (gw_S) := fx_X3_copyRow_8_L3 x1 x2 x3 1000 (0 : Int32) σ
set_option maxHeartbeats 4000000 in
theorem wk_X3_copyRow_8_L3 {E : gw_E} {l : Launch} {D : gw_D} {a : Nat → Nat} {Wr : va_W → Prop} {res : gw_S} (X : gw_X E cX3_copyRow 5 RX3 none l D rm_X3_copyRow_8 (some (gw_pV (gw_st (wM D a res) Wr)))) {v1 : Int32} {v2 : Int32} {v3 : Int32} : ∀ {n : Nat} {c4 : Int32} {σ : gw_S}, fx_X3_copyRow_8_L3 v1 v2 v3 n c4 σ = some res → gw_W E 3 [(0, .ref (a 8)), (1, .int v1), (2, .int v2), (3, .int v3), (4, .int c4)] [] (gw_st (wM D a σ) Wr) 0 0 := by
  intro n
  induction n with
  | zero =>
    intro c4 σ hp
    cases (show none = some res from hp)
  | succ n ih =>
    intro c4 σ hp
    rw [fx_X3_copyRow_8_L3] at hp
    refine gw_iload X 5 4 dX3_copyRow_3 rfl rfl ?_
    refine gw_iload_n X 6 1 dX3_copyRow_5 rfl rfl rfl ?_
    refine gw_icmp_ge X 31 9 dX3_copyRow_6 rfl rfl (fun z => ?_) (fun z => ?_)
    · replace hp := gw_t z hp
      cases hp
      exact gw_vret X dX3_copyRow_31 (fun _ h => ⟨rfl, h⟩) (Nat.le_of_ble_eq_true rfl) (Nat.le_of_ble_eq_true rfl)
    · replace hp := gw_f z hp
      refine gw_aload_n X 10 0 dX3_copyRow_9 rfl rfl rfl ?_
      refine gw_iload_n X 11 1 dX3_copyRow_10 rfl rfl rfl ?_
      refine gw_iload_n X 12 3 dX3_copyRow_11 rfl rfl rfl ?_
      refine gw_imul X 13 dX3_copyRow_12 rfl ?_
      refine gw_iload X 15 4 dX3_copyRow_13 rfl rfl ?_
      refine gw_iadd X 16 dX3_copyRow_15 rfl ?_
      refine gw_aload_n X 17 0 dX3_copyRow_16 rfl rfl rfl ?_
      refine gw_iload_n X 18 1 dX3_copyRow_17 rfl rfl rfl ?_
      refine gw_iload_n X 19 2 dX3_copyRow_18 rfl rfl rfl ?_
      refine gw_imul X 20 dX3_copyRow_19 rfl ?_
      refine gw_iload X 22 4 dX3_copyRow_20 rfl rfl ?_
      refine gw_iadd X 23 dX3_copyRow_22 rfl ?_
      obtain ⟨hc, hp⟩ := gw_ck_some hp
      refine gM_l8 X 24 (Int32.toNatClampNeg ((v1 * v2) + c4)) hc rfl dX3_copyRow_23 rfl ?_
      obtain ⟨hc, hp⟩ := gw_ck_some hp
      refine gM_s8 X 25 (Int32.toNatClampNeg ((v1 * v3) + c4)) hc rfl dX3_copyRow_24 rfl ?_
      refine gw_iinc X 28 4 [(4, .int (c4 + 1)), (0, .ref (a 8)), (1, .int v1), (2, .int v2), (3, .int v3)] dX3_copyRow_25 rfl rfl gw_ci_1 (by decide) rfl ?_
      refine gw_goto X 3 dX3_copyRow_28 rfl ?_
      refine gw_lv [1, 2, 3, 4, 0] rfl ?_
      exact ih hp
set_option maxHeartbeats 4000000 in
theorem mt_X3_copyRow_8 {l : Launch} {D : gw_D} {a : Nat → Nat} {Wr : va_W → Prop} {σ : gw_S} {x1 : Int32} {x2 : Int32} {x3 : Int32} {res : gw_S} (hp : fx_X3_copyRow_8 σ x1 x2 x3 = some res) : gw_Ct D l yX3_copyRow cX3_copyRow 5 none rm_X3_copyRow_8 [.ref (a 8), .int x1, .int x2, .int x3] (gw_st (wM D a σ) Wr) (gw_pV (gw_st (wM D a res) Wr)) := by
  refine gw_ct (own := RX3) [(0, .ref (a 8)), (1, .int x1), (2, .int x2), (3, .int x3)] (by decide) rfl (Nat.le_of_ble_eq_true rfl) rfl ?_
  intro E X
  unfold fx_X3_copyRow_8 at hp
  refine gw_iconst X 1 dX3_copyRow_0 rfl gw_ci_0 ?_
  refine gw_istore X 3 [(4, .int 0), (0, .ref (a 8)), (1, .int x1), (2, .int x2), (3, .int x3)] dX3_copyRow_1 rfl (by decide) rfl ?_
  refine gw_lv [1, 2, 3, 4, 0] rfl ?_
  exact wk_X3_copyRow_8_L3 X hp
abbrev rm_X3_copyRow_9 : Room := { frames := 0, cells := 0, slots := 0, locals := 0 }
def fx_X3_copyRow_9_L3 (v1 : Int32) (v2 : Int32) (v3 : Int32) : Nat → Int32 → gw_S → Option (gw_S)
  | 0, _, _ => none
  | n + 1, c4, σ => (if v1 ≤ c4 then some σ else gw_ck ((v1 * v2) + c4) 1000 (gw_ck ((v1 * v3) + c4) 1000 (fx_X3_copyRow_9_L3 v1 v2 v3 n (c4 + 1) (gw_u σ 9 (Int32.toNatClampNeg ((v1 * v3) + c4)) (σ.1 9 (Int32.toNatClampNeg ((v1 * v2) + c4)))))))
def fx_X3_copyRow_9 (σ : gw_S) (x1 : Int32) (x2 : Int32) (x3 : Int32) : Option (gw_S) := fx_X3_copyRow_9_L3 x1 x2 x3 1000 (0 : Int32) σ
set_option maxHeartbeats 4000000 in
theorem wk_X3_copyRow_9_L3 {E : gw_E} {l : Launch} {D : gw_D} {a : Nat → Nat} {Wr : va_W → Prop} {res : gw_S} (X : gw_X E cX3_copyRow 5 RX3 none l D rm_X3_copyRow_9 (some (gw_pV (gw_st (wM D a res) Wr)))) {v1 : Int32} {v2 : Int32} {v3 : Int32} : ∀ {n : Nat} {c4 : Int32} {σ : gw_S}, fx_X3_copyRow_9_L3 v1 v2 v3 n c4 σ = some res → gw_W E 3 [(0, .ref (a 9)), (1, .int v1), (2, .int v2), (3, .int v3), (4, .int c4)] [] (gw_st (wM D a σ) Wr) 0 0 := by
  intro n
  induction n with
  | zero =>
    intro c4 σ hp
    cases (show none = some res from hp)
  | succ n ih =>
    intro c4 σ hp
    rw [fx_X3_copyRow_9_L3] at hp
    refine gw_iload X 5 4 dX3_copyRow_3 rfl rfl ?_
    refine gw_iload_n X 6 1 dX3_copyRow_5 rfl rfl rfl ?_
    refine gw_icmp_ge X 31 9 dX3_copyRow_6 rfl rfl (fun z => ?_) (fun z => ?_)
    · replace hp := gw_t z hp
      cases hp
      exact gw_vret X dX3_copyRow_31 (fun _ h => ⟨rfl, h⟩) (Nat.le_of_ble_eq_true rfl) (Nat.le_of_ble_eq_true rfl)
    · replace hp := gw_f z hp
      refine gw_aload_n X 10 0 dX3_copyRow_9 rfl rfl rfl ?_
      refine gw_iload_n X 11 1 dX3_copyRow_10 rfl rfl rfl ?_
      refine gw_iload_n X 12 3 dX3_copyRow_11 rfl rfl rfl ?_
      refine gw_imul X 13 dX3_copyRow_12 rfl ?_
      refine gw_iload X 15 4 dX3_copyRow_13 rfl rfl ?_
      refine gw_iadd X 16 dX3_copyRow_15 rfl ?_
      refine gw_aload_n X 17 0 dX3_copyRow_16 rfl rfl rfl ?_
      refine gw_iload_n X 18 1 dX3_copyRow_17 rfl rfl rfl ?_
      refine gw_iload_n X 19 2 dX3_copyRow_18 rfl rfl rfl ?_
      refine gw_imul X 20 dX3_copyRow_19 rfl ?_
      refine gw_iload X 22 4 dX3_copyRow_20 rfl rfl ?_
      refine gw_iadd X 23 dX3_copyRow_22 rfl ?_
      obtain ⟨hc, hp⟩ := gw_ck_some hp
      refine gM_l9 X 24 (Int32.toNatClampNeg ((v1 * v2) + c4)) hc rfl dX3_copyRow_23 rfl ?_
      obtain ⟨hc, hp⟩ := gw_ck_some hp
      refine gM_s9 X 25 (Int32.toNatClampNeg ((v1 * v3) + c4)) hc rfl dX3_copyRow_24 rfl ?_
      refine gw_iinc X 28 4 [(4, .int (c4 + 1)), (0, .ref (a 9)), (1, .int v1), (2, .int v2), (3, .int v3)] dX3_copyRow_25 rfl rfl gw_ci_1 (by decide) rfl ?_
      refine gw_goto X 3 dX3_copyRow_28 rfl ?_
      refine gw_lv [1, 2, 3, 4, 0] rfl ?_
      exact ih hp
set_option maxHeartbeats 4000000 in
theorem mt_X3_copyRow_9 {l : Launch} {D : gw_D} {a : Nat → Nat} {Wr : va_W → Prop} {σ : gw_S} {x1 : Int32} {x2 : Int32} {x3 : Int32} {res : gw_S} (hp : fx_X3_copyRow_9 σ x1 x2 x3 = some res) : gw_Ct D l yX3_copyRow cX3_copyRow 5 none rm_X3_copyRow_9 [.ref (a 9), .int x1, .int x2, .int x3] (gw_st (wM D a σ) Wr) (gw_pV (gw_st (wM D a res) Wr)) := by
  refine gw_ct (own := RX3) [(0, .ref (a 9)), (1, .int x1), (2, .int x2), (3, .int x3)] (by decide) rfl (Nat.le_of_ble_eq_true rfl) rfl ?_
  intro E X
  unfold fx_X3_copyRow_9 at hp
  refine gw_iconst X 1 dX3_copyRow_0 rfl gw_ci_0 ?_
  refine gw_istore X 3 [(4, .int 0), (0, .ref (a 9)), (1, .int x1), (2, .int x2), (3, .int x3)] dX3_copyRow_1 rfl (by decide) rfl ?_
  refine gw_lv [1, 2, 3, 4, 0] rfl ?_
  exact wk_X3_copyRow_9_L3 X hp
abbrev rm_X3_copyCity : Room := { frames := 1, cells := 0, slots := 0, locals := 24 }
def fx_X3_copyCity (σ : gw_S) (x1 : Int32) (x2 : Int32) : Option (gw_S) := gw_b1 (fx_X3_copyRow_6 σ (1 : Int32) x1 x2) (fun σ1 => gw_b1 (fx_X3_copyRow_7 σ1 (3 : Int32) x1 x2) (fun σ3 => gw_b1 (fx_X3_copyRow_8 σ3 (40 : Int32) x1 x2) (fun σ5 => gw_b1 (fx_X3_copyRow_9 σ5 (200 : Int32) x1 x2) (fun σ7 => some σ7))))
set_option maxHeartbeats 4000000 in
theorem mt_X3_copyCity {l : Launch} {D : gw_D} {a : Nat → Nat} {Wr : va_W → Prop} {σ : gw_S} {x1 : Int32} {x2 : Int32} {res : gw_S} (hp : fx_X3_copyCity σ x1 x2 = some res) : gw_Ct D l yX3_copyCity cX3_copyCity 3 none rm_X3_copyCity [.ref (a 0), .int x1, .int x2] (gw_st (wM D a σ) Wr) (gw_pV (gw_st (wM D a res) Wr)) := by
  refine gw_ct (own := RX3) [(0, .ref (a 0)), (1, .int x1), (2, .int x2)] (by decide) rfl (Nat.le_of_ble_eq_true rfl) rfl ?_
  intro E X
  unfold fx_X3_copyCity at hp
  refine gw_aload_n X 1 0 dX3_copyCity_0 rfl rfl rfl ?_
  refine gM_g0_16 X 4 q1410 dX3_copyCity_1 rfl ?_
  refine gw_iconst X 5 dX3_copyCity_4 rfl gw_ci_1 ?_
  refine gw_iload_n X 6 1 dX3_copyCity_5 rfl rfl rfl ?_
  refine gw_iload_n X 7 2 dX3_copyCity_6 rfl rfl rfl ?_
  obtain ⟨σ1, h2, hp⟩ := gw_b1_some hp
  refine gw_callSv X 10 [.ref (a 6), .int 1, .int x1, .int x2] (mt_X3_copyRow_6 h2) lk_X3_202 yd_X3_copyRow rfl rfl rfl dX3_copyCity_7 rfl rfl rfl ?_
  refine gw_aload_n X 11 0 dX3_copyCity_10 rfl rfl rfl ?_
  refine gM_g0_17 X 14 q1411 dX3_copyCity_11 rfl ?_
  refine gw_iconst X 15 dX3_copyCity_14 rfl gw_ci_3 ?_
  refine gw_iload_n X 16 1 dX3_copyCity_15 rfl rfl rfl ?_
  refine gw_iload_n X 17 2 dX3_copyCity_16 rfl rfl rfl ?_
  obtain ⟨σ3, h4, hp⟩ := gw_b1_some hp
  refine gw_callSv X 20 [.ref (a 7), .int 3, .int x1, .int x2] (mt_X3_copyRow_7 h4) lk_X3_202 yd_X3_copyRow rfl rfl rfl dX3_copyCity_17 rfl rfl rfl ?_
  refine gw_aload_n X 21 0 dX3_copyCity_20 rfl rfl rfl ?_
  refine gM_g0_18 X 24 q1412 dX3_copyCity_21 rfl ?_
  refine gw_bipush X 26 dX3_copyCity_24 rfl gw_cb_40 ?_
  refine gw_iload_n X 27 1 dX3_copyCity_26 rfl rfl rfl ?_
  refine gw_iload_n X 28 2 dX3_copyCity_27 rfl rfl rfl ?_
  obtain ⟨σ5, h6, hp⟩ := gw_b1_some hp
  refine gw_callSv X 31 [.ref (a 8), .int 40, .int x1, .int x2] (mt_X3_copyRow_8 h6) lk_X3_202 yd_X3_copyRow rfl rfl rfl dX3_copyCity_28 rfl rfl rfl ?_
  refine gw_aload_n X 32 0 dX3_copyCity_31 rfl rfl rfl ?_
  refine gM_g0_19 X 35 q1413 dX3_copyCity_32 rfl ?_
  refine gw_sipush X 38 dX3_copyCity_35 rfl gw_cs_200 ?_
  refine gw_iload_n X 39 1 dX3_copyCity_38 rfl rfl rfl ?_
  refine gw_iload_n X 40 2 dX3_copyCity_39 rfl rfl rfl ?_
  obtain ⟨σ7, h8, hp⟩ := gw_b1_some hp
  refine gw_callSv X 43 [.ref (a 9), .int 200, .int x1, .int x2] (mt_X3_copyRow_9 h8) lk_X3_202 yd_X3_copyRow rfl rfl rfl dX3_copyCity_40 rfl rfl rfl ?_
  cases hp
  exact gw_vret X dX3_copyCity_43 (fun _ h => ⟨rfl, h⟩) (Nat.le_of_ble_eq_true rfl) (Nat.le_of_ble_eq_true rfl)
abbrev rm_X3_city : Room := { frames := 7, cells := 0, slots := 0, locals := 153 }
def fx_X3_city_L13 {τ : Type} (k : gw_S → Option (τ))  : Nat → gw_S → Option (τ)
  | 0, _ => none
  | n + 1, σ => (if fx_X3_isGood σ = true then (if (σ.1 0 8) = 0 then k σ else gw_b1 (if (σ.1 6 4) = 0 then gw_b1 (fx_X3_asks σ (66175 : Int64)) (fun σ10 => gw_b2 (fx_X3_number σ10 (456399 : Int64) (1 : Int32) (9 : Int32)) (fun r12 σ13 => gw_b1 (fx_X3_tells σ13 (0 : Int32) r12) (fun σ15 => some σ15))) else gw_b1 (fx_X3_line σ) (fun σ8 => some σ8)) (fun (σ7 : gw_S) => gw_b1 (if fx_X3_isGood σ7 = true then gw_b1 (fx_X3_ends σ7) (fun σ18 => some σ18) else some σ7) (fun (σ17 : gw_S) => fx_X3_city_L13 k  n (gw_u σ17 6 4 ((σ17.1 6 4) + (1 : Int32)))))) else k σ)
def fx_X3_city (σ : gw_S)  : Option (Int32 × gw_S) := gw_let (gw_u σ 0 0 0) (fun σ1 => gw_b1 (fx_X3_clears σ1) (fun σ3 => gw_b1 (fx_X3_begins σ3) (fun σ5 => fx_X3_city_L13 (fun (σ22 : gw_S) => gw_b1 (fx_X3_isOver σ22) (fun σ23 => (if (σ23.1 0 12) = 0 then gw_b1 (fx_X3_copyCity σ23 (4 : Int32) (0 : Int32)) (fun σ25 => some (σ25.1 6 0, σ25)) else some ((-4), σ23))))  1000 σ5)))
set_option maxHeartbeats 4000000 in
theorem wk_X3_city_L13 {E : gw_E} {l : Launch} {D : gw_D} {a : Nat → Nat} {Wr : va_W → Prop} {τ : Type} {res : τ} {post : Option (Option Value → va_W → Prop)} (X : gw_X E cX3_city 1 RX3 (some .int) l D rm_X3_city post) {k : gw_S → Option (τ)}  : ∀ {n : Nat}  {σ : gw_S}, fx_X3_city_L13 k  n σ = some res → (∀  (σ : gw_S), k σ = some res → gw_W E 89 [(0, .ref (a 0))] [] (gw_st (wM D a σ) Wr) 0 0) → gw_W E 13 [(0, .ref (a 0))] [] (gw_st (wM D a σ) Wr) 0 0 := by
  intro n
  induction n with
  | zero =>
    intro σ hp hk
    cases (show none = some res from hp)
  | succ n ih =>
    intro σ hp hk
    rw [fx_X3_city_L13] at hp
    refine gw_aload_n X 14 0 dX3_city_13 rfl rfl rfl ?_
    refine gw_callVi X 17 [] (mt_X3_isGood rfl) lk_X3_141 ydv_X3_isGood gM_cl0 gM_at0 rfl rfl rfl dX3_city_14 rfl rfl rfl ?_
    refine gw_if_eqB X 89 20 dX3_city_17 rfl rfl (fun z => ?_) (fun z => ?_)
    · replace hp := gw_f z hp
      refine gw_lv [0] rfl ?_
      exact hk _ hp
    · replace hp := gw_t z hp
      refine gw_aload_n X 21 0 dX3_city_20 rfl rfl rfl ?_
      refine gM_g0_8 X 24 q1402 dX3_city_21 rfl ?_
      refine gw_if_eq X 89 27 dX3_city_24 rfl rfl (fun z => ?_) (fun z => ?_)
      · replace hp := gw_t z hp
        refine gw_lv [0] rfl ?_
        exact hk _ hp
      · replace hp := gw_f z hp
        refine gw_aload_n X 28 0 dX3_city_27 rfl rfl rfl ?_
        refine gM_g0_16 X 31 q1410 dX3_city_28 rfl ?_
        refine gw_iconst X 32 dX3_city_31 rfl gw_ci_4 ?_
        refine gM_l6 X 33 4 (gw_in rfl) rfl dX3_city_32 rfl ?_
        obtain ⟨σ7, h21, hp⟩ := gw_b1_some hp
        have kJ : gw_W E 65 [(0, .ref (a 0))] [] (gw_st (wM D a σ7) Wr) 0 0 := by
          refine gw_aload_n X 66 0 dX3_city_65 rfl rfl rfl ?_
          refine gw_callVi X 69 [] (mt_X3_isGood rfl) lk_X3_141 ydv_X3_isGood gM_cl0 gM_at0 rfl rfl rfl dX3_city_66 rfl rfl rfl ?_
          obtain ⟨σ17, h20, hp⟩ := gw_b1_some hp
          have kJ : gw_W E 76 [(0, .ref (a 0))] [] (gw_st (wM D a σ17) Wr) 0 0 := by
            refine gw_aload_n X 77 0 dX3_city_76 rfl rfl rfl ?_
            refine gM_g0_16 X 80 q1410 dX3_city_77 rfl ?_
            refine gw_iconst X 81 dX3_city_80 rfl gw_ci_4 ?_
            refine gw_dup2 X 82 dX3_city_81 rfl rfl rfl ?_
            refine gM_l6 X 83 4 (gw_in rfl) rfl dX3_city_82 rfl ?_
            refine gw_iconst X 84 dX3_city_83 rfl gw_ci_1 ?_
            refine gw_iadd X 85 dX3_city_84 rfl ?_
            refine gM_s6 X 86 4 (gw_in rfl) rfl dX3_city_85 rfl ?_
            refine gw_goto X 13 dX3_city_86 rfl ?_
            refine gw_lv [0] rfl ?_
            exact ih hp hk
          clear hp
          have hp := h20
          clear h20
          refine gw_if_eqB X 76 72 dX3_city_69 rfl rfl (fun z => ?_) (fun z => ?_)
          · replace hp := gw_f z hp
            cases hp
            exact gw_lv [0] rfl kJ
          · replace hp := gw_t z hp
            refine gw_aload_n X 73 0 dX3_city_72 rfl rfl rfl ?_
            obtain ⟨σ18, h19, hp⟩ := gw_b1_some hp
            refine gw_callVv X 76 [] (mt_X3_ends h19) lk_X3_193 ydv_X3_ends gM_cl0 gM_at0 rfl rfl rfl dX3_city_73 rfl rfl rfl ?_
            cases hp
            exact gw_lv [0] rfl kJ
        clear hp
        have hp := h21
        clear h21
        refine gw_if_ne X 61 36 dX3_city_33 rfl rfl (fun z => ?_) (fun z => ?_)
        · replace hp := gw_f z hp
          refine gw_aload_n X 62 0 dX3_city_61 rfl rfl rfl ?_
          obtain ⟨σ8, h9, hp⟩ := gw_b1_some hp
          refine gw_callVv X 65 [] (mt_X3_line h9) lk_X3_190 ydv_X3_line gM_cl0 gM_at0 rfl rfl rfl dX3_city_62 rfl rfl rfl ?_
          cases hp
          exact gw_lv [0] rfl kJ
        · replace hp := gw_t z hp
          refine gw_aload_n X 37 0 dX3_city_36 rfl rfl rfl ?_
          refine gw_ldc2 X 40 dX3_city_37 rfl q1560 ?_
          obtain ⟨σ10, h11, hp⟩ := gw_b1_some hp
          refine gw_callVv X 43 [.long 66175] (mt_X3_asks h11) lk_X3_130 ydv_X3_asks gM_cl0 gM_at0 rfl rfl rfl dX3_city_40 rfl rfl rfl ?_
          refine gw_aload_n X 44 0 dX3_city_43 rfl rfl rfl ?_
          refine gw_iconst X 45 dX3_city_44 rfl gw_ci_0 ?_
          refine gw_aload_n X 46 0 dX3_city_45 rfl rfl rfl ?_
          refine gw_ldc2 X 49 dX3_city_46 rfl q1577 ?_
          refine gw_iconst X 50 dX3_city_49 rfl gw_ci_1 ?_
          refine gw_bipush X 52 dX3_city_50 rfl gw_cb_9 ?_
          obtain ⟨r12, σ13, h14, hp⟩ := gw_b2_some hp
          refine gw_callVi X 55 [.long 456399, .int 1, .int 9] (mt_X3_number h14) lk_X3_151 ydv_X3_number gM_cl0 gM_at0 rfl rfl rfl dX3_city_52 rfl rfl rfl ?_
          obtain ⟨σ15, h16, hp⟩ := gw_b1_some hp
          refine gw_callVv X 58 [.int 0, .int r12] (mt_X3_tells h16) lk_X3_162 ydv_X3_tells gM_cl0 gM_at0 rfl rfl rfl dX3_city_55 rfl rfl rfl ?_
          refine gw_goto X 65 dX3_city_58 rfl ?_
          cases hp
          exact gw_lv [0] rfl kJ
set_option maxHeartbeats 4000000 in
theorem mt_X3_city {l : Launch} {D : gw_D} {a : Nat → Nat} {Wr : va_W → Prop} {σ : gw_S}  {res : Int32 × gw_S} (hp : fx_X3_city σ  = some res) : gw_Ct D l yX3_city cX3_city 1 (some .int) rm_X3_city [.ref (a 0)] (gw_st (wM D a σ) Wr) (gw_pI res.1 (gw_st (wM D a res.2) Wr)) := by
  refine gw_ct (own := RX3) [(0, .ref (a 0))] (by decide) rfl (Nat.le_of_ble_eq_true rfl) rfl ?_
  intro E X
  unfold fx_X3_city at hp
  refine gw_aload_n X 1 0 dX3_city_0 rfl rfl rfl ?_
  refine gw_iconst X 2 dX3_city_1 rfl gw_ci_0 ?_
  refine gM_p0_0 X 5 q1394 dX3_city_2 rfl ?_
  refine gw_aload_n X 6 0 dX3_city_5 rfl rfl rfl ?_
  obtain ⟨σ1, h2, hp⟩ := gw_let_some hp
  rw [← h2]
  clear h2
  obtain ⟨σ3, h4, hp⟩ := gw_b1_some hp
  refine gw_callVv X 9 [] (mt_X3_clears h4) lk_X3_180 ydv_X3_clears gM_cl0 gM_at0 rfl rfl rfl dX3_city_6 rfl rfl rfl ?_
  refine gw_aload_n X 10 0 dX3_city_9 rfl rfl rfl ?_
  obtain ⟨σ5, h6, hp⟩ := gw_b1_some hp
  refine gw_callVv X 13 [] (mt_X3_begins h6) lk_X3_183 ydv_X3_begins gM_cl0 gM_at0 rfl rfl rfl dX3_city_10 rfl rfl rfl ?_
  refine gw_lv [0] rfl ?_
  refine wk_X3_city_L13 X hp ?_
  clear hp
  intro σ22 hp
  refine gw_aload_n X 90 0 dX3_city_89 rfl rfl rfl ?_
  obtain ⟨σ23, h24, hp⟩ := gw_b1_some hp
  refine gw_callVv X 93 [] (mt_X3_isOver h24) lk_X3_196 ydv_X3_isOver gM_cl0 gM_at0 rfl rfl rfl dX3_city_90 rfl rfl rfl ?_
  refine gw_aload_n X 94 0 dX3_city_93 rfl rfl rfl ?_
  refine gM_g0_12 X 97 q1406 dX3_city_94 rfl ?_
  refine gw_if_eq X 103 100 dX3_city_97 rfl rfl (fun z => ?_) (fun z => ?_)
  · replace hp := gw_t z hp
    refine gw_aload_n X 104 0 dX3_city_103 rfl rfl rfl ?_
    refine gw_iconst X 105 dX3_city_104 rfl gw_ci_4 ?_
    refine gw_iconst X 106 dX3_city_105 rfl gw_ci_0 ?_
    obtain ⟨σ25, h26, hp⟩ := gw_b1_some hp
    refine gw_callVv X 109 [.int 4, .int 0] (mt_X3_copyCity h26) lk_X3_199 ydv_X3_copyCity gM_cl0 gM_at0 rfl rfl rfl dX3_city_106 rfl rfl rfl ?_
    refine gw_aload_n X 110 0 dX3_city_109 rfl rfl rfl ?_
    refine gM_g0_16 X 113 q1410 dX3_city_110 rfl ?_
    refine gw_iconst X 114 dX3_city_113 rfl gw_ci_0 ?_
    refine gM_l6 X 115 0 (gw_in rfl) rfl dX3_city_114 rfl ?_
    cases hp
    exact gw_iret X dX3_city_115 (fun _ h => ⟨rfl, h⟩) (Nat.le_of_ble_eq_true rfl) (Nat.le_of_ble_eq_true rfl)
  · replace hp := gw_f z hp
    refine gw_bipush X 102 dX3_city_100 rfl gw_cb_m4 ?_
    cases hp
    exact gw_iret X dX3_city_102 (fun _ h => ⟨rfl, h⟩) (Nat.le_of_ble_eq_true rfl) (Nat.le_of_ble_eq_true rfl)
abbrev rm_X3_isPerson : Room := { frames := 1, cells := 0, slots := 0, locals := 25 }
def fx_X3_isPerson (σ : gw_S) (x1 : Int64) : Bool := fx_X3_in x1 (0 : Int64) ((Int32.toInt64 (σ.1 7 1)) - (1 : Int64))
set_option maxHeartbeats 4000000 in
theorem mt_X3_isPerson {l : Launch} {D : gw_D} {a : Nat → Nat} {Wr : va_W → Prop} {σ : gw_S} {x1 : Int64} {res : Bool} (hp : fx_X3_isPerson σ x1 = res) : gw_Ct D l yX3_isPerson cX3_isPerson 3 (some .boolean) rm_X3_isPerson [.ref (a 0), .long x1] (gw_st (wM D a σ) Wr) (gw_pI (gw_b res) (gw_st (wM D a σ) Wr)) := by
  refine gw_ct (own := RX3) [(0, .ref (a 0)), (1, .long x1)] (by decide) rfl (Nat.le_of_ble_eq_true rfl) rfl ?_
  intro E X
  unfold fx_X3_isPerson at hp
  refine gw_lload_n X 1 1 dX3_isPerson_0 rfl rfl rfl ?_
  refine gw_lconst X 2 dX3_isPerson_1 rfl gw_cl_0 ?_
  refine gw_aload_n X 3 0 dX3_isPerson_2 rfl rfl rfl ?_
  refine gM_g0_17 X 6 q1411 dX3_isPerson_3 rfl ?_
  refine gw_iconst X 7 dX3_isPerson_6 rfl gw_ci_1 ?_
  refine gM_l7 X 8 1 (gw_in rfl) rfl dX3_isPerson_7 rfl ?_
  refine gw_i2l X 9 dX3_isPerson_8 rfl ?_
  refine gw_lconst X 10 dX3_isPerson_9 rfl gw_cl_1 ?_
  refine gw_lsub X 11 dX3_isPerson_10 rfl ?_
  refine gw_callSi X 14 [.long x1, .long 0, .long ((Int32.toInt64 (σ.1 7 1)) - (1 : Int64))] (mt_X3_in rfl) lk_X3_64 yd_X3_in rfl rfl rfl dX3_isPerson_11 rfl rfl rfl ?_
  cases hp
  exact gw_zret X dX3_isPerson_14 (fun _ h => ⟨rfl, h⟩) (Nat.le_of_ble_eq_true rfl) (Nat.le_of_ble_eq_true rfl)
abbrev rm_X3_of : Room := { frames := 0, cells := 0, slots := 0, locals := 0 }
def fx_X3_of (σ : gw_S) (x1 : Int32) (x2 : Int32) : Option (Int32) := gw_ck (((5 : Int32) * x1) + x2) 200 (some (σ.1 8 (Int32.toNatClampNeg (((5 : Int32) * x1) + x2))))
set_option maxHeartbeats 4000000 in
theorem mt_X3_of {l : Launch} {D : gw_D} {a : Nat → Nat} {Wr : va_W → Prop} {σ : gw_S} {x1 : Int32} {x2 : Int32} {res : Int32} (hp : fx_X3_of σ x1 x2 = some res) : gw_Ct D l yX3_of cX3_of 3 (some .int) rm_X3_of [.ref (a 0), .int x1, .int x2] (gw_st (wM D a σ) Wr) (gw_pI res (gw_st (wM D a σ) Wr)) := by
  refine gw_ct (own := RX3) [(0, .ref (a 0)), (1, .int x1), (2, .int x2)] (by decide) rfl (Nat.le_of_ble_eq_true rfl) rfl ?_
  intro E X
  unfold fx_X3_of at hp
  refine gw_aload_n X 1 0 dX3_of_0 rfl rfl rfl ?_
  refine gM_g0_18 X 4 q1412 dX3_of_1 rfl ?_
  refine gw_iconst X 5 dX3_of_4 rfl gw_ci_5 ?_
  refine gw_iload_n X 6 1 dX3_of_5 rfl rfl rfl ?_
  refine gw_imul X 7 dX3_of_6 rfl ?_
  refine gw_iload_n X 8 2 dX3_of_7 rfl rfl rfl ?_
  refine gw_iadd X 9 dX3_of_8 rfl ?_
  obtain ⟨hc, hp⟩ := gw_ck_some hp
  refine gM_l8 X 10 (Int32.toNatClampNeg (((5 : Int32) * x1) + x2)) hc rfl dX3_of_9 rfl ?_
  cases hp
  exact gw_iret X dX3_of_10 (fun _ h => ⟨rfl, h⟩) (Nat.le_of_ble_eq_true rfl) (Nat.le_of_ble_eq_true rfl)
abbrev rm_X3_start : Room := { frames := 1, cells := 0, slots := 0, locals := 22 }
def fx_X3_start_L2  : Nat → Int32 → gw_S → Option (gw_S)
  | 0, _, _ => none
  | n + 1, c1, σ => (if (σ.1 7 1) ≤ c1 then gw_let (gw_u σ 0 24 0) (fun σ1 => gw_let (gw_u σ1 0 25 0) (fun σ3 => gw_let (gw_u σ3 0 26 0) (fun σ5 => some (gw_u σ5 0 27 0)))) else gw_b1 (fx_X3_of σ c1 (3 : Int32)) (fun r7 => gw_ck c1 8 (gw_let (gw_u σ 11 (Int32.toNatClampNeg c1) r7) (fun σ9 => gw_ck c1 8 (gw_let (gw_u σ9 12 (Int32.toNatClampNeg c1) 0) (fun σ11 => gw_ck c1 8 (fx_X3_start_L2  n (c1 + 1) (gw_u σ11 13 (Int32.toNatClampNeg c1) (-1)))))))))
def fx_X3_start (σ : gw_S)  : Option (gw_S) := fx_X3_start_L2  1000 (0 : Int32) σ
set_option maxHeartbeats 4000000 in
theorem wk_X3_start_L2 {E : gw_E} {l : Launch} {D : gw_D} {a : Nat → Nat} {Wr : va_W → Prop} {res : gw_S} (X : gw_X E cX3_start 2 RX3 none l D rm_X3_start (some (gw_pV (gw_st (wM D a res) Wr))))  : ∀ {n : Nat} {c1 : Int32} {σ : gw_S}, fx_X3_start_L2  n c1 σ = some res → gw_W E 2 [(0, .ref (a 0)), (1, .int c1)] [] (gw_st (wM D a σ) Wr) 0 0 := by
  intro n
  induction n with
  | zero =>
    intro c1 σ hp
    cases (show none = some res from hp)
  | succ n ih =>
    intro c1 σ hp
    rw [fx_X3_start_L2] at hp
    refine gw_iload_n X 3 1 dX3_start_2 rfl rfl rfl ?_
    refine gw_aload_n X 4 0 dX3_start_3 rfl rfl rfl ?_
    refine gM_g0_17 X 7 q1411 dX3_start_4 rfl ?_
    refine gw_iconst X 8 dX3_start_7 rfl gw_ci_1 ?_
    refine gM_l7 X 9 1 (gw_in rfl) rfl dX3_start_8 rfl ?_
    refine gw_icmp_ge X 44 12 dX3_start_9 rfl rfl (fun z => ?_) (fun z => ?_)
    · replace hp := gw_t z hp
      refine gw_aload_n X 45 0 dX3_start_44 rfl rfl rfl ?_
      refine gw_iconst X 46 dX3_start_45 rfl gw_ci_0 ?_
      refine gM_p0_24 X 49 q1418 dX3_start_46 rfl ?_
      refine gw_aload_n X 50 0 dX3_start_49 rfl rfl rfl ?_
      refine gw_iconst X 51 dX3_start_50 rfl gw_ci_0 ?_
      obtain ⟨σ1, h2, hp⟩ := gw_let_some hp
      rw [← h2]
      clear h2
      refine gM_p0_25 X 54 q1419 dX3_start_51 rfl ?_
      refine gw_aload_n X 55 0 dX3_start_54 rfl rfl rfl ?_
      refine gw_iconst X 56 dX3_start_55 rfl gw_ci_0 ?_
      obtain ⟨σ3, h4, hp⟩ := gw_let_some hp
      rw [← h4]
      clear h4
      refine gM_p0_26 X 59 q1420 dX3_start_56 rfl ?_
      refine gw_aload_n X 60 0 dX3_start_59 rfl rfl rfl ?_
      refine gw_iconst X 61 dX3_start_60 rfl gw_ci_0 ?_
      obtain ⟨σ5, h6, hp⟩ := gw_let_some hp
      rw [← h6]
      clear h6
      refine gM_p0_27 X 64 q1421 dX3_start_61 rfl ?_
      cases hp
      exact gw_vret X dX3_start_64 (fun _ h => ⟨rfl, h⟩) (Nat.le_of_ble_eq_true rfl) (Nat.le_of_ble_eq_true rfl)
    · replace hp := gw_f z hp
      refine gw_aload_n X 13 0 dX3_start_12 rfl rfl rfl ?_
      refine gM_g0_21 X 16 q1415 dX3_start_13 rfl ?_
      refine gw_iload_n X 17 1 dX3_start_16 rfl rfl rfl ?_
      refine gw_aload_n X 18 0 dX3_start_17 rfl rfl rfl ?_
      refine gw_iload_n X 19 1 dX3_start_18 rfl rfl rfl ?_
      refine gw_iconst X 20 dX3_start_19 rfl gw_ci_3 ?_
      obtain ⟨r7, h8, hp⟩ := gw_b1_some hp
      refine gw_callVi X 23 [.int c1, .int 3] (mt_X3_of h8) lk_X3_214 ydv_X3_of gM_cl0 gM_at0 rfl rfl rfl dX3_start_20 rfl rfl rfl ?_
      obtain ⟨hc, hp⟩ := gw_ck_some hp
      refine gM_s11 X 24 (Int32.toNatClampNeg c1) hc rfl dX3_start_23 rfl ?_
      refine gw_aload_n X 25 0 dX3_start_24 rfl rfl rfl ?_
      obtain ⟨σ9, h10, hp⟩ := gw_let_some hp
      rw [← h10]
      clear h10
      refine gM_g0_22 X 28 q1416 dX3_start_25 rfl ?_
      refine gw_iload_n X 29 1 dX3_start_28 rfl rfl rfl ?_
      refine gw_iconst X 30 dX3_start_29 rfl gw_ci_0 ?_
      obtain ⟨hc, hp⟩ := gw_ck_some hp
      refine gM_s12 X 31 (Int32.toNatClampNeg c1) hc rfl dX3_start_30 rfl ?_
      refine gw_aload_n X 32 0 dX3_start_31 rfl rfl rfl ?_
      obtain ⟨σ11, h12, hp⟩ := gw_let_some hp
      rw [← h12]
      clear h12
      refine gM_g0_23 X 35 q1417 dX3_start_32 rfl ?_
      refine gw_iload_n X 36 1 dX3_start_35 rfl rfl rfl ?_
      refine gw_iconst X 37 dX3_start_36 rfl gw_ci_m1 ?_
      obtain ⟨hc, hp⟩ := gw_ck_some hp
      refine gM_s13 X 38 (Int32.toNatClampNeg c1) hc rfl dX3_start_37 rfl ?_
      refine gw_iinc X 41 1 [(1, .int (c1 + 1)), (0, .ref (a 0))] dX3_start_38 rfl rfl gw_ci_1 (by decide) rfl ?_
      refine gw_goto X 2 dX3_start_41 rfl ?_
      refine gw_lv [1, 0] rfl ?_
      exact ih hp
set_option maxHeartbeats 4000000 in
theorem mt_X3_start {l : Launch} {D : gw_D} {a : Nat → Nat} {Wr : va_W → Prop} {σ : gw_S}  {res : gw_S} (hp : fx_X3_start σ  = some res) : gw_Ct D l yX3_start cX3_start 2 none rm_X3_start [.ref (a 0)] (gw_st (wM D a σ) Wr) (gw_pV (gw_st (wM D a res) Wr)) := by
  refine gw_ct (own := RX3) [(0, .ref (a 0))] (by decide) rfl (Nat.le_of_ble_eq_true rfl) rfl ?_
  intro E X
  unfold fx_X3_start at hp
  refine gw_iconst X 1 dX3_start_0 rfl gw_ci_0 ?_
  refine gw_istore_n X 2 [(1, .int 0), (0, .ref (a 0))] dX3_start_1 rfl rfl (by decide) rfl ?_
  refine gw_lv [1, 0] rfl ?_
  exact wk_X3_start_L2 X hp
abbrev rm_X3_isBit : Room := { frames := 0, cells := 0, slots := 0, locals := 0 }
def fx_X3_isBit (x0 : Int32) (x1 : Int32) : Bool := (if ((x0 >>> (x1 &&& 31)) &&& (1 : Int32)) = (1 : Int32) then true else false)
set_option maxHeartbeats 4000000 in
theorem mt_X3_isBit {l : Launch} {D : gw_D} {Ws : va_W → Prop} {x0 : Int32} {x1 : Int32} {res : Bool} (hp : fx_X3_isBit x0 x1 = res) : gw_Ct D l yX3_isBit cX3_isBit 2 (some .boolean) rm_X3_isBit [.int x0, .int x1] Ws (gw_pI (gw_b res) Ws) := by
  refine gw_ct (own := RX3) [(0, .int x0), (1, .int x1)] (by decide) rfl (Nat.le_of_ble_eq_true rfl) rfl ?_
  intro E X
  unfold fx_X3_isBit at hp
  refine gw_iload_n X 1 0 dX3_isBit_0 rfl rfl rfl ?_
  refine gw_iload_n X 2 1 dX3_isBit_1 rfl rfl rfl ?_
  refine gw_ishr X 3 dX3_isBit_2 rfl ?_
  refine gw_iconst X 4 dX3_isBit_3 rfl gw_ci_1 ?_
  refine gw_iand X 5 dX3_isBit_4 rfl ?_
  refine gw_iconst X 6 dX3_isBit_5 rfl gw_ci_1 ?_
  refine gw_icmp_ne X 13 9 dX3_isBit_6 rfl rfl (fun z => ?_) (fun z => ?_)
  · replace hp := gw_f z hp
    refine gw_iconst X 14 dX3_isBit_13 rfl gw_ci_0 ?_
    cases hp
    exact gw_zret0 X dX3_isBit_14 (fun _ h => ⟨rfl, h⟩) (Nat.le_of_ble_eq_true rfl) (Nat.le_of_ble_eq_true rfl)
  · replace hp := gw_t z hp
    refine gw_iconst X 10 dX3_isBit_9 rfl gw_ci_1 ?_
    refine gw_goto X 14 dX3_isBit_10 rfl ?_
    cases hp
    exact gw_zret1 X dX3_isBit_14 (fun _ h => ⟨rfl, h⟩) (Nat.le_of_ble_eq_true rfl) (Nat.le_of_ble_eq_true rfl)
abbrev rm_X3_dayEnds : Room := { frames := 1, cells := 0, slots := 0, locals := 21 }
def fx_X3_dayEnds_L2  : Nat → Int32 → gw_S → Option (gw_S)
  | 0, _, _ => none
  | n + 1, c1, σ => (if (σ.1 7 1) ≤ c1 then gw_let (gw_u σ 0 25 0) (fun σ1 => gw_let (gw_u σ1 0 24 0) (fun σ3 => some (gw_u σ3 0 26 ((σ3.1 0 26) + (1 : Int32))))) else (if fx_X3_isBit (σ.1 0 25) c1 = true then gw_ck c1 8 ((if (σ.1 11 (Int32.toNatClampNeg c1)) = (-1 : Int32) then fx_X3_dayEnds_L2  n (c1 + 1) σ else gw_ck c1 8 (gw_ck c1 8 (fx_X3_dayEnds_L2  n (c1 + 1) (gw_u σ 11 (Int32.toNatClampNeg c1) (σ.1 13 (Int32.toNatClampNeg c1))))))) else fx_X3_dayEnds_L2  n (c1 + 1) σ))
def fx_X3_dayEnds (σ : gw_S)  : Option (gw_S) := fx_X3_dayEnds_L2  1000 (0 : Int32) σ
set_option maxHeartbeats 4000000 in
theorem wk_X3_dayEnds_L2 {E : gw_E} {l : Launch} {D : gw_D} {a : Nat → Nat} {Wr : va_W → Prop} {res : gw_S} (X : gw_X E cX3_dayEnds 2 RX3 none l D rm_X3_dayEnds (some (gw_pV (gw_st (wM D a res) Wr))))  : ∀ {n : Nat} {c1 : Int32} {σ : gw_S}, fx_X3_dayEnds_L2  n c1 σ = some res → gw_W E 2 [(0, .ref (a 0)), (1, .int c1)] [] (gw_st (wM D a σ) Wr) 0 0 := by
  intro n
  induction n with
  | zero =>
    intro c1 σ hp
    cases (show none = some res from hp)
  | succ n ih =>
    intro c1 σ hp
    rw [fx_X3_dayEnds_L2] at hp
    refine gw_iload_n X 3 1 dX3_dayEnds_2 rfl rfl rfl ?_
    refine gw_aload_n X 4 0 dX3_dayEnds_3 rfl rfl rfl ?_
    refine gM_g0_17 X 7 q1411 dX3_dayEnds_4 rfl ?_
    refine gw_iconst X 8 dX3_dayEnds_7 rfl gw_ci_1 ?_
    refine gM_l7 X 9 1 (gw_in rfl) rfl dX3_dayEnds_8 rfl ?_
    refine gw_icmp_ge X 51 12 dX3_dayEnds_9 rfl rfl (fun z => ?_) (fun z => ?_)
    · replace hp := gw_t z hp
      refine gw_aload_n X 52 0 dX3_dayEnds_51 rfl rfl rfl ?_
      refine gw_iconst X 53 dX3_dayEnds_52 rfl gw_ci_0 ?_
      refine gM_p0_25 X 56 q1419 dX3_dayEnds_53 rfl ?_
      refine gw_aload_n X 57 0 dX3_dayEnds_56 rfl rfl rfl ?_
      refine gw_iconst X 58 dX3_dayEnds_57 rfl gw_ci_0 ?_
      obtain ⟨σ1, h2, hp⟩ := gw_let_some hp
      rw [← h2]
      clear h2
      refine gM_p0_24 X 61 q1418 dX3_dayEnds_58 rfl ?_
      refine gw_aload_n X 62 0 dX3_dayEnds_61 rfl rfl rfl ?_
      refine gw_dup X 63 dX3_dayEnds_62 rfl rfl ?_
      obtain ⟨σ3, h4, hp⟩ := gw_let_some hp
      rw [← h4]
      clear h4
      refine gM_g0_26 X 66 q1420 dX3_dayEnds_63 rfl ?_
      refine gw_iconst X 67 dX3_dayEnds_66 rfl gw_ci_1 ?_
      refine gw_iadd X 68 dX3_dayEnds_67 rfl ?_
      refine gM_p0_26 X 71 q1420 dX3_dayEnds_68 rfl ?_
      cases hp
      exact gw_vret X dX3_dayEnds_71 (fun _ h => ⟨rfl, h⟩) (Nat.le_of_ble_eq_true rfl) (Nat.le_of_ble_eq_true rfl)
    · replace hp := gw_f z hp
      refine gw_aload_n X 13 0 dX3_dayEnds_12 rfl rfl rfl ?_
      refine gM_g0_25 X 16 q1419 dX3_dayEnds_13 rfl ?_
      refine gw_iload_n X 17 1 dX3_dayEnds_16 rfl rfl rfl ?_
      refine gw_callSi X 20 [.int (σ.1 0 25), .int c1] (mt_X3_isBit rfl) lk_X3_239 yd_X3_isBit rfl rfl rfl dX3_dayEnds_17 rfl rfl rfl ?_
      refine gw_if_eqB X 45 23 dX3_dayEnds_20 rfl rfl (fun z => ?_) (fun z => ?_)
      · replace hp := gw_f z hp
        refine gw_iinc X 48 1 [(1, .int (c1 + 1)), (0, .ref (a 0))] dX3_dayEnds_45 rfl rfl gw_ci_1 (by decide) rfl ?_
        refine gw_goto X 2 dX3_dayEnds_48 rfl ?_
        refine gw_lv [1, 0] rfl ?_
        exact ih hp
      · replace hp := gw_t z hp
        refine gw_aload_n X 24 0 dX3_dayEnds_23 rfl rfl rfl ?_
        refine gM_g0_21 X 27 q1415 dX3_dayEnds_24 rfl ?_
        refine gw_iload_n X 28 1 dX3_dayEnds_27 rfl rfl rfl ?_
        obtain ⟨hc, hp⟩ := gw_ck_some hp
        refine gM_l11 X 29 (Int32.toNatClampNeg c1) hc rfl dX3_dayEnds_28 rfl ?_
        refine gw_iconst X 30 dX3_dayEnds_29 rfl gw_ci_m1 ?_
        refine gw_icmp_eq X 45 33 dX3_dayEnds_30 rfl rfl (fun z => ?_) (fun z => ?_)
        · replace hp := gw_t z hp
          refine gw_iinc X 48 1 [(1, .int (c1 + 1)), (0, .ref (a 0))] dX3_dayEnds_45 rfl rfl gw_ci_1 (by decide) rfl ?_
          refine gw_goto X 2 dX3_dayEnds_48 rfl ?_
          refine gw_lv [1, 0] rfl ?_
          exact ih hp
        · replace hp := gw_f z hp
          refine gw_aload_n X 34 0 dX3_dayEnds_33 rfl rfl rfl ?_
          refine gM_g0_21 X 37 q1415 dX3_dayEnds_34 rfl ?_
          refine gw_iload_n X 38 1 dX3_dayEnds_37 rfl rfl rfl ?_
          refine gw_aload_n X 39 0 dX3_dayEnds_38 rfl rfl rfl ?_
          refine gM_g0_23 X 42 q1417 dX3_dayEnds_39 rfl ?_
          refine gw_iload_n X 43 1 dX3_dayEnds_42 rfl rfl rfl ?_
          obtain ⟨hc, hp⟩ := gw_ck_some hp
          refine gM_l13 X 44 (Int32.toNatClampNeg c1) hc rfl dX3_dayEnds_43 rfl ?_
          obtain ⟨hc, hp⟩ := gw_ck_some hp
          refine gM_s11 X 45 (Int32.toNatClampNeg c1) hc rfl dX3_dayEnds_44 rfl ?_
          refine gw_iinc X 48 1 [(1, .int (c1 + 1)), (0, .ref (a 0))] dX3_dayEnds_45 rfl rfl gw_ci_1 (by decide) rfl ?_
          refine gw_goto X 2 dX3_dayEnds_48 rfl ?_
          refine gw_lv [1, 0] rfl ?_
          exact ih hp
set_option maxHeartbeats 4000000 in
theorem mt_X3_dayEnds {l : Launch} {D : gw_D} {a : Nat → Nat} {Wr : va_W → Prop} {σ : gw_S}  {res : gw_S} (hp : fx_X3_dayEnds σ  = some res) : gw_Ct D l yX3_dayEnds cX3_dayEnds 2 none rm_X3_dayEnds [.ref (a 0)] (gw_st (wM D a σ) Wr) (gw_pV (gw_st (wM D a res) Wr)) := by
  refine gw_ct (own := RX3) [(0, .ref (a 0))] (by decide) rfl (Nat.le_of_ble_eq_true rfl) rfl ?_
  intro E X
  unfold fx_X3_dayEnds at hp
  refine gw_iconst X 1 dX3_dayEnds_0 rfl gw_ci_0 ?_
  refine gw_istore_n X 2 [(1, .int 0), (0, .ref (a 0))] dX3_dayEnds_1 rfl rfl (by decide) rfl ?_
  refine gw_lv [1, 0] rfl ?_
  exact wk_X3_dayEnds_L2 X hp
abbrev rm_X3_readable : Room := { frames := 1, cells := 0, slots := 0, locals := 22 }
def fx_X3_readable (σ : gw_S) (x1 : Int32) : Option (Int32) := gw_b1 (fx_X3_of σ x1 (4 : Int32)) (fun r1 => (if r1 = (1 : Int32) then some 1 else some (σ.1 7 0)))
set_option maxHeartbeats 4000000 in
theorem mt_X3_readable {l : Launch} {D : gw_D} {a : Nat → Nat} {Wr : va_W → Prop} {σ : gw_S} {x1 : Int32} {res : Int32} (hp : fx_X3_readable σ x1 = some res) : gw_Ct D l yX3_readable cX3_readable 2 (some .int) rm_X3_readable [.ref (a 0), .int x1] (gw_st (wM D a σ) Wr) (gw_pI res (gw_st (wM D a σ) Wr)) := by
  refine gw_ct (own := RX3) [(0, .ref (a 0)), (1, .int x1)] (by decide) rfl (Nat.le_of_ble_eq_true rfl) rfl ?_
  intro E X
  unfold fx_X3_readable at hp
  refine gw_aload_n X 1 0 dX3_readable_0 rfl rfl rfl ?_
  refine gw_iload_n X 2 1 dX3_readable_1 rfl rfl rfl ?_
  refine gw_iconst X 3 dX3_readable_2 rfl gw_ci_4 ?_
  obtain ⟨r1, h2, hp⟩ := gw_b1_some hp
  refine gw_callVi X 6 [.int x1, .int 4] (mt_X3_of h2) lk_X3_214 ydv_X3_of gM_cl0 gM_at0 rfl rfl rfl dX3_readable_3 rfl rfl rfl ?_
  refine gw_iconst X 7 dX3_readable_6 rfl gw_ci_1 ?_
  refine gw_icmp_ne X 14 10 dX3_readable_7 rfl rfl (fun z => ?_) (fun z => ?_)
  · replace hp := gw_f z hp
    refine gw_aload_n X 15 0 dX3_readable_14 rfl rfl rfl ?_
    refine gM_g0_17 X 18 q1411 dX3_readable_15 rfl ?_
    refine gw_iconst X 19 dX3_readable_18 rfl gw_ci_0 ?_
    refine gM_l7 X 20 0 (gw_in rfl) rfl dX3_readable_19 rfl ?_
    cases hp
    exact gw_iret X dX3_readable_20 (fun _ h => ⟨rfl, h⟩) (Nat.le_of_ble_eq_true rfl) (Nat.le_of_ble_eq_true rfl)
  · replace hp := gw_t z hp
    refine gw_iconst X 11 dX3_readable_10 rfl gw_ci_1 ?_
    refine gw_goto X 20 dX3_readable_11 rfl ?_
    cases hp
    exact gw_iret X dX3_readable_20 (fun _ h => ⟨rfl, h⟩) (Nat.le_of_ble_eq_true rfl) (Nat.le_of_ble_eq_true rfl)
abbrev rm_X3_isAsked : Room := { frames := 2, cells := 0, slots := 0, locals := 43 }
def fx_X3_isAsked (σ : gw_S) (x1 : Int32) : Option (gw_S) := gw_let (gw_u σ 0 24 ((σ.1 0 24) ||| ((1 : Int32) <<< (x1 &&& 31)))) (fun σ1 => gw_ck x1 8 (gw_ck x1 8 (gw_let (gw_u σ1 12 (Int32.toNatClampNeg x1) ((σ1.1 12 (Int32.toNatClampNeg x1)) + (1 : Int32))) (fun σ3 => gw_ck x1 8 (gw_b1 (fx_X3_readable σ3 x1) (fun r5 => (if (σ3.1 12 (Int32.toNatClampNeg x1)) < r5 then some σ3 else gw_ck x1 8 (some (gw_u σ3 11 (Int32.toNatClampNeg x1) (-1))))))))))
set_option maxHeartbeats 4000000 in
theorem mt_X3_isAsked {l : Launch} {D : gw_D} {a : Nat → Nat} {Wr : va_W → Prop} {σ : gw_S} {x1 : Int32} {res : gw_S} (hp : fx_X3_isAsked σ x1 = some res) : gw_Ct D l yX3_isAsked cX3_isAsked 2 none rm_X3_isAsked [.ref (a 0), .int x1] (gw_st (wM D a σ) Wr) (gw_pV (gw_st (wM D a res) Wr)) := by
  refine gw_ct (own := RX3) [(0, .ref (a 0)), (1, .int x1)] (by decide) rfl (Nat.le_of_ble_eq_true rfl) rfl ?_
  intro E X
  unfold fx_X3_isAsked at hp
  refine gw_aload_n X 1 0 dX3_isAsked_0 rfl rfl rfl ?_
  refine gw_dup X 2 dX3_isAsked_1 rfl rfl ?_
  refine gM_g0_24 X 5 q1418 dX3_isAsked_2 rfl ?_
  refine gw_iconst X 6 dX3_isAsked_5 rfl gw_ci_1 ?_
  refine gw_iload_n X 7 1 dX3_isAsked_6 rfl rfl rfl ?_
  refine gw_ishl X 8 dX3_isAsked_7 rfl ?_
  refine gw_ior X 9 dX3_isAsked_8 rfl ?_
  refine gM_p0_24 X 12 q1418 dX3_isAsked_9 rfl ?_
  refine gw_aload_n X 13 0 dX3_isAsked_12 rfl rfl rfl ?_
  obtain ⟨σ1, h2, hp⟩ := gw_let_some hp
  rw [← h2]
  clear h2
  refine gM_g0_22 X 16 q1416 dX3_isAsked_13 rfl ?_
  refine gw_iload_n X 17 1 dX3_isAsked_16 rfl rfl rfl ?_
  refine gw_dup2 X 18 dX3_isAsked_17 rfl rfl rfl ?_
  obtain ⟨hc, hp⟩ := gw_ck_some hp
  refine gM_l12 X 19 (Int32.toNatClampNeg x1) hc rfl dX3_isAsked_18 rfl ?_
  refine gw_iconst X 20 dX3_isAsked_19 rfl gw_ci_1 ?_
  refine gw_iadd X 21 dX3_isAsked_20 rfl ?_
  obtain ⟨hc, hp⟩ := gw_ck_some hp
  refine gM_s12 X 22 (Int32.toNatClampNeg x1) hc rfl dX3_isAsked_21 rfl ?_
  refine gw_aload_n X 23 0 dX3_isAsked_22 rfl rfl rfl ?_
  obtain ⟨σ3, h4, hp⟩ := gw_let_some hp
  rw [← h4]
  clear h4
  refine gM_g0_22 X 26 q1416 dX3_isAsked_23 rfl ?_
  refine gw_iload_n X 27 1 dX3_isAsked_26 rfl rfl rfl ?_
  obtain ⟨hc, hp⟩ := gw_ck_some hp
  refine gM_l12 X 28 (Int32.toNatClampNeg x1) hc rfl dX3_isAsked_27 rfl ?_
  refine gw_aload_n X 29 0 dX3_isAsked_28 rfl rfl rfl ?_
  refine gw_iload_n X 30 1 dX3_isAsked_29 rfl rfl rfl ?_
  obtain ⟨r5, h6, hp⟩ := gw_b1_some hp
  refine gw_callVi X 33 [.int x1] (mt_X3_readable h6) lk_X3_236 ydv_X3_readable gM_cl0 gM_at0 rfl rfl rfl dX3_isAsked_30 rfl rfl rfl ?_
  refine gw_icmp_lt X 43 36 dX3_isAsked_33 rfl rfl (fun z => ?_) (fun z => ?_)
  · replace hp := gw_t z hp
    cases hp
    exact gw_vret X dX3_isAsked_43 (fun _ h => ⟨rfl, h⟩) (Nat.le_of_ble_eq_true rfl) (Nat.le_of_ble_eq_true rfl)
  · replace hp := gw_f z hp
    refine gw_aload_n X 37 0 dX3_isAsked_36 rfl rfl rfl ?_
    refine gM_g0_21 X 40 q1415 dX3_isAsked_37 rfl ?_
    refine gw_iload_n X 41 1 dX3_isAsked_40 rfl rfl rfl ?_
    refine gw_iconst X 42 dX3_isAsked_41 rfl gw_ci_m1 ?_
    obtain ⟨hc, hp⟩ := gw_ck_some hp
    refine gM_s11 X 43 (Int32.toNatClampNeg x1) hc rfl dX3_isAsked_42 rfl ?_
    cases hp
    exact gw_vret X dX3_isAsked_43 (fun _ h => ⟨rfl, h⟩) (Nat.le_of_ble_eq_true rfl) (Nat.le_of_ble_eq_true rfl)
abbrev rm_X3_does : Room := { frames := 3, cells := 0, slots := 0, locals := 64 }
def fx_X3_does (σ : gw_S) (x1 : Int32) (x2 : Int32) (x3 : Int32) (x4 : Int32) (x5 : Int32) : Option (gw_S) := (if x1 = 0 then gw_b1 (fx_X3_isAsked σ x3) (fun σ13 => some (gw_u σ13 0 27 ((σ13.1 0 27) + (1 : Int32)))) else (if x1 = (1 : Int32) then gw_ck x4 8 (gw_let (gw_u σ 11 (Int32.toNatClampNeg x4) x5) (fun σ9 => gw_b1 (fx_X3_isAsked σ9 x3) (fun σ11 => some σ11))) else (if x1 = (2 : Int32) then gw_ck x2 8 (gw_ck x3 8 (gw_ck x2 8 (gw_let (gw_u σ 11 (Int32.toNatClampNeg x2) (σ.1 11 (Int32.toNatClampNeg x3))) (fun σ7 => gw_ck x3 8 (some (gw_u σ7 11 (Int32.toNatClampNeg x3) (σ.1 11 (Int32.toNatClampNeg x2)))))))) else (if x1 = (3 : Int32) then gw_ck x3 8 (gw_ck x3 8 (gw_let (gw_u σ 13 (Int32.toNatClampNeg x3) (σ.1 11 (Int32.toNatClampNeg x3))) (fun σ3 => gw_ck x3 8 (gw_let (gw_u σ3 11 (Int32.toNatClampNeg x3) x2) (fun σ5 => some (gw_u σ5 0 25 ((σ5.1 0 25) ||| ((1 : Int32) <<< (x3 &&& 31))))))))) else gw_b1 (fx_X3_dayEnds σ) (fun σ1 => some σ1)))))
set_option maxHeartbeats 4000000 in
theorem mt_X3_does {l : Launch} {D : gw_D} {a : Nat → Nat} {Wr : va_W → Prop} {σ : gw_S} {x1 : Int32} {x2 : Int32} {x3 : Int32} {x4 : Int32} {x5 : Int32} {res : gw_S} (hp : fx_X3_does σ x1 x2 x3 x4 x5 = some res) : gw_Ct D l yX3_does cX3_does 7 none rm_X3_does [.ref (a 0), .int x1, .int x2, .int x3, .int x4, .int x5] (gw_st (wM D a σ) Wr) (gw_pV (gw_st (wM D a res) Wr)) := by
  refine gw_ct (own := RX3) [(0, .ref (a 0)), (1, .int x1), (2, .int x2), (3, .int x3), (4, .int x4), (5, .int x5)] (by decide) rfl (Nat.le_of_ble_eq_true rfl) rfl ?_
  intro E X
  unfold fx_X3_does at hp
  refine gw_iload_n X 1 1 dX3_does_0 rfl rfl rfl ?_
  refine gw_if_ne X 22 4 dX3_does_1 rfl rfl (fun z => ?_) (fun z => ?_)
  · replace hp := gw_f z hp
    refine gw_iload_n X 23 1 dX3_does_22 rfl rfl rfl ?_
    refine gw_iconst X 24 dX3_does_23 rfl gw_ci_1 ?_
    refine gw_icmp_ne X 44 27 dX3_does_24 rfl rfl (fun z => ?_) (fun z => ?_)
    · replace hp := gw_f z hp
      refine gw_iload_n X 45 1 dX3_does_44 rfl rfl rfl ?_
      refine gw_iconst X 46 dX3_does_45 rfl gw_ci_2 ?_
      refine gw_icmp_ne X 80 49 dX3_does_46 rfl rfl (fun z => ?_) (fun z => ?_)
      · replace hp := gw_f z hp
        refine gw_iload_n X 81 1 dX3_does_80 rfl rfl rfl ?_
        refine gw_iconst X 82 dX3_does_81 rfl gw_ci_3 ?_
        refine gw_icmp_ne X 119 85 dX3_does_82 rfl rfl (fun z => ?_) (fun z => ?_)
        · replace hp := gw_f z hp
          refine gw_aload_n X 120 0 dX3_does_119 rfl rfl rfl ?_
          obtain ⟨σ1, h2, hp⟩ := gw_b1_some hp
          refine gw_callVv X 123 [] (mt_X3_dayEnds h2) lk_X3_246 ydv_X3_dayEnds gM_cl0 gM_at0 rfl rfl rfl dX3_does_120 rfl rfl rfl ?_
          cases hp
          exact gw_vret X dX3_does_123 (fun _ h => ⟨rfl, h⟩) (Nat.le_of_ble_eq_true rfl) (Nat.le_of_ble_eq_true rfl)
        · replace hp := gw_t z hp
          refine gw_aload_n X 86 0 dX3_does_85 rfl rfl rfl ?_
          refine gM_g0_23 X 89 q1417 dX3_does_86 rfl ?_
          refine gw_iload_n X 90 3 dX3_does_89 rfl rfl rfl ?_
          refine gw_aload_n X 91 0 dX3_does_90 rfl rfl rfl ?_
          refine gM_g0_21 X 94 q1415 dX3_does_91 rfl ?_
          refine gw_iload_n X 95 3 dX3_does_94 rfl rfl rfl ?_
          obtain ⟨hc, hp⟩ := gw_ck_some hp
          refine gM_l11 X 96 (Int32.toNatClampNeg x3) hc rfl dX3_does_95 rfl ?_
          obtain ⟨hc, hp⟩ := gw_ck_some hp
          refine gM_s13 X 97 (Int32.toNatClampNeg x3) hc rfl dX3_does_96 rfl ?_
          refine gw_aload_n X 98 0 dX3_does_97 rfl rfl rfl ?_
          obtain ⟨σ3, h4, hp⟩ := gw_let_some hp
          rw [← h4]
          clear h4
          refine gM_g0_21 X 101 q1415 dX3_does_98 rfl ?_
          refine gw_iload_n X 102 3 dX3_does_101 rfl rfl rfl ?_
          refine gw_iload_n X 103 2 dX3_does_102 rfl rfl rfl ?_
          obtain ⟨hc, hp⟩ := gw_ck_some hp
          refine gM_s11 X 104 (Int32.toNatClampNeg x3) hc rfl dX3_does_103 rfl ?_
          refine gw_aload_n X 105 0 dX3_does_104 rfl rfl rfl ?_
          refine gw_dup X 106 dX3_does_105 rfl rfl ?_
          obtain ⟨σ5, h6, hp⟩ := gw_let_some hp
          rw [← h6]
          clear h6
          refine gM_g0_25 X 109 q1419 dX3_does_106 rfl ?_
          refine gw_iconst X 110 dX3_does_109 rfl gw_ci_1 ?_
          refine gw_iload_n X 111 3 dX3_does_110 rfl rfl rfl ?_
          refine gw_ishl X 112 dX3_does_111 rfl ?_
          refine gw_ior X 113 dX3_does_112 rfl ?_
          refine gM_p0_25 X 116 q1419 dX3_does_113 rfl ?_
          refine gw_goto X 123 dX3_does_116 rfl ?_
          cases hp
          exact gw_vret X dX3_does_123 (fun _ h => ⟨rfl, h⟩) (Nat.le_of_ble_eq_true rfl) (Nat.le_of_ble_eq_true rfl)
      · replace hp := gw_t z hp
        refine gw_aload_n X 50 0 dX3_does_49 rfl rfl rfl ?_
        refine gM_g0_21 X 53 q1415 dX3_does_50 rfl ?_
        refine gw_iload_n X 54 2 dX3_does_53 rfl rfl rfl ?_
        obtain ⟨hc, hp⟩ := gw_ck_some hp
        refine gM_l11 X 55 (Int32.toNatClampNeg x2) hc rfl dX3_does_54 rfl ?_
        refine gw_istore X 57 [(6, .int (σ.1 11 (Int32.toNatClampNeg x2))), (0, .ref (a 0)), (1, .int x1), (2, .int x2), (3, .int x3), (4, .int x4), (5, .int x5)] dX3_does_55 rfl (by decide) rfl ?_
        refine gw_aload_n X 58 1 dX3_does_57 rfl rfl rfl ?_
        refine gM_g0_21 X 61 q1415 dX3_does_58 rfl ?_
        refine gw_iload_n X 62 3 dX3_does_61 rfl rfl rfl ?_
        refine gw_aload_n X 63 1 dX3_does_62 rfl rfl rfl ?_
        refine gM_g0_21 X 66 q1415 dX3_does_63 rfl ?_
        refine gw_iload_n X 67 4 dX3_does_66 rfl rfl rfl ?_
        obtain ⟨hc, hp⟩ := gw_ck_some hp
        refine gM_l11 X 68 (Int32.toNatClampNeg x3) hc rfl dX3_does_67 rfl ?_
        obtain ⟨hc, hp⟩ := gw_ck_some hp
        refine gM_s11 X 69 (Int32.toNatClampNeg x2) hc rfl dX3_does_68 rfl ?_
        refine gw_aload_n X 70 1 dX3_does_69 rfl rfl rfl ?_
        obtain ⟨σ7, h8, hp⟩ := gw_let_some hp
        rw [← h8]
        clear h8
        refine gM_g0_21 X 73 q1415 dX3_does_70 rfl ?_
        refine gw_iload_n X 74 4 dX3_does_73 rfl rfl rfl ?_
        refine gw_iload X 76 0 dX3_does_74 rfl rfl ?_
        obtain ⟨hc, hp⟩ := gw_ck_some hp
        refine gM_s11 X 77 (Int32.toNatClampNeg x3) hc rfl dX3_does_76 rfl ?_
        refine gw_goto X 123 dX3_does_77 rfl ?_
        cases hp
        exact gw_vret X dX3_does_123 (fun _ h => ⟨rfl, h⟩) (Nat.le_of_ble_eq_true rfl) (Nat.le_of_ble_eq_true rfl)
    · replace hp := gw_t z hp
      refine gw_aload_n X 28 0 dX3_does_27 rfl rfl rfl ?_
      refine gM_g0_21 X 31 q1415 dX3_does_28 rfl ?_
      refine gw_iload X 33 4 dX3_does_31 rfl rfl ?_
      refine gw_iload X 35 5 dX3_does_33 rfl rfl ?_
      obtain ⟨hc, hp⟩ := gw_ck_some hp
      refine gM_s11 X 36 (Int32.toNatClampNeg x4) hc rfl dX3_does_35 rfl ?_
      refine gw_aload_n X 37 0 dX3_does_36 rfl rfl rfl ?_
      refine gw_iload_n X 38 3 dX3_does_37 rfl rfl rfl ?_
      obtain ⟨σ9, h10, hp⟩ := gw_let_some hp
      rw [← h10]
      clear h10
      obtain ⟨σ11, h12, hp⟩ := gw_b1_some hp
      refine gw_callVv X 41 [.int x3] (mt_X3_isAsked h12) lk_X3_243 ydv_X3_isAsked gM_cl0 gM_at0 rfl rfl rfl dX3_does_38 rfl rfl rfl ?_
      refine gw_goto X 123 dX3_does_41 rfl ?_
      cases hp
      exact gw_vret X dX3_does_123 (fun _ h => ⟨rfl, h⟩) (Nat.le_of_ble_eq_true rfl) (Nat.le_of_ble_eq_true rfl)
  · replace hp := gw_t z hp
    refine gw_aload_n X 5 0 dX3_does_4 rfl rfl rfl ?_
    refine gw_iload_n X 6 3 dX3_does_5 rfl rfl rfl ?_
    obtain ⟨σ13, h14, hp⟩ := gw_b1_some hp
    refine gw_callVv X 9 [.int x3] (mt_X3_isAsked h14) lk_X3_243 ydv_X3_isAsked gM_cl0 gM_at0 rfl rfl rfl dX3_does_6 rfl rfl rfl ?_
    refine gw_aload_n X 10 0 dX3_does_9 rfl rfl rfl ?_
    refine gw_dup X 11 dX3_does_10 rfl rfl ?_
    refine gM_g0_27 X 14 q1421 dX3_does_11 rfl ?_
    refine gw_iconst X 15 dX3_does_14 rfl gw_ci_1 ?_
    refine gw_iadd X 16 dX3_does_15 rfl ?_
    refine gM_p0_27 X 19 q1421 dX3_does_16 rfl ?_
    refine gw_goto X 123 dX3_does_19 rfl ?_
    cases hp
    exact gw_vret X dX3_does_123 (fun _ h => ⟨rfl, h⟩) (Nat.le_of_ble_eq_true rfl) (Nat.le_of_ble_eq_true rfl)
