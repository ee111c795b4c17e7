set_option maxRecDepth 100000
abbrev rm_X0_laysOf : Room := { frames := 1, cells := 0, slots := 0, locals := 22 }
def fx_X0_laysOf_L39 {τ : Type} (k : Int32 → Option (τ)) (σ : gw_S) (v1 : Int32) (v2 : Int32) (v3 : Int32) : Nat → Int32 → Int32 → Option (τ)
  | 0, _, _ => none
  | n + 1, c4, c5 => (if (σ.1 1 2) ≤ c5 then k c4 else gw_ck c5 8 ((if (σ.1 3 (Int32.toNatClampNeg c5)) = v2 then (if c4 = (-1 : Int32) then fx_X0_laysOf_L39 k σ v1 v2 v3 n c5 (c5 + 1) else gw_b1 (fx_X0_won σ v3 c5) (fun r1 => gw_b1 (fx_X0_won σ v3 c4) (fun r3 => (if r3 ≤ r1 then fx_X0_laysOf_L39 k σ v1 v2 v3 n c4 (c5 + 1) else fx_X0_laysOf_L39 k σ v1 v2 v3 n c5 (c5 + 1))))) else fx_X0_laysOf_L39 k σ v1 v2 v3 n c4 (c5 + 1))))
def fx_X0_laysOf_L9 (v1 : Int32) (v2 : Int32) : Nat → Int32 → gw_S → Option (gw_S)
  | 0, _, _ => none
  | n + 1, c3, σ => (if (σ.1 1 2) ≤ c3 then some σ else gw_ck c3 8 ((if (σ.1 3 (Int32.toNatClampNeg c3)) = v1 then fx_X0_laysOf_L39 (fun (e5 : Int32) => gw_b1 (fx_X0_won σ c3 e5) (fun r6 => (if (σ.1 0 17) < r6 then gw_b1 (fx_X0_won σ c3 e5) (fun r8 => gw_let (gw_u σ 0 17 r8) (fun σ10 => gw_let (gw_u σ10 0 18 c3) (fun σ12 => fx_X0_laysOf_L9 v1 v2 n (c3 + 1) (gw_u σ12 0 19 e5)))) else fx_X0_laysOf_L9 v1 v2 n (c3 + 1) σ))) σ v1 v2 c3 1000 (-1 : Int32) (0 : Int32) else fx_X0_laysOf_L9 v1 v2 n (c3 + 1) σ)))
def fx_X0_laysOf (σ : gw_S) (x1 : Int32) (x2 : Int32) : Option (gw_S) := fx_X0_laysOf_L9 x1 x2 1000 (0 : Int32) (gw_u σ 0 17 (-1000000000))
set_option maxHeartbeats 4000000 in
theorem wk_X0_laysOf_L39 {E : gw_E} {l : Launch} {D : gw_D} {a : Nat → Nat} {Wr : va_W → Prop} {σ : gw_S} {τ : Type} {res : τ} {post : Option (Option Value → va_W → Prop)} (X : gw_X E cX0_laysOf 6 RX0 none l D rm_X0_laysOf post) {k : Int32 → Option (τ)} {v1 : Int32} {v2 : Int32} {v3 : Int32} : ∀ {n : Nat} {c4 : Int32} {c5 : Int32}, fx_X0_laysOf_L39 k σ v1 v2 v3 n c4 c5 = some res → (∀ (c4 : Int32), k c4 = some res → gw_W E 95 [(0, .ref (a 0)), (1, .int v1), (2, .int v2), (3, .int v3), (4, .int c4)] [] (gw_st (wX D a σ) Wr) 0 0) → gw_W E 39 [(0, .ref (a 0)), (1, .int v1), (2, .int v2), (3, .int v3), (4, .int c4), (5, .int c5)] [] (gw_st (wX D a σ) Wr) 0 0 := by
  intro n
  induction n with
  | zero =>
    intro c4 c5 hp hk
    cases (show none = some res from hp)
  | succ n ih =>
    intro c4 c5 hp hk
    rw [fx_X0_laysOf_L39] at hp
    refine gw_iload X 41 5 dX0_laysOf_39 rfl rfl ?_
    refine gw_aload_n X 42 0 dX0_laysOf_41 rfl rfl rfl ?_
    refine gX_g0_0 X 45 q280 dX0_laysOf_42 rfl ?_
    refine gX_g1_2N X 48 q193 dX0_laysOf_45 rfl ?_
    refine gw_icmp_ge X 95 51 dX0_laysOf_48 rfl rfl (fun z => ?_) (fun z => ?_)
    · replace hp := gw_t z hp
      refine gw_lv [0, 1, 2, 3, 4] rfl ?_
      exact hk _ hp
    · replace hp := gw_f z hp
      refine gw_aload_n X 52 0 dX0_laysOf_51 rfl rfl rfl ?_
      refine gX_g0_9 X 55 q303 dX0_laysOf_52 rfl ?_
      refine gw_iload X 57 5 dX0_laysOf_55 rfl rfl ?_
      obtain ⟨hc, hp⟩ := gw_ck_some hp
      refine gX_l3 X 58 (Int32.toNatClampNeg c5) hc rfl dX0_laysOf_57 rfl ?_
      refine gw_iload_n X 59 2 dX0_laysOf_58 rfl rfl rfl ?_
      refine gw_icmp_ne X 89 62 dX0_laysOf_59 rfl rfl (fun z => ?_) (fun z => ?_)
      · replace hp := gw_f z hp
        refine gw_iinc X 92 5 [(5, .int (c5 + 1)), (0, .ref (a 0)), (1, .int v1), (2, .int v2), (3, .int v3), (4, .int c4)] dX0_laysOf_89 rfl rfl gw_ci_1 (by decide) rfl ?_
        refine gw_goto X 39 dX0_laysOf_92 rfl ?_
        refine gw_lv [1, 2, 3, 4, 5, 0] rfl ?_
        exact ih hp hk
      · replace hp := gw_t z hp
        refine gw_iload X 64 4 dX0_laysOf_62 rfl rfl ?_
        refine gw_iconst X 65 dX0_laysOf_64 rfl gw_ci_m1 ?_
        refine gw_icmp_eq X 85 68 dX0_laysOf_65 rfl rfl (fun z => ?_) (fun z => ?_)
        · replace hp := gw_t z hp
          refine gw_iload X 87 5 dX0_laysOf_85 rfl rfl ?_
          refine gw_istore X 89 [(4, .int c5), (0, .ref (a 0)), (1, .int v1), (2, .int v2), (3, .int v3), (5, .int c5)] dX0_laysOf_87 rfl (by decide) rfl ?_
          refine gw_iinc X 92 5 [(5, .int (c5 + 1)), (4, .int c5), (0, .ref (a 0)), (1, .int v1), (2, .int v2), (3, .int v3)] dX0_laysOf_89 rfl rfl gw_ci_1 (by decide) rfl ?_
          refine gw_goto X 39 dX0_laysOf_92 rfl ?_
          refine gw_lv [2, 3, 4, 5, 1, 0] rfl ?_
          exact ih hp hk
        · replace hp := gw_f z hp
          refine gw_aload_n X 69 0 dX0_laysOf_68 rfl rfl rfl ?_
          refine gw_iload_n X 70 3 dX0_laysOf_69 rfl rfl rfl ?_
          refine gw_iload X 72 5 dX0_laysOf_70 rfl rfl ?_
          obtain ⟨r1, h2, hp⟩ := gw_b1_some hp
          refine gw_callVi X 75 [.int v3, .int c5] (mt_X0_won h2) lk_X0_345 ydv_X0_won gX_cl0 gX_at0 rfl rfl rfl dX0_laysOf_72 rfl rfl rfl ?_
          refine gw_aload_n X 76 0 dX0_laysOf_75 rfl rfl rfl ?_
          refine gw_iload_n X 77 3 dX0_laysOf_76 rfl rfl rfl ?_
          refine gw_iload X 79 4 dX0_laysOf_77 rfl rfl ?_
          obtain ⟨r3, h4, hp⟩ := gw_b1_some hp
          refine gw_callVi X 82 [.int v3, .int c4] (mt_X0_won h4) lk_X0_345 ydv_X0_won gX_cl0 gX_at0 rfl rfl rfl dX0_laysOf_79 rfl rfl rfl ?_
          refine gw_icmp_ge X 89 85 dX0_laysOf_82 rfl rfl (fun z => ?_) (fun z => ?_)
          · replace hp := gw_t z hp
            refine gw_iinc X 92 5 [(5, .int (c5 + 1)), (0, .ref (a 0)), (1, .int v1), (2, .int v2), (3, .int v3), (4, .int c4)] dX0_laysOf_89 rfl rfl gw_ci_1 (by decide) rfl ?_
            refine gw_goto X 39 dX0_laysOf_92 rfl ?_
            refine gw_lv [1, 2, 3, 4, 5, 0] rfl ?_
            exact ih hp hk
          · replace hp := gw_f z hp
            refine gw_iload X 87 5 dX0_laysOf_85 rfl rfl ?_
            refine gw_istore X 89 [(4, .int c5), (0, .ref (a 0)), (1, .int v1), (2, .int v2), (3, .int v3), (5, .int c5)] dX0_laysOf_87 rfl (by decide) rfl ?_
            refine gw_iinc X 92 5 [(5, .int (c5 + 1)), (4, .int c5), (0, .ref (a 0)), (1, .int v1), (2, .int v2), (3, .int v3)] dX0_laysOf_89 rfl rfl gw_ci_1 (by decide) rfl ?_
            refine gw_goto X 39 dX0_laysOf_92 rfl ?_
            refine gw_lv [2, 3, 4, 5, 1, 0] rfl ?_
            exact ih hp hk
set_option maxHeartbeats 4000000 in
theorem wk_X0_laysOf_L9 {E : gw_E} {l : Launch} {D : gw_D} {a : Nat → Nat} {Wr : va_W → Prop} {res : gw_S} (X : gw_X E cX0_laysOf 6 RX0 none l D rm_X0_laysOf (some (gw_pV (gw_st (wX D a res) Wr)))) {v1 : Int32} {v2 : Int32} : ∀ {n : Nat} {c3 : Int32} {σ : gw_S}, fx_X0_laysOf_L9 v1 v2 n c3 σ = some res → gw_W E 9 [(0, .ref (a 0)), (1, .int v1), (2, .int v2), (3, .int c3)] [] (gw_st (wX D a σ) Wr) 0 0 := by
  intro n
  induction n with
  | zero =>
    intro c3 σ hp
    cases (show none = some res from hp)
  | succ n ih =>
    intro c3 σ hp
    rw [fx_X0_laysOf_L9] at hp
    refine gw_iload_n X 10 3 dX0_laysOf_9 rfl rfl rfl ?_
    refine gw_aload_n X 11 0 dX0_laysOf_10 rfl rfl rfl ?_
    refine gX_g0_0 X 14 q280 dX0_laysOf_11 rfl ?_
    refine gX_g1_2N X 17 q193 dX0_laysOf_14 rfl ?_
    refine gw_icmp_ge X 140 20 dX0_laysOf_17 rfl rfl (fun z => ?_) (fun z => ?_)
    · replace hp := gw_t z hp
      cases hp
      exact gw_vret X dX0_laysOf_140 (fun _ h => ⟨rfl, h⟩) (Nat.le_of_ble_eq_true rfl) (Nat.le_of_ble_eq_true rfl)
    · replace hp := gw_f z hp
      refine gw_aload_n X 21 0 dX0_laysOf_20 rfl rfl rfl ?_
      refine gX_g0_9 X 24 q303 dX0_laysOf_21 rfl ?_
      refine gw_iload_n X 25 3 dX0_laysOf_24 rfl rfl rfl ?_
      obtain ⟨hc, hp⟩ := gw_ck_some hp
      refine gX_l3 X 26 (Int32.toNatClampNeg c3) hc rfl dX0_laysOf_25 rfl ?_
      refine gw_iload_n X 27 1 dX0_laysOf_26 rfl rfl rfl ?_
      refine gw_icmp_eq X 33 30 dX0_laysOf_27 rfl rfl (fun z => ?_) (fun z => ?_)
      · replace hp := gw_t z hp
        refine gw_iconst X 34 dX0_laysOf_33 rfl gw_ci_m1 ?_
        refine gw_istore X 36 [(4, .int (-1)), (0, .ref (a 0)), (1, .int v1), (2, .int v2), (3, .int c3)] dX0_laysOf_34 rfl (by decide) rfl ?_
        refine gw_iconst X 37 dX0_laysOf_36 rfl gw_ci_0 ?_
        refine gw_istore X 39 [(5, .int 0), (4, .int (-1)), (0, .ref (a 0)), (1, .int v1), (2, .int v2), (3, .int c3)] dX0_laysOf_37 rfl (by decide) rfl ?_
        refine gw_lv [2, 3, 4, 5, 1, 0] rfl ?_
        refine wk_X0_laysOf_L39 X hp ?_
        clear hp
        intro e5 hp
        refine gw_aload_n X 96 0 dX0_laysOf_95 rfl rfl rfl ?_
        refine gw_iload_n X 97 3 dX0_laysOf_96 rfl rfl rfl ?_
        refine gw_iload X 99 4 dX0_laysOf_97 rfl rfl ?_
        obtain ⟨r6, h7, hp⟩ := gw_b1_some hp
        refine gw_callVi X 102 [.int c3, .int e5] (mt_X0_won h7) lk_X0_345 ydv_X0_won gX_cl0 gX_at0 rfl rfl rfl dX0_laysOf_99 rfl rfl rfl ?_
        refine gw_aload_n X 103 0 dX0_laysOf_102 rfl rfl rfl ?_
        refine gX_g0_17 X 106 q314 dX0_laysOf_103 rfl ?_
        refine gw_icmp_gt X 112 109 dX0_laysOf_106 rfl rfl (fun z => ?_) (fun z => ?_)
        · replace hp := gw_t z hp
          refine gw_aload_n X 113 0 dX0_laysOf_112 rfl rfl rfl ?_
          refine gw_aload_n X 114 0 dX0_laysOf_113 rfl rfl rfl ?_
          refine gw_iload_n X 115 3 dX0_laysOf_114 rfl rfl rfl ?_
          refine gw_iload X 117 4 dX0_laysOf_115 rfl rfl ?_
          obtain ⟨r8, h9, hp⟩ := gw_b1_some hp
          refine gw_callVi X 120 [.int c3, .int e5] (mt_X0_won h9) lk_X0_345 ydv_X0_won gX_cl0 gX_at0 rfl rfl rfl dX0_laysOf_117 rfl rfl rfl ?_
          refine gX_p0_17 X 123 q314 dX0_laysOf_120 rfl ?_
          refine gw_aload_n X 124 0 dX0_laysOf_123 rfl rfl rfl ?_
          refine gw_iload_n X 125 3 dX0_laysOf_124 rfl rfl rfl ?_
          obtain ⟨σ10, h11, hp⟩ := gw_let_some hp
          rw [← h11]
          clear h11
          refine gX_p0_18 X 128 q315 dX0_laysOf_125 rfl ?_
          refine gw_aload_n X 129 0 dX0_laysOf_128 rfl rfl rfl ?_
          refine gw_iload X 131 4 dX0_laysOf_129 rfl rfl ?_
          obtain ⟨σ12, h13, hp⟩ := gw_let_some hp
          rw [← h13]
          clear h13
          refine gX_p0_19 X 134 q316 dX0_laysOf_131 rfl ?_
          refine gw_iinc X 137 3 [(3, .int (c3 + 1)), (0, .ref (a 0)), (1, .int v1), (2, .int v2), (4, .int e5)] dX0_laysOf_134 rfl rfl gw_ci_1 (by decide) rfl ?_
          refine gw_goto X 9 dX0_laysOf_137 rfl ?_
          refine gw_lv [1, 2, 3, 0] rfl ?_
          exact ih hp
        · replace hp := gw_f z hp
          refine gw_goto X 134 dX0_laysOf_109 rfl ?_
          refine gw_iinc X 137 3 [(3, .int (c3 + 1)), (0, .ref (a 0)), (1, .int v1), (2, .int v2), (4, .int e5)] dX0_laysOf_134 rfl rfl gw_ci_1 (by decide) rfl ?_
          refine gw_goto X 9 dX0_laysOf_137 rfl ?_
          refine gw_lv [1, 2, 3, 0] rfl ?_
          exact ih hp
      · replace hp := gw_f z hp
        refine gw_goto X 134 dX0_laysOf_30 rfl ?_
        refine gw_iinc X 137 3 [(3, .int (c3 + 1)), (0, .ref (a 0)), (1, .int v1), (2, .int v2)] dX0_laysOf_134 rfl rfl gw_ci_1 (by decide) rfl ?_
        refine gw_goto X 9 dX0_laysOf_137 rfl ?_
        refine gw_lv [1, 2, 3, 0] rfl ?_
        exact ih hp
set_option maxHeartbeats 4000000 in
theorem mt_X0_laysOf {l : Launch} {D : gw_D} {a : Nat → Nat} {Wr : va_W → Prop} {σ : gw_S} {x1 : Int32} {x2 : Int32} {res : gw_S} (hp : fx_X0_laysOf σ x1 x2 = some res) : gw_Ct D l yX0_laysOf cX0_laysOf 6 none rm_X0_laysOf [.ref (a 0), .int x1, .int x2] (gw_st (wX D a σ) Wr) (gw_pV (gw_st (wX D a res) Wr)) := by
  refine gw_ct (own := RX0) [(0, .ref (a 0)), (1, .int x1), (2, .int x2)] (by decide) rfl (Nat.le_of_ble_eq_true rfl) rfl ?_
  intro E X
  unfold fx_X0_laysOf at hp
  refine gw_aload_n X 1 0 dX0_laysOf_0 rfl rfl rfl ?_
  refine gw_ldcw X 4 dX0_laysOf_1 rfl q1149 ?_
  refine gX_p0_17 X 7 q314 dX0_laysOf_4 rfl ?_
  refine gw_iconst X 8 dX0_laysOf_7 rfl gw_ci_0 ?_
  refine gw_istore_n X 9 [(3, .int 0), (0, .ref (a 0)), (1, .int x1), (2, .int x2)] dX0_laysOf_8 rfl rfl (by decide) rfl ?_
  refine gw_lv [1, 2, 3, 0] rfl ?_
  exact wk_X0_laysOf_L9 X hp
abbrev rm_X0_isSet : Room := { frames := 1, cells := 0, slots := 0, locals := 25 }
def fx_X0_isSet (σ : gw_S) (x1 : Int32) : Bool := (if fx_X0_isCity σ = true then (if fx_X0_isIn (Int32.toInt64 x1) (0 : Int64) (Int32.toInt64 (fx_X0_all σ)) = true then true else false) else false)
set_option maxHeartbeats 4000000 in
theorem mt_X0_isSet {l : Launch} {D : gw_D} {a : Nat → Nat} {Wr : va_W → Prop} {σ : gw_S} {x1 : Int32} {res : Bool} (hp : fx_X0_isSet σ x1 = res) : gw_Ct D l yX0_isSet cX0_isSet 2 (some .boolean) rm_X0_isSet [.ref (a 0), .int x1] (gw_st (wX D a σ) Wr) (gw_pI (gw_b res) (gw_st (wX D a σ) Wr)) := by
  refine gw_ct (own := RX0) [(0, .ref (a 0)), (1, .int x1)] (by decide) rfl (Nat.le_of_ble_eq_true rfl) rfl ?_
  intro E X
  unfold fx_X0_isSet at hp
  refine gw_aload_n X 1 0 dX0_isSet_0 rfl rfl rfl ?_
  refine gw_callVi X 4 [] (mt_X0_isCity rfl) lk_X0_103 ydv_X0_isCity gX_cl0 gX_at0 rfl rfl rfl dX0_isSet_1 rfl rfl rfl ?_
  refine gw_if_eqB X 25 7 dX0_isSet_4 rfl rfl (fun z => ?_) (fun z => ?_)
  · replace hp := gw_f z hp
    refine gw_iconst X 26 dX0_isSet_25 rfl gw_ci_0 ?_
    cases hp
    exact gw_zret0 X dX0_isSet_26 (fun _ h => ⟨rfl, h⟩) (Nat.le_of_ble_eq_true rfl) (Nat.le_of_ble_eq_true rfl)
  · replace hp := gw_t z hp
    refine gw_iload_n X 8 1 dX0_isSet_7 rfl rfl rfl ?_
    refine gw_i2l X 9 dX0_isSet_8 rfl ?_
    refine gw_lconst X 10 dX0_isSet_9 rfl gw_cl_0 ?_
    refine gw_aload_n X 11 0 dX0_isSet_10 rfl rfl rfl ?_
    refine gw_callVi X 14 [] (mt_X0_all rfl) lk_X0_107 ydv_X0_all gX_cl0 gX_at0 rfl rfl rfl dX0_isSet_11 rfl rfl rfl ?_
    refine gw_i2l X 15 dX0_isSet_14 rfl ?_
    refine gw_callSi X 18 [.long (Int32.toInt64 x1), .long 0, .long (Int32.toInt64 (fx_X0_all σ))] (mt_X0_isIn rfl) lk_X0_67 yd_X0_isIn rfl rfl rfl dX0_isSet_15 rfl rfl rfl ?_
    refine gw_if_eqB X 25 21 dX0_isSet_18 rfl rfl (fun z => ?_) (fun z => ?_)
    · replace hp := gw_f z hp
      refine gw_iconst X 26 dX0_isSet_25 rfl gw_ci_0 ?_
      cases hp
      exact gw_zret0 X dX0_isSet_26 (fun _ h => ⟨rfl, h⟩) (Nat.le_of_ble_eq_true rfl) (Nat.le_of_ble_eq_true rfl)
    · replace hp := gw_t z hp
      refine gw_iconst X 22 dX0_isSet_21 rfl gw_ci_1 ?_
      refine gw_goto X 26 dX0_isSet_22 rfl ?_
      cases hp
      exact gw_zret1 X dX0_isSet_26 (fun _ h => ⟨rfl, h⟩) (Nat.le_of_ble_eq_true rfl) (Nat.le_of_ble_eq_true rfl)
abbrev rm_X0_winsBy : Room := { frames := 2, cells := 0, slots := 0, locals := 44 }
def fx_X0_winsBy (σ : gw_S) (x1 : Int32) (x2 : Int32) : Option (Int32) := gw_ck x2 8 (gw_b1 (if (σ.1 3 (Int32.toNatClampNeg x2)) = (-1 : Int32) then some (0 : Int32) else gw_ck x2 8 ((if (σ.1 3 (Int32.toNatClampNeg x2)) = x2 then some (0 : Int32) else gw_ck x2 8 ((if fx_X0_isOf x1 (σ.1 3 (Int32.toNatClampNeg x2)) = true then gw_ck x2 8 (some (σ.1 9 (Int32.toNatClampNeg x2))) else some (0 : Int32)))))) (fun (y1 : Int32) => gw_b1 (fx_X0_handOf σ x2) (fun r2 => gw_b1 (fx_X0_worthOf σ (r2 &&& (((1 : Int32) <<< (x2 &&& 31)) ^^^ (-1 : Int32)))) (fun r4 => some (y1 - r4)))))
set_option maxHeartbeats 4000000 in
theorem mt_X0_winsBy {l : Launch} {D : gw_D} {a : Nat → Nat} {Wr : va_W → Prop} {σ : gw_S} {x1 : Int32} {x2 : Int32} {res : Int32} (hp : fx_X0_winsBy σ x1 x2 = some res) : gw_Ct D l yX0_winsBy cX0_winsBy 4 (some .int) rm_X0_winsBy [.ref (a 0), .int x1, .int x2] (gw_st (wX D a σ) Wr) (gw_pI res (gw_st (wX D a σ) Wr)) := by
  refine gw_ct (own := RX0) [(0, .ref (a 0)), (1, .int x1), (2, .int x2)] (by decide) rfl (Nat.le_of_ble_eq_true rfl) rfl ?_
  intro E X
  unfold fx_X0_winsBy at hp
  refine gw_aload_n X 1 0 dX0_winsBy_0 rfl rfl rfl ?_
  refine gX_g0_9 X 4 q303 dX0_winsBy_1 rfl ?_
  refine gw_iload_n X 5 2 dX0_winsBy_4 rfl rfl rfl ?_
  obtain ⟨hc, hp⟩ := gw_ck_some hp
  refine gX_l3 X 6 (Int32.toNatClampNeg x2) hc rfl dX0_winsBy_5 rfl ?_
  refine gw_iconst X 7 dX0_winsBy_6 rfl gw_ci_m1 ?_
  obtain ⟨y1, h6, hp⟩ := gw_b1_some hp
  have kJ : gw_W E 46 [(0, .ref (a 0)), (2, .int x2)] [.int y1] (gw_st (wX D a σ) Wr) 0 0 := by
    refine gw_istore_n X 47 [(3, .int y1), (0, .ref (a 0)), (2, .int x2)] dX0_winsBy_46 rfl rfl (by decide) rfl ?_
    refine gw_iload_n X 48 0 dX0_winsBy_47 rfl rfl rfl ?_
    refine gw_aload_n X 49 1 dX0_winsBy_48 rfl rfl rfl ?_
    refine gw_aload_n X 50 1 dX0_winsBy_49 rfl rfl rfl ?_
    refine gw_iload_n X 51 2 dX0_winsBy_50 rfl rfl rfl ?_
    obtain ⟨r2, h3, hp⟩ := gw_b1_some hp
    refine gw_callVi X 54 [.int x2] (mt_X0_handOf h3) lk_X0_198 ydv_X0_handOf gX_cl0 gX_at0 rfl rfl rfl dX0_winsBy_51 rfl rfl rfl ?_
    refine gw_iconst X 55 dX0_winsBy_54 rfl gw_ci_1 ?_
    refine gw_iload_n X 56 2 dX0_winsBy_55 rfl rfl rfl ?_
    refine gw_ishl X 57 dX0_winsBy_56 rfl ?_
    refine gw_iconst X 58 dX0_winsBy_57 rfl gw_ci_m1 ?_
    refine gw_ixor X 59 dX0_winsBy_58 rfl ?_
    refine gw_iand X 60 dX0_winsBy_59 rfl ?_
    obtain ⟨r4, h5, hp⟩ := gw_b1_some hp
    refine gw_callVi X 63 [.int (r2 &&& (((1 : Int32) <<< (x2 &&& 31)) ^^^ (-1 : Int32)))] (mt_X0_worthOf h5) lk_X0_288 ydv_X0_worthOf gX_cl0 gX_at0 rfl rfl rfl dX0_winsBy_60 rfl rfl rfl ?_
    refine gw_isub X 64 dX0_winsBy_63 rfl ?_
    cases hp
    exact gw_iret X dX0_winsBy_64 (fun _ h => ⟨rfl, h⟩) (Nat.le_of_ble_eq_true rfl) (Nat.le_of_ble_eq_true rfl)
  clear hp
  have hp := h6
  clear h6
  refine gw_icmp_eq X 45 10 dX0_winsBy_7 rfl rfl (fun z => ?_) (fun z => ?_)
  · replace hp := gw_t z hp
    refine gw_iconst X 46 dX0_winsBy_45 rfl gw_ci_0 ?_
    cases hp
    exact gw_lv [0, 2] rfl kJ
  · replace hp := gw_f z hp
    refine gw_aload_n X 11 0 dX0_winsBy_10 rfl rfl rfl ?_
    refine gX_g0_9 X 14 q303 dX0_winsBy_11 rfl ?_
    refine gw_iload_n X 15 2 dX0_winsBy_14 rfl rfl rfl ?_
    obtain ⟨hc, hp⟩ := gw_ck_some hp
    refine gX_l3 X 16 (Int32.toNatClampNeg x2) hc rfl dX0_winsBy_15 rfl ?_
    refine gw_iload_n X 17 2 dX0_winsBy_16 rfl rfl rfl ?_
    refine gw_icmp_eq X 45 20 dX0_winsBy_17 rfl rfl (fun z => ?_) (fun z => ?_)
    · replace hp := gw_t z hp
      refine gw_iconst X 46 dX0_winsBy_45 rfl gw_ci_0 ?_
      cases hp
      exact gw_lv [0, 2] rfl kJ
    · replace hp := gw_f z hp
      refine gw_iload_n X 21 1 dX0_winsBy_20 rfl rfl rfl ?_
      refine gw_aload_n X 22 0 dX0_winsBy_21 rfl rfl rfl ?_
      refine gX_g0_9 X 25 q303 dX0_winsBy_22 rfl ?_
      refine gw_iload_n X 26 2 dX0_winsBy_25 rfl rfl rfl ?_
      obtain ⟨hc, hp⟩ := gw_ck_some hp
      refine gX_l3 X 27 (Int32.toNatClampNeg x2) hc rfl dX0_winsBy_26 rfl ?_
      refine gw_callSi X 30 [.int x1, .int (σ.1 3 (Int32.toNatClampNeg x2))] (mt_X0_isOf rfl) lk_X0_114 yd_X0_isOf rfl rfl rfl dX0_winsBy_27 rfl rfl rfl ?_
      refine gw_if_eqB X 45 33 dX0_winsBy_30 rfl rfl (fun z => ?_) (fun z => ?_)
      · replace hp := gw_f z hp
        refine gw_iconst X 46 dX0_winsBy_45 rfl gw_ci_0 ?_
        cases hp
        exact gw_lv [0, 2] rfl kJ
      · replace hp := gw_t z hp
        refine gw_aload_n X 34 0 dX0_winsBy_33 rfl rfl rfl ?_
        refine gX_g0_0 X 37 q280 dX0_winsBy_34 rfl ?_
        refine gX_g1_6N X 40 q204 dX0_winsBy_37 rfl ?_
        refine gw_iload_n X 41 2 dX0_winsBy_40 rfl rfl rfl ?_
        obtain ⟨hc, hp⟩ := gw_ck_some hp
        refine gX_l9 X 42 (Int32.toNatClampNeg x2) hc rfl dX0_winsBy_41 rfl ?_
        refine gw_goto X 46 dX0_winsBy_42 rfl ?_
        cases hp
        exact gw_lv [0, 2] rfl kJ
abbrev rm_X0_leaving : Room := { frames := 3, cells := 0, slots := 0, locals := 67 }
def fx_X0_leaving_L4 (σ : gw_S) (v1 : Int32) : Nat → Int32 → Int32 → Option (Int32)
  | 0, _, _ => none
  | n + 1, c2, c3 => (if (σ.1 1 2) ≤ c3 then some c2 else (if fx_X0_isOf v1 c3 = true then gw_b1 (fx_X0_winsBy σ v1 c3) (fun r1 => (if 0 ≤ r1 then fx_X0_leaving_L4 σ v1 n (c2 ||| (0 : Int32)) (c3 + 1) else fx_X0_leaving_L4 σ v1 n (c2 ||| ((1 : Int32) <<< (c3 &&& 31))) (c3 + 1))) else fx_X0_leaving_L4 σ v1 n (c2 ||| (0 : Int32)) (c3 + 1)))
def fx_X0_leaving (σ : gw_S) (x1 : Int32) : Option (Int32) := fx_X0_leaving_L4 σ x1 1000 (0 : Int32) (0 : Int32)
set_option maxHeartbeats 4000000 in
theorem wk_X0_leaving_L4 {E : gw_E} {l : Launch} {D : gw_D} {a : Nat → Nat} {Wr : va_W → Prop} {σ : gw_S} {res : Int32} (X : gw_X E cX0_leaving 4 RX0 (some .int) l D rm_X0_leaving (some (gw_pI res (gw_st (wX D a σ) Wr)))) {v1 : Int32} : ∀ {n : Nat} {c2 : Int32} {c3 : Int32}, fx_X0_leaving_L4 σ v1 n c2 c3 = some res → gw_W E 4 [(0, .ref (a 0)), (1, .int v1), (2, .int c2), (3, .int c3)] [] (gw_st (wX D a σ) Wr) 0 0 := by
  intro n
  induction n with
  | zero =>
    intro c2 c3 hp
    cases (show none = some res from hp)
  | succ n ih =>
    intro c2 c3 hp
    rw [fx_X0_leaving_L4] at hp
    refine gw_iload_n X 5 3 dX0_leaving_4 rfl rfl rfl ?_
    refine gw_aload_n X 6 0 dX0_leaving_5 rfl rfl rfl ?_
    refine gX_g0_0 X 9 q280 dX0_leaving_6 rfl ?_
    refine gX_g1_2N X 12 q193 dX0_leaving_9 rfl ?_
    refine gw_icmp_ge X 48 15 dX0_leaving_12 rfl rfl (fun z => ?_) (fun z => ?_)
    · replace hp := gw_t z hp
      refine gw_iload_n X 49 2 dX0_leaving_48 rfl rfl rfl ?_
      cases hp
      exact gw_iret X dX0_leaving_49 (fun _ h => ⟨rfl, h⟩) (Nat.le_of_ble_eq_true rfl) (Nat.le_of_ble_eq_true rfl)
    · replace hp := gw_f z hp
      refine gw_iload_n X 16 2 dX0_leaving_15 rfl rfl rfl ?_
      refine gw_iload_n X 17 1 dX0_leaving_16 rfl rfl rfl ?_
      refine gw_iload_n X 18 3 dX0_leaving_17 rfl rfl rfl ?_
      refine gw_callSi X 21 [.int v1, .int c3] (mt_X0_isOf rfl) lk_X0_114 yd_X0_isOf rfl rfl rfl dX0_leaving_18 rfl rfl rfl ?_
      refine gw_if_eqB X 39 24 dX0_leaving_21 rfl rfl (fun z => ?_) (fun z => ?_)
      · replace hp := gw_f z hp
        refine gw_iconst X 40 dX0_leaving_39 rfl gw_ci_0 ?_
        refine gw_ior X 41 dX0_leaving_40 rfl ?_
        refine gw_istore_n X 42 [(2, .int (c2 ||| (0 : Int32))), (0, .ref (a 0)), (1, .int v1), (3, .int c3)] dX0_leaving_41 rfl rfl (by decide) rfl ?_
        refine gw_iinc X 45 3 [(3, .int (c3 + 1)), (2, .int (c2 ||| (0 : Int32))), (0, .ref (a 0)), (1, .int v1)] dX0_leaving_42 rfl rfl gw_ci_1 (by decide) rfl ?_
        refine gw_goto X 4 dX0_leaving_45 rfl ?_
        refine gw_lv [2, 3, 1, 0] rfl ?_
        exact ih hp
      · replace hp := gw_t z hp
        refine gw_aload_n X 25 0 dX0_leaving_24 rfl rfl rfl ?_
        refine gw_iload_n X 26 1 dX0_leaving_25 rfl rfl rfl ?_
        refine gw_iload_n X 27 3 dX0_leaving_26 rfl rfl rfl ?_
        obtain ⟨r1, h2, hp⟩ := gw_b1_some hp
        refine gw_callVi X 30 [.int v1, .int c3] (mt_X0_winsBy h2) lk_X0_358 ydv_X0_winsBy gX_cl0 gX_at0 rfl rfl rfl dX0_leaving_27 rfl rfl rfl ?_
        refine gw_if_ge X 39 33 dX0_leaving_30 rfl rfl (fun z => ?_) (fun z => ?_)
        · replace hp := gw_t z hp
          refine gw_iconst X 40 dX0_leaving_39 rfl gw_ci_0 ?_
          refine gw_ior X 41 dX0_leaving_40 rfl ?_
          refine gw_istore_n X 42 [(2, .int (c2 ||| (0 : Int32))), (0, .ref (a 0)), (1, .int v1), (3, .int c3)] dX0_leaving_41 rfl rfl (by decide) rfl ?_
          refine gw_iinc X 45 3 [(3, .int (c3 + 1)), (2, .int (c2 ||| (0 : Int32))), (0, .ref (a 0)), (1, .int v1)] dX0_leaving_42 rfl rfl gw_ci_1 (by decide) rfl ?_
          refine gw_goto X 4 dX0_leaving_45 rfl ?_
          refine gw_lv [2, 3, 1, 0] rfl ?_
          exact ih hp
        · replace hp := gw_f z hp
          refine gw_iconst X 34 dX0_leaving_33 rfl gw_ci_1 ?_
          refine gw_iload_n X 35 3 dX0_leaving_34 rfl rfl rfl ?_
          refine gw_ishl X 36 dX0_leaving_35 rfl ?_
          refine gw_goto X 40 dX0_leaving_36 rfl ?_
          refine gw_ior X 41 dX0_leaving_40 rfl ?_
          refine gw_istore_n X 42 [(2, .int (c2 ||| ((1 : Int32) <<< (c3 &&& 31)))), (0, .ref (a 0)), (1, .int v1), (3, .int c3)] dX0_leaving_41 rfl rfl (by decide) rfl ?_
          refine gw_iinc X 45 3 [(3, .int (c3 + 1)), (2, .int (c2 ||| ((1 : Int32) <<< (c3 &&& 31)))), (0, .ref (a 0)), (1, .int v1)] dX0_leaving_42 rfl rfl gw_ci_1 (by decide) rfl ?_
          refine gw_goto X 4 dX0_leaving_45 rfl ?_
          refine gw_lv [2, 3, 1, 0] rfl ?_
          exact ih hp
set_option maxHeartbeats 4000000 in
theorem mt_X0_leaving {l : Launch} {D : gw_D} {a : Nat → Nat} {Wr : va_W → Prop} {σ : gw_S} {x1 : Int32} {res : Int32} (hp : fx_X0_leaving σ x1 = some res) : gw_Ct D l yX0_leaving cX0_leaving 4 (some .int) rm_X0_leaving [.ref (a 0), .int x1] (gw_st (wX D a σ) Wr) (gw_pI res (gw_st (wX D a σ) Wr)) := by
  refine gw_ct (own := RX0) [(0, .ref (a 0)), (1, .int x1)] (by decide) rfl (Nat.le_of_ble_eq_true rfl) rfl ?_
  intro E X
  unfold fx_X0_leaving at hp
  refine gw_iconst X 1 dX0_leaving_0 rfl gw_ci_0 ?_
  refine gw_istore_n X 2 [(2, .int 0), (0, .ref (a 0)), (1, .int x1)] dX0_leaving_1 rfl rfl (by decide) rfl ?_
  refine gw_iconst X 3 dX0_leaving_2 rfl gw_ci_0 ?_
  refine gw_istore_n X 4 [(3, .int 0), (2, .int 0), (0, .ref (a 0)), (1, .int x1)] dX0_leaving_3 rfl rfl (by decide) rfl ?_
  refine gw_lv [2, 3, 1, 0] rfl ?_
  exact wk_X0_leaving_L4 X hp
abbrev rm_X0_ransomOf : Room := { frames := 3, cells := 0, slots := 0, locals := 67 }
def fx_X0_ransomOf_L22 (σ : gw_S) (v1 : Int32) : Nat → Int32 → Int32 → Option (Int32)
  | 0, _, _ => none
  | n + 1, c3, c4 => (if c4 = v1 then some c3 else gw_ck c4 8 (gw_ck c3 8 (gw_b1 (if (σ.1 9 (Int32.toNatClampNeg c4)) < (σ.1 9 (Int32.toNatClampNeg c3)) then some c4 else gw_ck c4 8 (gw_ck c3 8 ((if (σ.1 9 (Int32.toNatClampNeg c4)) = (σ.1 9 (Int32.toNatClampNeg c3)) then (if c3 ≤ c4 then some c3 else some c4) else some c3)))) (fun (y3 : Int32) => gw_ck c4 8 (fx_X0_ransomOf_L22 σ v1 n y3 (σ.1 3 (Int32.toNatClampNeg c4)))))))
def fx_X0_ransomOf (σ : gw_S) (x1 : Int32) (x2 : Int32) : Option (Int32) := gw_b1 (fx_X0_timeOf σ x1 x2) (fun r1 => (if r1 = (-1 : Int32) then some (-1) else gw_ck x2 8 (fx_X0_ransomOf_L22 σ x1 1000 x2 (σ.1 3 (Int32.toNatClampNeg x2)))))
set_option maxHeartbeats 4000000 in
theorem wk_X0_ransomOf_L22 {E : gw_E} {l : Launch} {D : gw_D} {a : Nat → Nat} {Wr : va_W → Prop} {σ : gw_S} {res : Int32} (X : gw_X E cX0_ransomOf 5 RX0 (some .int) l D rm_X0_ransomOf (some (gw_pI res (gw_st (wX D a σ) Wr)))) {v1 : Int32} : ∀ {n : Nat} {c3 : Int32} {c4 : Int32}, fx_X0_ransomOf_L22 σ v1 n c3 c4 = some res → gw_W E 22 [(0, .ref (a 0)), (1, .int v1), (3, .int c3), (4, .int c4)] [] (gw_st (wX D a σ) Wr) 0 0 := by
  intro n
  induction n with
  | zero =>
    intro c3 c4 hp
    cases (show none = some res from hp)
  | succ n ih =>
    intro c3 c4 hp
    rw [fx_X0_ransomOf_L22] at hp
    refine gw_iload X 24 3 dX0_ransomOf_22 rfl rfl ?_
    refine gw_iload_n X 25 1 dX0_ransomOf_24 rfl rfl rfl ?_
    refine gw_icmp_eq X 93 28 dX0_ransomOf_25 rfl rfl (fun z => ?_) (fun z => ?_)
    · replace hp := gw_t z hp
      refine gw_iload_n X 94 2 dX0_ransomOf_93 rfl rfl rfl ?_
      cases hp
      exact gw_iret X dX0_ransomOf_94 (fun _ h => ⟨rfl, h⟩) (Nat.le_of_ble_eq_true rfl) (Nat.le_of_ble_eq_true rfl)
    · replace hp := gw_f z hp
      refine gw_aload_n X 29 0 dX0_ransomOf_28 rfl rfl rfl ?_
      refine gX_g0_0 X 32 q280 dX0_ransomOf_29 rfl ?_
      refine gX_g1_6N X 35 q204 dX0_ransomOf_32 rfl ?_
      refine gw_iload X 37 3 dX0_ransomOf_35 rfl rfl ?_
      obtain ⟨hc, hp⟩ := gw_ck_some hp
      refine gX_l9 X 38 (Int32.toNatClampNeg c4) hc rfl dX0_ransomOf_37 rfl ?_
      refine gw_aload_n X 39 0 dX0_ransomOf_38 rfl rfl rfl ?_
      refine gX_g0_0 X 42 q280 dX0_ransomOf_39 rfl ?_
      refine gX_g1_6N X 45 q204 dX0_ransomOf_42 rfl ?_
      refine gw_iload_n X 46 2 dX0_ransomOf_45 rfl rfl rfl ?_
      obtain ⟨hc, hp⟩ := gw_ck_some hp
      refine gX_l9 X 47 (Int32.toNatClampNeg c3) hc rfl dX0_ransomOf_46 rfl ?_
      obtain ⟨y3, h4, hp⟩ := gw_b1_some hp
      have kJ : gw_W E 81 [(0, .ref (a 0)), (1, .int v1), (3, .int y3), (4, .int c4)] [] (gw_st (wX D a σ) Wr) 0 0 := by
        refine gw_aload_n X 82 0 dX0_ransomOf_81 rfl rfl rfl ?_
        refine gX_g0_9 X 85 q303 dX0_ransomOf_82 rfl ?_
        refine gw_iload X 87 3 dX0_ransomOf_85 rfl rfl ?_
        obtain ⟨hc, hp⟩ := gw_ck_some hp
        refine gX_l3 X 88 (Int32.toNatClampNeg c4) hc rfl dX0_ransomOf_87 rfl ?_
        refine gw_istore X 90 [(4, .int (σ.1 3 (Int32.toNatClampNeg c4))), (0, .ref (a 0)), (1, .int v1), (3, .int y3)] dX0_ransomOf_88 rfl (by decide) rfl ?_
        refine gw_goto X 22 dX0_ransomOf_90 rfl ?_
        refine gw_lv [1, 2, 3, 0] rfl ?_
        exact ih hp
      clear hp
      have hp := h4
      clear h4
      refine gw_icmp_lt X 78 50 dX0_ransomOf_47 rfl rfl (fun z => ?_) (fun z => ?_)
      · replace hp := gw_t z hp
        refine gw_iload X 80 3 dX0_ransomOf_78 rfl rfl ?_
        refine gw_istore_n X 81 [(3, .int c4), (0, .ref (a 0)), (1, .int v1), (4, .int c4)] dX0_ransomOf_80 rfl rfl (by decide) rfl ?_
        cases hp
        exact gw_lv [1, 2, 0, 3] rfl kJ
      · replace hp := gw_f z hp
        refine gw_aload_n X 51 0 dX0_ransomOf_50 rfl rfl rfl ?_
        refine gX_g0_0 X 54 q280 dX0_ransomOf_51 rfl ?_
        refine gX_g1_6N X 57 q204 dX0_ransomOf_54 rfl ?_
        refine gw_iload X 59 3 dX0_ransomOf_57 rfl rfl ?_
        obtain ⟨hc, hp⟩ := gw_ck_some hp
        refine gX_l9 X 60 (Int32.toNatClampNeg c4) hc rfl dX0_ransomOf_59 rfl ?_
        refine gw_aload_n X 61 0 dX0_ransomOf_60 rfl rfl rfl ?_
        refine gX_g0_0 X 64 q280 dX0_ransomOf_61 rfl ?_
        refine gX_g1_6N X 67 q204 dX0_ransomOf_64 rfl ?_
        refine gw_iload_n X 68 2 dX0_ransomOf_67 rfl rfl rfl ?_
        obtain ⟨hc, hp⟩ := gw_ck_some hp
        refine gX_l9 X 69 (Int32.toNatClampNeg c3) hc rfl dX0_ransomOf_68 rfl ?_
        refine gw_icmp_ne X 81 72 dX0_ransomOf_69 rfl rfl (fun z => ?_) (fun z => ?_)
        · replace hp := gw_f z hp
          cases hp
          exact gw_lv [0, 1, 2, 3] rfl kJ
        · replace hp := gw_t z hp
          refine gw_iload X 74 3 dX0_ransomOf_72 rfl rfl ?_
          refine gw_iload_n X 75 2 dX0_ransomOf_74 rfl rfl rfl ?_
          refine gw_icmp_ge X 81 78 dX0_ransomOf_75 rfl rfl (fun z => ?_) (fun z => ?_)
          · replace hp := gw_t z hp
            cases hp
            exact gw_lv [0, 1, 2, 3] rfl kJ
          · replace hp := gw_f z hp
            refine gw_iload X 80 3 dX0_ransomOf_78 rfl rfl ?_
            refine gw_istore_n X 81 [(3, .int c4), (0, .ref (a 0)), (1, .int v1), (4, .int c4)] dX0_ransomOf_80 rfl rfl (by decide) rfl ?_
            cases hp
            exact gw_lv [1, 2, 0, 3] rfl kJ
set_option maxHeartbeats 4000000 in
theorem mt_X0_ransomOf {l : Launch} {D : gw_D} {a : Nat → Nat} {Wr : va_W → Prop} {σ : gw_S} {x1 : Int32} {x2 : Int32} {res : Int32} (hp : fx_X0_ransomOf σ x1 x2 = some res) : gw_Ct D l yX0_ransomOf cX0_ransomOf 5 (some .int) rm_X0_ransomOf [.ref (a 0), .int x1, .int x2] (gw_st (wX D a σ) Wr) (gw_pI res (gw_st (wX D a σ) Wr)) := by
  refine gw_ct (own := RX0) [(0, .ref (a 0)), (1, .int x1), (2, .int x2)] (by decide) rfl (Nat.le_of_ble_eq_true rfl) rfl ?_
  intro E X
  unfold fx_X0_ransomOf at hp
  refine gw_aload_n X 1 0 dX0_ransomOf_0 rfl rfl rfl ?_
  refine gw_iload_n X 2 1 dX0_ransomOf_1 rfl rfl rfl ?_
  refine gw_iload_n X 3 2 dX0_ransomOf_2 rfl rfl rfl ?_
  obtain ⟨r1, h2, hp⟩ := gw_b1_some hp
  refine gw_callVi X 6 [.int x1, .int x2] (mt_X0_timeOf h2) lk_X0_214 ydv_X0_timeOf gX_cl0 gX_at0 rfl rfl rfl dX0_ransomOf_3 rfl rfl rfl ?_
  refine gw_iconst X 7 dX0_ransomOf_6 rfl gw_ci_m1 ?_
  refine gw_icmp_ne X 12 10 dX0_ransomOf_7 rfl rfl (fun z => ?_) (fun z => ?_)
  · replace hp := gw_f z hp
    refine gw_iload_n X 13 2 dX0_ransomOf_12 rfl rfl rfl ?_
    refine gw_istore_n X 14 [(3, .int x2), (0, .ref (a 0)), (1, .int x1), (2, .int x2)] dX0_ransomOf_13 rfl rfl (by decide) rfl ?_
    refine gw_aload_n X 15 1 dX0_ransomOf_14 rfl rfl rfl ?_
    refine gX_g0_9 X 18 q303 dX0_ransomOf_15 rfl ?_
    refine gw_iload_n X 19 3 dX0_ransomOf_18 rfl rfl rfl ?_
    obtain ⟨hc, hp⟩ := gw_ck_some hp
    refine gX_l3 X 20 (Int32.toNatClampNeg x2) hc rfl dX0_ransomOf_19 rfl ?_
    refine gw_istore X 22 [(4, .int (σ.1 3 (Int32.toNatClampNeg x2))), (3, .int x2), (0, .ref (a 0)), (1, .int x1), (2, .int x2)] dX0_ransomOf_20 rfl (by decide) rfl ?_
    refine gw_lv [2, 3, 1, 0] rfl ?_
    exact wk_X0_ransomOf_L22 X hp
  · replace hp := gw_t z hp
    refine gw_iconst X 11 dX0_ransomOf_10 rfl gw_ci_m1 ?_
    cases hp
    exact gw_iret X dX0_ransomOf_11 (fun _ h => ⟨rfl, h⟩) (Nat.le_of_ble_eq_true rfl) (Nat.le_of_ble_eq_true rfl)
abbrev rm_X0_powerOf : Room := { frames := 2, cells := 0, slots := 0, locals := 47 }
def fx_X0_powerOf (σ : gw_S) (x1 : Int32) : Option (Int32) := gw_b1 (fx_X0_underOf σ x1) (fun r1 => gw_b1 (fx_X0_deedsOf σ r1) (fun r3 => some (fx_J13_bitCount r3)))
set_option maxHeartbeats 4000000 in
theorem mt_X0_powerOf {l : Launch} {D : gw_D} {a : Nat → Nat} {Wr : va_W → Prop} {σ : gw_S} {x1 : Int32} {res : Int32} (hp : fx_X0_powerOf σ x1 = some res) : gw_Ct D l yX0_powerOf cX0_powerOf 2 (some .int) rm_X0_powerOf [.ref (a 0), .int x1] (gw_st (wX D a σ) Wr) (gw_pI res (gw_st (wX D a σ) Wr)) := by
  refine gw_ct (own := RX0) [(0, .ref (a 0)), (1, .int x1)] (by decide) rfl (Nat.le_of_ble_eq_true rfl) rfl ?_
  intro E X
  unfold fx_X0_powerOf at hp
  refine gw_aload_n X 1 0 dX0_powerOf_0 rfl rfl rfl ?_
  refine gw_aload_n X 2 0 dX0_powerOf_1 rfl rfl rfl ?_
  refine gw_iload_n X 3 1 dX0_powerOf_2 rfl rfl rfl ?_
  obtain ⟨r1, h2, hp⟩ := gw_b1_some hp
  refine gw_callVi X 6 [.int x1] (mt_X0_underOf h2) lk_X0_208 ydv_X0_underOf gX_cl0 gX_at0 rfl rfl rfl dX0_powerOf_3 rfl rfl rfl ?_
  obtain ⟨r3, h4, hp⟩ := gw_b1_some hp
  refine gw_callVi X 9 [.int r1] (mt_X0_deedsOf h4) lk_X0_238 ydv_X0_deedsOf gX_cl0 gX_at0 rfl rfl rfl dX0_powerOf_6 rfl rfl rfl ?_
  refine gw_callSi X 12 [.int r3] (mt_J13_bitCount rfl) lk_X0_273 yd_J13_bitCount rfl rfl rfl dX0_powerOf_9 rfl rfl rfl ?_
  cases hp
  exact gw_iret X dX0_powerOf_12 (fun _ h => ⟨rfl, h⟩) (Nat.le_of_ble_eq_true rfl) (Nat.le_of_ble_eq_true rfl)
abbrev rm_X0_isDayEnd : Room := { frames := 1, cells := 0, slots := 0, locals := 21 }
def fx_X0_isDayEnd (σ : gw_S) (ρ : gw_R) (x1 : Int32) (x2 : Int32) : Option (Bool) := gw_ck x1 4 (gw_b1 (ρ (Int32.toNatClampNeg x1)) (fun x_2 => gw_ck x2 x_2.2.1 ((if (lg_cmp (gv_at x_2 (Int32.toNatClampNeg x2)) (-1 : Int64)) = 0 then gw_ck x1 4 (gw_b1 (ρ (Int32.toNatClampNeg x1)) (fun x_5 => gw_ck (x2 + (1 : Int32)) x_5.2.1 ((if (lg_cmp (gv_at x_5 (Int32.toNatClampNeg (x2 + (1 : Int32)))) (-1 : Int64)) = 0 then gw_ck x1 4 (gw_b1 (ρ (Int32.toNatClampNeg x1)) (fun x_8 => gw_ck (x2 + (2 : Int32)) x_8.2.1 ((if (lg_cmp (gv_at x_8 (Int32.toNatClampNeg (x2 + (2 : Int32)))) (-1 : Int64)) = 0 then some true else some false)))) else some false)))) else some false))))
set_option maxHeartbeats 4000000 in
theorem mt_X0_isDayEnd {l : Launch} {D : gw_D} {a : Nat → Nat} {Wr : va_W → Prop} {σ : gw_S} {ρ : gw_R} {KP : va_W → Prop} {x1 : Int32} {x2 : Int32} {res : Bool} (hp : fx_X0_isDayEnd σ ρ x1 x2 = some res) : gw_Ct D l yX0_isDayEnd cX0_isDayEnd 3 (some .boolean) rm_X0_isDayEnd [.ref (a 0), .int x1, .int x2] (gw_st (wX D a σ) (gw_sp KP (gw_sp (gS D a ρ) Wr))) (gw_pI (gw_b res) (gw_st (wX D a σ) (gw_sp KP (gw_sp (gS D a ρ) Wr)))) := by
  refine gw_ct (own := RX0) [(0, .ref (a 0)), (1, .int x1), (2, .int x2)] (by decide) rfl (Nat.le_of_ble_eq_true rfl) rfl ?_
  intro E X
  unfold fx_X0_isDayEnd at hp
  refine gw_aload_n X 1 0 dX0_isDayEnd_0 rfl rfl rfl ?_
  refine gX_g0_21 X 4 q318 dX0_isDayEnd_1 rfl ?_
  refine gw_iload_n X 5 1 dX0_isDayEnd_4 rfl rfl rfl ?_
  obtain ⟨hc, hp⟩ := gw_ck_some hp
  refine gS_ald X 6 hc dX0_isDayEnd_5 rfl ?_
  have hj1 := gS_in4 hc
  refine gw_iload_n X 7 2 dX0_isDayEnd_6 rfl rfl rfl ?_
  obtain ⟨x_2, h3, hp⟩ := gw_b1_some hp
  obtain ⟨hc, hp⟩ := gw_ck_some hp
  refine gS_at X 10 hj1 h3 hc lk_X0_302 rfl rfl dX0_isDayEnd_7 rfl ?_
  refine gw_ldc2 X 13 dX0_isDayEnd_10 rfl q1234 ?_
  refine gw_lcmp X 14 dX0_isDayEnd_13 rfl ?_
  refine gw_if_ne X 59 17 dX0_isDayEnd_14 rfl rfl (fun z => ?_) (fun z => ?_)
  · replace hp := gw_f z hp
    refine gw_iconst X 60 dX0_isDayEnd_59 rfl gw_ci_0 ?_
    cases hp
    exact gw_zret0 X dX0_isDayEnd_60 (fun _ h => ⟨rfl, h⟩) (Nat.le_of_ble_eq_true rfl) (Nat.le_of_ble_eq_true rfl)
  · replace hp := gw_t z hp
    refine gw_aload_n X 18 0 dX0_isDayEnd_17 rfl rfl rfl ?_
    refine gX_g0_21 X 21 q318 dX0_isDayEnd_18 rfl ?_
    refine gw_iload_n X 22 1 dX0_isDayEnd_21 rfl rfl rfl ?_
    obtain ⟨hc, hp⟩ := gw_ck_some hp
    refine gS_ald X 23 hc dX0_isDayEnd_22 rfl ?_
    have hj4 := gS_in4 hc
    refine gw_iload_n X 24 2 dX0_isDayEnd_23 rfl rfl rfl ?_
    refine gw_iconst X 25 dX0_isDayEnd_24 rfl gw_ci_1 ?_
    refine gw_iadd X 26 dX0_isDayEnd_25 rfl ?_
    obtain ⟨x_5, h6, hp⟩ := gw_b1_some hp
    obtain ⟨hc, hp⟩ := gw_ck_some hp
    refine gS_at X 29 hj4 h6 hc lk_X0_302 rfl rfl dX0_isDayEnd_26 rfl ?_
    refine gw_ldc2 X 32 dX0_isDayEnd_29 rfl q1234 ?_
    refine gw_lcmp X 33 dX0_isDayEnd_32 rfl ?_
    refine gw_if_ne X 59 36 dX0_isDayEnd_33 rfl rfl (fun z => ?_) (fun z => ?_)
    · replace hp := gw_f z hp
      refine gw_iconst X 60 dX0_isDayEnd_59 rfl gw_ci_0 ?_
      cases hp
      exact gw_zret0 X dX0_isDayEnd_60 (fun _ h => ⟨rfl, h⟩) (Nat.le_of_ble_eq_true rfl) (Nat.le_of_ble_eq_true rfl)
    · replace hp := gw_t z hp
      refine gw_aload_n X 37 0 dX0_isDayEnd_36 rfl rfl rfl ?_
      refine gX_g0_21 X 40 q318 dX0_isDayEnd_37 rfl ?_
      refine gw_iload_n X 41 1 dX0_isDayEnd_40 rfl rfl rfl ?_
      obtain ⟨hc, hp⟩ := gw_ck_some hp
      refine gS_ald X 42 hc dX0_isDayEnd_41 rfl ?_
      have hj7 := gS_in4 hc
      refine gw_iload_n X 43 2 dX0_isDayEnd_42 rfl rfl rfl ?_
      refine gw_iconst X 44 dX0_isDayEnd_43 rfl gw_ci_2 ?_
      refine gw_iadd X 45 dX0_isDayEnd_44 rfl ?_
      obtain ⟨x_8, h9, hp⟩ := gw_b1_some hp
      obtain ⟨hc, hp⟩ := gw_ck_some hp
      refine gS_at X 48 hj7 h9 hc lk_X0_302 rfl rfl dX0_isDayEnd_45 rfl ?_
      refine gw_ldc2 X 51 dX0_isDayEnd_48 rfl q1234 ?_
      refine gw_lcmp X 52 dX0_isDayEnd_51 rfl ?_
      refine gw_if_ne X 59 55 dX0_isDayEnd_52 rfl rfl (fun z => ?_) (fun z => ?_)
      · replace hp := gw_f z hp
        refine gw_iconst X 60 dX0_isDayEnd_59 rfl gw_ci_0 ?_
        cases hp
        exact gw_zret0 X dX0_isDayEnd_60 (fun _ h => ⟨rfl, h⟩) (Nat.le_of_ble_eq_true rfl) (Nat.le_of_ble_eq_true rfl)
      · replace hp := gw_t z hp
        refine gw_iconst X 56 dX0_isDayEnd_55 rfl gw_ci_1 ?_
        refine gw_goto X 60 dX0_isDayEnd_56 rfl ?_
        cases hp
        exact gw_zret1 X dX0_isDayEnd_60 (fun _ h => ⟨rfl, h⟩) (Nat.le_of_ble_eq_true rfl) (Nat.le_of_ble_eq_true rfl)
abbrev rm_X0_asksRow : Room := { frames := 9, cells := 1, slots := 8, locals := 10268 }
def fx_X0_asksRow_L38 (ρ : gw_R) (σ : gw_S) (v1 : Int32) (v2 : Int32) : Nat → Int32 → Option (Int32)
  | 0, _ => none
  | n + 1, c3 => (if v2 ≤ c3 then some 0 else gw_b1 (fx_X0_isDayEnd σ ρ v1 c3) (fun r4 => (if r4 = true then fx_X0_asksRow_L38 ρ σ v1 v2 n (c3 + 3) else gw_ck v1 4 (gw_b1 (ρ (Int32.toNatClampNeg v1)) (fun x_7 => gw_ck c3 x_7.2.1 ((if fx_X0_isPerson σ (gv_at x_7 (Int32.toNatClampNeg c3)) = true then gw_ck v1 4 (gw_b1 (ρ (Int32.toNatClampNeg v1)) (fun x_10 => gw_ck (c3 + (1 : Int32)) x_10.2.1 ((if fx_X0_isPerson σ (gv_at x_10 (Int32.toNatClampNeg (c3 + (1 : Int32)))) = true then gw_ck v1 4 (gw_b1 (ρ (Int32.toNatClampNeg v1)) (fun x_13 => gw_ck (c3 + (2 : Int32)) x_13.2.1 ((if fx_X0_isDeed (gv_at x_13 (Int32.toNatClampNeg (c3 + (2 : Int32)))) = true then fx_X0_asksRow_L38 ρ σ v1 v2 n (c3 + 3) else some (-2))))) else some (-2))))) else some (-2))))))))
def fx_X0_asksRow (σ : gw_S) (ρ : gw_R) (x1 : Int32) : Option (Int32) := (if fx_X0_isSlot x1 = true then (if fx_X0_isCity σ = true then gw_ck x1 4 (gw_m (ρ (Int32.toNatClampNeg x1)) (some (-6)) (fun x_2 => (if ((Int32.ofNat x_2.2.1) - (Int32.ofNat x_2.2.1) / (3 : Int32) * (3 : Int32)) = 0 then fx_X0_asksRow_L38 ρ σ x1 (Int32.ofNat x_2.2.1) 1000 (0 : Int32) else some (-2)))) else some (-2)) else some (-2))
set_option maxHeartbeats 4000000 in
theorem wk_X0_asksRow_L38 {E : gw_E} {l : Launch} {D : gw_D} {a : Nat → Nat} {Wr : va_W → Prop} {σ : gw_S} {ρ : gw_R} {KP : va_W → Prop} {res : Int32} (X : gw_X E cX0_asksRow 4 RX0 (some .int) l D rm_X0_asksRow (some (gw_pI res (gw_st (wX D a σ) (gw_sp KP (gw_sp (gS D a ρ) Wr)))))) {v1 : Int32} {v2 : Int32} : ∀ {n : Nat} {c3 : Int32}, fx_X0_asksRow_L38 ρ σ v1 v2 n c3 = some res → gw_W E 38 [(0, .ref (a 0)), (1, .int v1), (2, .int v2), (3, .int c3)] [] (gw_st (wX D a σ) (gw_sp KP (gw_sp (gS D a ρ) Wr))) 0 0 := by
  intro n
  induction n with
  | zero =>
    intro c3 hp
    cases (show none = some res from hp)
  | succ n ih =>
    intro c3 hp
    rw [fx_X0_asksRow_L38] at hp
    refine gw_iload_n X 39 3 dX0_asksRow_38 rfl rfl rfl ?_
    refine gw_iload_n X 40 2 dX0_asksRow_39 rfl rfl rfl ?_
    refine gw_icmp_ge X 115 43 dX0_asksRow_40 rfl rfl (fun z => ?_) (fun z => ?_)
    · replace hp := gw_t z hp
      refine gw_iconst X 116 dX0_asksRow_115 rfl gw_ci_0 ?_
      cases hp
      exact gw_iret X dX0_asksRow_116 (fun _ h => ⟨rfl, h⟩) (Nat.le_of_ble_eq_true rfl) (Nat.le_of_ble_eq_true rfl)
    · replace hp := gw_f z hp
      refine gw_aload_n X 44 0 dX0_asksRow_43 rfl rfl rfl ?_
      refine gw_iload_n X 45 1 dX0_asksRow_44 rfl rfl rfl ?_
      refine gw_iload_n X 46 3 dX0_asksRow_45 rfl rfl rfl ?_
      obtain ⟨r4, h5, hp⟩ := gw_b1_some hp
      refine gw_callVi X 49 [.int v1, .int c3] (mt_X0_isDayEnd h5) lk_X0_375 ydv_X0_isDayEnd gX_cl0 gX_at0 rfl rfl rfl dX0_asksRow_46 rfl rfl rfl ?_
      refine gw_if_neB X 109 52 dX0_asksRow_49 rfl rfl (fun z => ?_) (fun z => ?_)
      · replace hp := gw_t z hp
        refine gw_iinc X 112 3 [(3, .int (c3 + 3)), (0, .ref (a 0)), (1, .int v1), (2, .int v2)] dX0_asksRow_109 rfl rfl gw_ci_3 (by decide) rfl ?_
        refine gw_goto X 38 dX0_asksRow_112 rfl ?_
        refine gw_lv [1, 2, 3, 0] rfl ?_
        exact ih hp
      · replace hp := gw_f z hp
        refine gw_aload_n X 53 0 dX0_asksRow_52 rfl rfl rfl ?_
        refine gw_aload_n X 54 0 dX0_asksRow_53 rfl rfl rfl ?_
        refine gX_g0_21 X 57 q318 dX0_asksRow_54 rfl ?_
        refine gw_iload_n X 58 1 dX0_asksRow_57 rfl rfl rfl ?_
        obtain ⟨hc, hp⟩ := gw_ck_some hp
        refine gS_ald X 59 hc dX0_asksRow_58 rfl ?_
        have hj6 := gS_in4 hc
        refine gw_iload_n X 60 3 dX0_asksRow_59 rfl rfl rfl ?_
        obtain ⟨x_7, h8, hp⟩ := gw_b1_some hp
        obtain ⟨hc, hp⟩ := gw_ck_some hp
        refine gS_at X 63 hj6 h8 hc lk_X0_302 rfl rfl dX0_asksRow_60 rfl ?_
        refine gw_callVi X 66 [.long (gv_at x_7 (Int32.toNatClampNeg c3))] (mt_X0_isPerson rfl) lk_X0_186 ydv_X0_isPerson gX_cl0 gX_at0 rfl rfl rfl dX0_asksRow_63 rfl rfl rfl ?_
        refine gw_if_eqB X 106 69 dX0_asksRow_66 rfl rfl (fun z => ?_) (fun z => ?_)
        · replace hp := gw_f z hp
          refine gw_bipush X 108 dX0_asksRow_106 rfl gw_cb_m2 ?_
          cases hp
          exact gw_iret X dX0_asksRow_108 (fun _ h => ⟨rfl, h⟩) (Nat.le_of_ble_eq_true rfl) (Nat.le_of_ble_eq_true rfl)
        · replace hp := gw_t z hp
          refine gw_aload_n X 70 0 dX0_asksRow_69 rfl rfl rfl ?_
          refine gw_aload_n X 71 0 dX0_asksRow_70 rfl rfl rfl ?_
          refine gX_g0_21 X 74 q318 dX0_asksRow_71 rfl ?_
          refine gw_iload_n X 75 1 dX0_asksRow_74 rfl rfl rfl ?_
          obtain ⟨hc, hp⟩ := gw_ck_some hp
          refine gS_ald X 76 hc dX0_asksRow_75 rfl ?_
          have hj9 := gS_in4 hc
          refine gw_iload_n X 77 3 dX0_asksRow_76 rfl rfl rfl ?_
          refine gw_iconst X 78 dX0_asksRow_77 rfl gw_ci_1 ?_
          refine gw_iadd X 79 dX0_asksRow_78 rfl ?_
          obtain ⟨x_10, h11, hp⟩ := gw_b1_some hp
          obtain ⟨hc, hp⟩ := gw_ck_some hp
          refine gS_at X 82 hj9 h11 hc lk_X0_302 rfl rfl dX0_asksRow_79 rfl ?_
          refine gw_callVi X 85 [.long (gv_at x_10 (Int32.toNatClampNeg (c3 + (1 : Int32))))] (mt_X0_isPerson rfl) lk_X0_186 ydv_X0_isPerson gX_cl0 gX_at0 rfl rfl rfl dX0_asksRow_82 rfl rfl rfl ?_
          refine gw_if_eqB X 106 88 dX0_asksRow_85 rfl rfl (fun z => ?_) (fun z => ?_)
          · replace hp := gw_f z hp
            refine gw_bipush X 108 dX0_asksRow_106 rfl gw_cb_m2 ?_
            cases hp
            exact gw_iret X dX0_asksRow_108 (fun _ h => ⟨rfl, h⟩) (Nat.le_of_ble_eq_true rfl) (Nat.le_of_ble_eq_true rfl)
          · replace hp := gw_t z hp
            refine gw_aload_n X 89 0 dX0_asksRow_88 rfl rfl rfl ?_
            refine gX_g0_21 X 92 q318 dX0_asksRow_89 rfl ?_
            refine gw_iload_n X 93 1 dX0_asksRow_92 rfl rfl rfl ?_
            obtain ⟨hc, hp⟩ := gw_ck_some hp
            refine gS_ald X 94 hc dX0_asksRow_93 rfl ?_
            have hj12 := gS_in4 hc
            refine gw_iload_n X 95 3 dX0_asksRow_94 rfl rfl rfl ?_
            refine gw_iconst X 96 dX0_asksRow_95 rfl gw_ci_2 ?_
            refine gw_iadd X 97 dX0_asksRow_96 rfl ?_
            obtain ⟨x_13, h14, hp⟩ := gw_b1_some hp
            obtain ⟨hc, hp⟩ := gw_ck_some hp
            refine gS_at X 100 hj12 h14 hc lk_X0_302 rfl rfl dX0_asksRow_97 rfl ?_
            refine gw_callSi X 103 [.long (gv_at x_13 (Int32.toNatClampNeg (c3 + (2 : Int32))))] (mt_X0_isDeed rfl) lk_X0_232 yd_X0_isDeed rfl rfl rfl dX0_asksRow_100 rfl rfl rfl ?_
            refine gw_if_neB X 109 106 dX0_asksRow_103 rfl rfl (fun z => ?_) (fun z => ?_)
            · replace hp := gw_t z hp
              refine gw_iinc X 112 3 [(3, .int (c3 + 3)), (0, .ref (a 0)), (1, .int v1), (2, .int v2)] dX0_asksRow_109 rfl rfl gw_ci_3 (by decide) rfl ?_
              refine gw_goto X 38 dX0_asksRow_112 rfl ?_
              refine gw_lv [1, 2, 3, 0] rfl ?_
              exact ih hp
            · replace hp := gw_f z hp
              refine gw_bipush X 108 dX0_asksRow_106 rfl gw_cb_m2 ?_
              cases hp
              exact gw_iret X dX0_asksRow_108 (fun _ h => ⟨rfl, h⟩) (Nat.le_of_ble_eq_true rfl) (Nat.le_of_ble_eq_true rfl)
set_option maxHeartbeats 4000000 in
theorem mt_X0_asksRow {l : Launch} {D : gw_D} {a : Nat → Nat} {Wr : va_W → Prop} {σ : gw_S} {ρ : gw_R} {KP : va_W → Prop} {x1 : Int32} {res : Int32} (hp : fx_X0_asksRow σ ρ x1 = some res) : gw_CtH D l yX0_asksRow cX0_asksRow 4 (some .int) [(17, 35, 117, 312), (36, 108, 117, 312), (109, 116, 117, 312)] rm_X0_asksRow [.ref (a 0), .int x1] (gw_st (wX D a σ) (gw_sp KP (gw_sp (gS D a ρ) Wr))) (gw_pI res (gw_st (wX D a σ) (gw_sp KP (gw_sp (gS D a ρ) Wr)))) := by
  refine gw_ctH (own := RX0) [(0, .ref (a 0)), (1, .int x1)] (by decide) rfl (Nat.le_of_ble_eq_true rfl) rfl ?_
  intro E X Y
  unfold fx_X0_asksRow at hp
  refine gw_iload_n X 1 1 dX0_asksRow_0 rfl rfl rfl ?_
  refine gw_callSi X 4 [.int x1] (mt_X0_isSlot rfl) lk_X0_306 yd_X0_isSlot rfl rfl rfl dX0_asksRow_1 rfl rfl rfl ?_
  refine gw_if_eqB X 14 7 dX0_asksRow_4 rfl rfl (fun z => ?_) (fun z => ?_)
  · replace hp := gw_f z hp
    refine gw_bipush X 16 dX0_asksRow_14 rfl gw_cb_m2 ?_
    cases hp
    exact gw_iret X dX0_asksRow_16 (fun _ h => ⟨rfl, h⟩) (Nat.le_of_ble_eq_true rfl) (Nat.le_of_ble_eq_true rfl)
  · replace hp := gw_t z hp
    refine gw_aload_n X 8 0 dX0_asksRow_7 rfl rfl rfl ?_
    refine gw_callVi X 11 [] (mt_X0_isCity rfl) lk_X0_103 ydv_X0_isCity gX_cl0 gX_at0 rfl rfl rfl dX0_asksRow_8 rfl rfl rfl ?_
    refine gw_if_neB X 17 14 dX0_asksRow_11 rfl rfl (fun z => ?_) (fun z => ?_)
    · replace hp := gw_t z hp
      refine gw_aload_n X 18 0 dX0_asksRow_17 rfl rfl rfl ?_
      refine gX_g0_21 X 21 q318 dX0_asksRow_18 rfl ?_
      refine gw_iload_n X 22 1 dX0_asksRow_21 rfl rfl rfl ?_
      obtain ⟨hc, hp⟩ := gw_ck_some hp
      refine gS_ald X 23 hc dX0_asksRow_22 rfl ?_
      have hj1 := gS_in4 hc
      rcases h3 : ρ (Int32.toNatClampNeg x1) with _ | x_2
      · replace hp := gw_m_none h3 hp
        refine gS_sizeN X hj1 h3 lk_X0_309 rfl rfl dX0_asksRow_23 (fun q => ?_)
        refine gx_catch X Y 117 [] _ _ rfl (fun _ h => nomatch h) rfl (by decide) q1058 q1080 rfl ?_
        refine gl_perm (gS_back hj1) ?_
        refine gw_astore_n X 118 [(2, .ref (q)), (0, .ref (a 0)), (1, .int x1)] dX0_asksRow_117 rfl rfl (by decide) rfl ?_
        refine gw_bipush X 120 dX0_asksRow_118 rfl gw_cb_m6 ?_
        cases hp
        exact gw_iret X dX0_asksRow_120 (fun _ h => ⟨rfl, h⟩) (Nat.le_of_ble_eq_true rfl) (Nat.le_of_ble_eq_true rfl)
      · replace hp := gw_m_some h3 hp
        refine gS_size X 26 hj1 h3 lk_X0_309 rfl rfl dX0_asksRow_23 rfl ?_
        refine gw_istore_n X 27 [(2, .int (Int32.ofNat x_2.2.1)), (0, .ref (a 0)), (1, .int x1)] dX0_asksRow_26 rfl rfl (by decide) rfl ?_
        refine gw_iload_n X 28 0 dX0_asksRow_27 rfl rfl rfl ?_
        refine gw_iconst X 29 dX0_asksRow_28 rfl gw_ci_3 ?_
        refine gw_irem X 30 dX0_asksRow_29 rfl (by decide) ?_
        refine gw_if_eq X 36 33 dX0_asksRow_30 rfl rfl (fun z => ?_) (fun z => ?_)
        · replace hp := gw_t z hp
          refine gw_iconst X 37 dX0_asksRow_36 rfl gw_ci_0 ?_
          refine gw_istore_n X 38 [(3, .int 0), (2, .int (Int32.ofNat x_2.2.1)), (0, .ref (a 0)), (1, .int x1)] dX0_asksRow_37 rfl rfl (by decide) rfl ?_
          refine gw_lv [2, 3, 1, 0] rfl ?_
          exact wk_X0_asksRow_L38 X hp
        · replace hp := gw_f z hp
          refine gw_bipush X 35 dX0_asksRow_33 rfl gw_cb_m2 ?_
          cases hp
          exact gw_iret X dX0_asksRow_35 (fun _ h => ⟨rfl, h⟩) (Nat.le_of_ble_eq_true rfl) (Nat.le_of_ble_eq_true rfl)
    · replace hp := gw_f z hp
      refine gw_bipush X 16 dX0_asksRow_14 rfl gw_cb_m2 ?_
      cases hp
      exact gw_iret X dX0_asksRow_16 (fun _ h => ⟨rfl, h⟩) (Nat.le_of_ble_eq_true rfl) (Nat.le_of_ble_eq_true rfl)
abbrev rm_X0_isSeed : Room := { frames := 1, cells := 0, slots := 0, locals := 25 }
def fx_X0_isSeed (x0 : Int32) : Bool := fx_X0_isIn (Int32.toInt64 x0) (0 : Int64) (2000000000 : Int64)
set_option maxHeartbeats 4000000 in
theorem mt_X0_isSeed {l : Launch} {D : gw_D} {Ws : va_W → Prop} {x0 : Int32} {res : Bool} (hp : fx_X0_isSeed x0 = res) : gw_Ct D l yX0_isSeed cX0_isSeed 1 (some .boolean) rm_X0_isSeed [.int x0] Ws (gw_pI (gw_b res) Ws) := by
  refine gw_ct (own := RX0) [(0, .int x0)] (by decide) rfl (Nat.le_of_ble_eq_true rfl) rfl ?_
  intro E X
  unfold fx_X0_isSeed at hp
  refine gw_iload_n X 1 0 dX0_isSeed_0 rfl rfl rfl ?_
  refine gw_i2l X 2 dX0_isSeed_1 rfl ?_
  refine gw_lconst X 3 dX0_isSeed_2 rfl gw_cl_0 ?_
  refine gw_ldc2 X 6 dX0_isSeed_3 rfl q1250 ?_
  refine gw_callSi X 9 [.long (Int32.toInt64 x0), .long 0, .long 2000000000] (mt_X0_isIn rfl) lk_X0_67 yd_X0_isIn rfl rfl rfl dX0_isSeed_6 rfl rfl rfl ?_
  cases hp
  exact gw_zret X dX0_isSeed_9 (fun _ h => ⟨rfl, h⟩) (Nat.le_of_ble_eq_true rfl) (Nat.le_of_ble_eq_true rfl)
abbrev rm_X0_deals : Room := { frames := 0, cells := 0, slots := 0, locals := 0 }
def fx_X0_deals_L11 {τ : Type} (k : gw_S → Option (τ)) (v3 : Int64) : Nat → Int32 → gw_S → Option (τ)
  | 0, _, _ => none
  | n + 1, c6, σ => (if (8 : Int32) ≤ c6 then k σ else gw_ck c6 8 (fx_X0_deals_L11 k v3 n (c6 + 1) (gw_u σ 8 (Int32.toNatClampNeg c6) c6)))
def fx_X0_deals_L42 {τ : Type} (k : gw_S → Option (τ))  : Nat → Int64 → Int32 → gw_S → Option (τ)
  | 0, _, _, _ => none
  | n + 1, c3, c6, σ => (if c6 ≤ 0 then k σ else gw_czL (Int32.toInt64 (c6 + (1 : Int32))) (gw_ck c6 8 (gw_ck (Int64.toInt32 ((((((1103515245 : Int64) * c3) + (12345 : Int64)) - (((1103515245 : Int64) * c3) + (12345 : Int64)) / (2147483648 : Int64) * (2147483648 : Int64)) / (65536 : Int64)) - (((((1103515245 : Int64) * c3) + (12345 : Int64)) - (((1103515245 : Int64) * c3) + (12345 : Int64)) / (2147483648 : Int64) * (2147483648 : Int64)) / (65536 : Int64)) / (Int32.toInt64 (c6 + (1 : Int32))) * (Int32.toInt64 (c6 + (1 : Int32))))) 8 (gw_ck c6 8 (gw_let (gw_u σ 8 (Int32.toNatClampNeg c6) (σ.1 8 (Int32.toNatClampNeg (Int64.toInt32 ((((((1103515245 : Int64) * c3) + (12345 : Int64)) - (((1103515245 : Int64) * c3) + (12345 : Int64)) / (2147483648 : Int64) * (2147483648 : Int64)) / (65536 : Int64)) - (((((1103515245 : Int64) * c3) + (12345 : Int64)) - (((1103515245 : Int64) * c3) + (12345 : Int64)) / (2147483648 : Int64) * (2147483648 : Int64)) / (65536 : Int64)) / (Int32.toInt64 (c6 + (1 : Int32))) * (Int32.toInt64 (c6 + (1 : Int32)))))))) (fun σ2 => gw_ck (Int64.toInt32 ((((((1103515245 : Int64) * c3) + (12345 : Int64)) - (((1103515245 : Int64) * c3) + (12345 : Int64)) / (2147483648 : Int64) * (2147483648 : Int64)) / (65536 : Int64)) - (((((1103515245 : Int64) * c3) + (12345 : Int64)) - (((1103515245 : Int64) * c3) + (12345 : Int64)) / (2147483648 : Int64) * (2147483648 : Int64)) / (65536 : Int64)) / (Int32.toInt64 (c6 + (1 : Int32))) * (Int32.toInt64 (c6 + (1 : Int32))))) 8 (fx_X0_deals_L42 k  n ((((1103515245 : Int64) * c3) + (12345 : Int64)) - (((1103515245 : Int64) * c3) + (12345 : Int64)) / (2147483648 : Int64) * (2147483648 : Int64)) (c6 + (-1)) (gw_u σ2 8 (Int32.toNatClampNeg (Int64.toInt32 ((((((1103515245 : Int64) * c3) + (12345 : Int64)) - (((1103515245 : Int64) * c3) + (12345 : Int64)) / (2147483648 : Int64) * (2147483648 : Int64)) / (65536 : Int64)) - (((((1103515245 : Int64) * c3) + (12345 : Int64)) - (((1103515245 : Int64) * c3) + (12345 : Int64)) / (2147483648 : Int64) * (2147483648 : Int64)) / (65536 : Int64)) / (Int32.toInt64 (c6 + (1 : Int32))) * (Int32.toInt64 (c6 + (1 : Int32)))))) (σ.1 8 (Int32.toNatClampNeg c6))))))))))
def fx_X0_deals_L108  : Nat → Int32 → gw_S → Option (gw_S)
  | 0, _, _ => none
  | n + 1, c6, σ => (if (σ.1 1 2) ≤ c6 then some σ else gw_ck c6 8 (gw_ck (σ.1 8 (Int32.toNatClampNeg c6)) 8 (fx_X0_deals_L108  n (c6 + 1) (gw_u σ 3 (Int32.toNatClampNeg (σ.1 8 (Int32.toNatClampNeg c6))) c6))))
def fx_X0_deals (σ : gw_S) (x1 : Int64) : Option (gw_S) := fx_X0_deals_L11 (fun (σ1 : gw_S) => fx_X0_deals_L42 (fun (σ4 : gw_S) => fx_X0_deals_L108  1000 (0 : Int32) σ4)  1000 x1 ((σ1.1 1 2) - (1 : Int32)) σ1) x1 1000 (0 : Int32) σ
set_option maxHeartbeats 4000000 in
theorem wk_X0_deals_L11 {E : gw_E} {l : Launch} {D : gw_D} {a : Nat → Nat} {Wr : va_W → Prop} {τ : Type} {res : τ} {post : Option (Option Value → va_W → Prop)} (X : gw_X E cX0_deals 9 RX0 none l D rm_X0_deals post) {k : gw_S → Option (τ)} {v3 : Int64} : ∀ {n : Nat} {c6 : Int32} {σ : gw_S}, fx_X0_deals_L11 k v3 n c6 σ = some res → (∀  (σ : gw_S), k σ = some res → gw_W E 31 [(0, .ref (a 0)), (3, .long v3), (5, .ref (a 8))] [] (gw_st (wX D a σ) Wr) 0 0) → gw_W E 11 [(0, .ref (a 0)), (3, .long v3), (5, .ref (a 8)), (6, .int c6)] [] (gw_st (wX D a σ) Wr) 0 0 := by
  intro n
  induction n with
  | zero =>
    intro c6 σ hp hk
    cases (show none = some res from hp)
  | succ n ih =>
    intro c6 σ hp hk
    rw [fx_X0_deals_L11] at hp
    refine gw_iload X 13 3 dX0_deals_11 rfl rfl ?_
    refine gw_bipush X 15 dX0_deals_13 rfl gw_cb_8 ?_
    refine gw_icmp_ge X 31 18 dX0_deals_15 rfl rfl (fun z => ?_) (fun z => ?_)
    · replace hp := gw_t z hp
      refine gw_lv [0, 1, 2] rfl ?_
      exact hk _ hp
    · replace hp := gw_f z hp
      refine gw_aload X 20 2 dX0_deals_18 rfl rfl ?_
      refine gw_iload X 22 3 dX0_deals_20 rfl rfl ?_
      refine gw_iload X 24 3 dX0_deals_22 rfl rfl ?_
      obtain ⟨hc, hp⟩ := gw_ck_some hp
      refine gX_s8 X 25 (Int32.toNatClampNeg c6) hc rfl dX0_deals_24 rfl ?_
      refine gw_iinc X 28 3 [(6, .int (c6 + 1)), (0, .ref (a 0)), (3, .long v3), (5, .ref (a 8))] dX0_deals_25 rfl rfl gw_ci_1 (by decide) rfl ?_
      refine gw_goto X 11 dX0_deals_28 rfl ?_
      refine gw_lv [1, 2, 3, 0] rfl ?_
      exact ih hp hk
set_option maxHeartbeats 4000000 in
theorem wk_X0_deals_L42 {E : gw_E} {l : Launch} {D : gw_D} {a : Nat → Nat} {Wr : va_W → Prop} {τ : Type} {res : τ} {post : Option (Option Value → va_W → Prop)} (X : gw_X E cX0_deals 9 RX0 none l D rm_X0_deals post) {k : gw_S → Option (τ)}  : ∀ {n : Nat} {c3 : Int64} {c6 : Int32} {σ : gw_S}, fx_X0_deals_L42 k  n c3 c6 σ = some res → (∀  (σ : gw_S), k σ = some res → gw_W E 105 [(0, .ref (a 0)), (5, .ref (a 8))] [] (gw_st (wX D a σ) Wr) 0 0) → gw_W E 42 [(0, .ref (a 0)), (3, .long c3), (5, .ref (a 8)), (6, .int c6)] [] (gw_st (wX D a σ) Wr) 0 0 := by
  intro n
  induction n with
  | zero =>
    intro c3 c6 σ hp hk
    cases (show none = some res from hp)
  | succ n ih =>
    intro c3 c6 σ hp hk
    rw [fx_X0_deals_L42] at hp
    refine gw_iload X 44 3 dX0_deals_42 rfl rfl ?_
    refine gw_if_le X 105 47 dX0_deals_44 rfl rfl (fun z => ?_) (fun z => ?_)
    · replace hp := gw_t z hp
      refine gw_lv [0, 2] rfl ?_
      exact hk _ hp
    · replace hp := gw_f z hp
      refine gw_ldc2 X 50 dX0_deals_47 rfl q1255 ?_
      refine gw_lload_n X 51 1 dX0_deals_50 rfl rfl rfl ?_
      refine gw_lmul X 52 dX0_deals_51 rfl ?_
      refine gw_ldc2 X 55 dX0_deals_52 rfl q1256 ?_
      refine gw_ladd X 56 dX0_deals_55 rfl ?_
      refine gw_ldc2 X 59 dX0_deals_56 rfl q1257 ?_
      refine gw_lrem X 60 dX0_deals_59 rfl (by decide) ?_
      refine gw_lstore_n X 61 [(3, .long ((((1103515245 : Int64) * c3) + (12345 : Int64)) - (((1103515245 : Int64) * c3) + (12345 : Int64)) / (2147483648 : Int64) * (2147483648 : Int64))), (0, .ref (a 0)), (5, .ref (a 8)), (6, .int c6)] dX0_deals_60 rfl rfl (by decide) rfl ?_
      refine gw_lload_n X 62 0 dX0_deals_61 rfl rfl rfl ?_
      refine gw_ldc2 X 65 dX0_deals_62 rfl q1258 ?_
      refine gw_ldiv X 66 dX0_deals_65 rfl (by decide) ?_
      refine gw_iload X 68 3 dX0_deals_66 rfl rfl ?_
      refine gw_iconst X 69 dX0_deals_68 rfl gw_ci_1 ?_
      refine gw_iadd X 70 dX0_deals_69 rfl ?_
      refine gw_i2l X 71 dX0_deals_70 rfl ?_
      obtain ⟨hz, hp⟩ := gw_czL_some hp
      refine gw_lrem X 72 dX0_deals_71 rfl hz ?_
      refine gw_l2i X 73 dX0_deals_72 rfl ?_
      refine gw_istore X 75 [(7, .int (Int64.toInt32 ((((((1103515245 : Int64) * c3) + (12345 : Int64)) - (((1103515245 : Int64) * c3) + (12345 : Int64)) / (2147483648 : Int64) * (2147483648 : Int64)) / (65536 : Int64)) - (((((1103515245 : Int64) * c3) + (12345 : Int64)) - (((1103515245 : Int64) * c3) + (12345 : Int64)) / (2147483648 : Int64) * (2147483648 : Int64)) / (65536 : Int64)) / (Int32.toInt64 (c6 + (1 : Int32))) * (Int32.toInt64 (c6 + (1 : Int32)))))), (3, .long ((((1103515245 : Int64) * c3) + (12345 : Int64)) - (((1103515245 : Int64) * c3) + (12345 : Int64)) / (2147483648 : Int64) * (2147483648 : Int64))), (0, .ref (a 0)), (5, .ref (a 8)), (6, .int c6)] dX0_deals_73 rfl (by decide) rfl ?_
      refine gw_aload X 77 3 dX0_deals_75 rfl rfl ?_
      refine gw_iload X 79 4 dX0_deals_77 rfl rfl ?_
      obtain ⟨hc, hp⟩ := gw_ck_some hp
      refine gX_l8 X 80 (Int32.toNatClampNeg c6) hc rfl dX0_deals_79 rfl ?_
      refine gw_istore X 82 [(8, .int (σ.1 8 (Int32.toNatClampNeg c6))), (7, .int (Int64.toInt32 ((((((1103515245 : Int64) * c3) + (12345 : Int64)) - (((1103515245 : Int64) * c3) + (12345 : Int64)) / (2147483648 : Int64) * (2147483648 : Int64)) / (65536 : Int64)) - (((((1103515245 : Int64) * c3) + (12345 : Int64)) - (((1103515245 : Int64) * c3) + (12345 : Int64)) / (2147483648 : Int64) * (2147483648 : Int64)) / (65536 : Int64)) / (Int32.toInt64 (c6 + (1 : Int32))) * (Int32.toInt64 (c6 + (1 : Int32)))))), (3, .long ((((1103515245 : Int64) * c3) + (12345 : Int64)) - (((1103515245 : Int64) * c3) + (12345 : Int64)) / (2147483648 : Int64) * (2147483648 : Int64))), (0, .ref (a 0)), (5, .ref (a 8)), (6, .int c6)] dX0_deals_80 rfl (by decide) rfl ?_
      refine gw_aload X 84 4 dX0_deals_82 rfl rfl ?_
      refine gw_iload X 86 5 dX0_deals_84 rfl rfl ?_
      refine gw_aload X 88 4 dX0_deals_86 rfl rfl ?_
      refine gw_iload X 90 1 dX0_deals_88 rfl rfl ?_
      obtain ⟨hc, hp⟩ := gw_ck_some hp
      refine gX_l8 X 91 (Int32.toNatClampNeg (Int64.toInt32 ((((((1103515245 : Int64) * c3) + (12345 : Int64)) - (((1103515245 : Int64) * c3) + (12345 : Int64)) / (2147483648 : Int64) * (2147483648 : Int64)) / (65536 : Int64)) - (((((1103515245 : Int64) * c3) + (12345 : Int64)) - (((1103515245 : Int64) * c3) + (12345 : Int64)) / (2147483648 : Int64) * (2147483648 : Int64)) / (65536 : Int64)) / (Int32.toInt64 (c6 + (1 : Int32))) * (Int32.toInt64 (c6 + (1 : Int32)))))) hc rfl dX0_deals_90 rfl ?_
      obtain ⟨hc, hp⟩ := gw_ck_some hp
      refine gX_s8 X 92 (Int32.toNatClampNeg c6) hc rfl dX0_deals_91 rfl ?_
      refine gw_aload X 94 4 dX0_deals_92 rfl rfl ?_
      refine gw_iload X 96 1 dX0_deals_94 rfl rfl ?_
      refine gw_iload X 98 0 dX0_deals_96 rfl rfl ?_
      obtain ⟨σ2, h3, hp⟩ := gw_let_some hp
      rw [← h3]
      clear h3
      obtain ⟨hc, hp⟩ := gw_ck_some hp
      refine gX_s8 X 99 (Int32.toNatClampNeg (Int64.toInt32 ((((((1103515245 : Int64) * c3) + (12345 : Int64)) - (((1103515245 : Int64) * c3) + (12345 : Int64)) / (2147483648 : Int64) * (2147483648 : Int64)) / (65536 : Int64)) - (((((1103515245 : Int64) * c3) + (12345 : Int64)) - (((1103515245 : Int64) * c3) + (12345 : Int64)) / (2147483648 : Int64) * (2147483648 : Int64)) / (65536 : Int64)) / (Int32.toInt64 (c6 + (1 : Int32))) * (Int32.toInt64 (c6 + (1 : Int32)))))) hc rfl dX0_deals_98 rfl ?_
      refine gw_iinc X 102 5 [(6, .int (c6 + (-1))), (8, .int (σ.1 8 (Int32.toNatClampNeg c6))), (7, .int (Int64.toInt32 ((((((1103515245 : Int64) * c3) + (12345 : Int64)) - (((1103515245 : Int64) * c3) + (12345 : Int64)) / (2147483648 : Int64) * (2147483648 : Int64)) / (65536 : Int64)) - (((((1103515245 : Int64) * c3) + (12345 : Int64)) - (((1103515245 : Int64) * c3) + (12345 : Int64)) / (2147483648 : Int64) * (2147483648 : Int64)) / (65536 : Int64)) / (Int32.toInt64 (c6 + (1 : Int32))) * (Int32.toInt64 (c6 + (1 : Int32)))))), (3, .long ((((1103515245 : Int64) * c3) + (12345 : Int64)) - (((1103515245 : Int64) * c3) + (12345 : Int64)) / (2147483648 : Int64) * (2147483648 : Int64))), (0, .ref (a 0)), (5, .ref (a 8))] dX0_deals_99 rfl rfl gw_ci_m1 (by decide) rfl ?_
      refine gw_goto X 42 dX0_deals_102 rfl ?_
      refine gw_lv [4, 3, 5, 0] rfl ?_
      exact ih hp hk
set_option maxHeartbeats 4000000 in
theorem wk_X0_deals_L108 {E : gw_E} {l : Launch} {D : gw_D} {a : Nat → Nat} {Wr : va_W → Prop} {res : gw_S} (X : gw_X E cX0_deals 9 RX0 none l D rm_X0_deals (some (gw_pV (gw_st (wX D a res) Wr))))  : ∀ {n : Nat} {c6 : Int32} {σ : gw_S}, fx_X0_deals_L108  n c6 σ = some res → gw_W E 108 [(0, .ref (a 0)), (5, .ref (a 8)), (6, .int c6)] [] (gw_st (wX D a σ) Wr) 0 0 := by
  intro n
  induction n with
  | zero =>
    intro c6 σ hp
    cases (show none = some res from hp)
  | succ n ih =>
    intro c6 σ hp
    rw [fx_X0_deals_L108] at hp
    refine gw_iload X 110 2 dX0_deals_108 rfl rfl ?_
    refine gw_aload_n X 111 0 dX0_deals_110 rfl rfl rfl ?_
    refine gX_g0_0 X 114 q280 dX0_deals_111 rfl ?_
    refine gX_g1_2N X 117 q193 dX0_deals_114 rfl ?_
    refine gw_icmp_ge X 138 120 dX0_deals_117 rfl rfl (fun z => ?_) (fun z => ?_)
    · replace hp := gw_t z hp
      cases hp
      exact gw_vret X dX0_deals_138 (fun _ h => ⟨rfl, h⟩) (Nat.le_of_ble_eq_true rfl) (Nat.le_of_ble_eq_true rfl)
    · replace hp := gw_f z hp
      refine gw_aload_n X 121 0 dX0_deals_120 rfl rfl rfl ?_
      refine gX_g0_9 X 124 q303 dX0_deals_121 rfl ?_
      refine gw_aload X 126 1 dX0_deals_124 rfl rfl ?_
      refine gw_iload X 128 2 dX0_deals_126 rfl rfl ?_
      obtain ⟨hc, hp⟩ := gw_ck_some hp
      refine gX_l8 X 129 (Int32.toNatClampNeg c6) hc rfl dX0_deals_128 rfl ?_
      refine gw_iload X 131 2 dX0_deals_129 rfl rfl ?_
      obtain ⟨hc, hp⟩ := gw_ck_some hp
      refine gX_s3 X 132 (Int32.toNatClampNeg (σ.1 8 (Int32.toNatClampNeg c6))) hc rfl dX0_deals_131 rfl ?_
      refine gw_iinc X 135 2 [(6, .int (c6 + 1)), (0, .ref (a 0)), (5, .ref (a 8))] dX0_deals_132 rfl rfl gw_ci_1 (by decide) rfl ?_
      refine gw_goto X 108 dX0_deals_135 rfl ?_
      refine gw_lv [1, 2, 0] rfl ?_
      exact ih hp
set_option maxHeartbeats 4000000 in
theorem mt_X0_deals {l : Launch} {D : gw_D} {a : Nat → Nat} {Wr : va_W → Prop} {σ : gw_S} {x1 : Int64} {res : gw_S} (hp : fx_X0_deals σ x1 = some res) : gw_Ct D l yX0_deals cX0_deals 9 none rm_X0_deals [.ref (a 0), .long x1] (gw_st (wX D a σ) Wr) (gw_pV (gw_st (wX D a res) Wr)) := by
  refine gw_ct (own := RX0) [(0, .ref (a 0)), (1, .long x1)] (by decide) rfl (Nat.le_of_ble_eq_true rfl) rfl ?_
  intro E X
  unfold fx_X0_deals at hp
  refine gw_lload_n X 1 1 dX0_deals_0 rfl rfl rfl ?_
  refine gw_lstore_n X 2 [(3, .long x1), (0, .ref (a 0)), (1, .long x1)] dX0_deals_1 rfl rfl (by decide) rfl ?_
  refine gw_aload_n X 3 1 dX0_deals_2 rfl rfl rfl ?_
  refine gX_g0_20 X 6 q317 dX0_deals_3 rfl ?_
  refine gw_astore X 8 [(5, .ref (a 8)), (3, .long x1), (0, .ref (a 0)), (1, .long x1)] dX0_deals_6 rfl (by decide) rfl ?_
  refine gw_iconst X 9 dX0_deals_8 rfl gw_ci_0 ?_
  refine gw_istore X 11 [(6, .int 0), (5, .ref (a 8)), (3, .long x1), (0, .ref (a 0)), (1, .long x1)] dX0_deals_9 rfl (by decide) rfl ?_
  refine gw_lv [3, 2, 1, 0] rfl ?_
  refine wk_X0_deals_L11 X hp ?_
  clear hp
  intro σ1 hp
  refine gw_aload_n X 32 0 dX0_deals_31 rfl rfl rfl ?_
  refine gX_g0_0 X 35 q280 dX0_deals_32 rfl ?_
  refine gX_g1_2N X 38 q193 dX0_deals_35 rfl ?_
  refine gw_iconst X 39 dX0_deals_38 rfl gw_ci_1 ?_
  refine gw_isub X 40 dX0_deals_39 rfl ?_
  refine gw_istore X 42 [(6, .int ((σ1.1 1 2) - (1 : Int32))), (0, .ref (a 0)), (3, .long x1), (5, .ref (a 8))] dX0_deals_40 rfl (by decide) rfl ?_
  refine gw_lv [1, 2, 3, 0] rfl ?_
  refine wk_X0_deals_L42 X hp ?_
  clear hp
  intro σ4 hp
  refine gw_iconst X 106 dX0_deals_105 rfl gw_ci_0 ?_
  refine gw_istore X 108 [(6, .int 0), (0, .ref (a 0)), (5, .ref (a 8))] dX0_deals_106 rfl (by decide) rfl ?_
  refine gw_lv [1, 2, 0] rfl ?_
  exact wk_X0_deals_L108 X hp
abbrev rm_X0_drawn : Room := { frames := 2, cells := 0, slots := 0, locals := 47 }
def fx_X0_drawn (σ : gw_S) (x1 : Int32) (x2 : Int32) : Option (Int32 × gw_S) := (if fx_X0_isSeed x1 = true then (if fx_X0_isPerson σ (Int32.toInt64 x2) = true then gw_b1 (fx_X0_deals σ (Int32.toInt64 x1)) (fun σ1 => gw_ck x2 8 (some (σ1.1 3 (Int32.toNatClampNeg x2), σ1))) else some ((-2), σ)) else some ((-2), σ))
set_option maxHeartbeats 4000000 in
theorem mt_X0_drawn {l : Launch} {D : gw_D} {a : Nat → Nat} {Wr : va_W → Prop} {σ : gw_S} {x1 : Int32} {x2 : Int32} {res : Int32 × gw_S} (hp : fx_X0_drawn σ x1 x2 = some res) : gw_Ct D l yX0_drawn cX0_drawn 3 (some .int) rm_X0_drawn [.ref (a 0), .int x1, .int x2] (gw_st (wX D a σ) Wr) (gw_pI res.1 (gw_st (wX D a res.2) Wr)) := by
  refine gw_ct (own := RX0) [(0, .ref (a 0)), (1, .int x1), (2, .int x2)] (by decide) rfl (Nat.le_of_ble_eq_true rfl) rfl ?_
  intro E X
  unfold fx_X0_drawn at hp
  refine gw_iload_n X 1 1 dX0_drawn_0 rfl rfl rfl ?_
  refine gw_callSi X 4 [.int x1] (mt_X0_isSeed rfl) lk_X0_392 yd_X0_isSeed rfl rfl rfl dX0_drawn_1 rfl rfl rfl ?_
  refine gw_if_eqB X 16 7 dX0_drawn_4 rfl rfl (fun z => ?_) (fun z => ?_)
  · replace hp := gw_f z hp
    refine gw_bipush X 18 dX0_drawn_16 rfl gw_cb_m2 ?_
    cases hp
    exact gw_iret X dX0_drawn_18 (fun _ h => ⟨rfl, h⟩) (Nat.le_of_ble_eq_true rfl) (Nat.le_of_ble_eq_true rfl)
  · replace hp := gw_t z hp
    refine gw_aload_n X 8 0 dX0_drawn_7 rfl rfl rfl ?_
    refine gw_iload_n X 9 2 dX0_drawn_8 rfl rfl rfl ?_
    refine gw_i2l X 10 dX0_drawn_9 rfl ?_
    refine gw_callVi X 13 [.long (Int32.toInt64 x2)] (mt_X0_isPerson rfl) lk_X0_186 ydv_X0_isPerson gX_cl0 gX_at0 rfl rfl rfl dX0_drawn_10 rfl rfl rfl ?_
    refine gw_if_neB X 19 16 dX0_drawn_13 rfl rfl (fun z => ?_) (fun z => ?_)
    · replace hp := gw_t z hp
      refine gw_aload_n X 20 0 dX0_drawn_19 rfl rfl rfl ?_
      refine gw_iload_n X 21 1 dX0_drawn_20 rfl rfl rfl ?_
      refine gw_i2l X 22 dX0_drawn_21 rfl ?_
      obtain ⟨σ1, h2, hp⟩ := gw_b1_some hp
      refine gw_callVv X 25 [.long (Int32.toInt64 x1)] (mt_X0_deals h2) lk_X0_395 ydv_X0_deals gX_cl0 gX_at0 rfl rfl rfl dX0_drawn_22 rfl rfl rfl ?_
      refine gw_aload_n X 26 0 dX0_drawn_25 rfl rfl rfl ?_
      refine gX_g0_9 X 29 q303 dX0_drawn_26 rfl ?_
      refine gw_iload_n X 30 2 dX0_drawn_29 rfl rfl rfl ?_
      obtain ⟨hc, hp⟩ := gw_ck_some hp
      refine gX_l3 X 31 (Int32.toNatClampNeg x2) hc rfl dX0_drawn_30 rfl ?_
      cases hp
      exact gw_iret X dX0_drawn_31 (fun _ h => ⟨rfl, h⟩) (Nat.le_of_ble_eq_true rfl) (Nat.le_of_ble_eq_true rfl)
    · replace hp := gw_f z hp
      refine gw_bipush X 18 dX0_drawn_16 rfl gw_cb_m2 ?_
      cases hp
      exact gw_iret X dX0_drawn_18 (fun _ h => ⟨rfl, h⟩) (Nat.le_of_ble_eq_true rfl) (Nat.le_of_ble_eq_true rfl)
abbrev rm_X0_luck : Room := { frames := 2, cells := 0, slots := 0, locals := 47 }
def fx_X0_luck_L37 (v1 : Int32) (v2 : Int32) (v3 : Int32) : Nat → Int32 → Int32 → gw_S → Option (Int32 × gw_S)
  | 0, _, _, _ => none
  | n + 1, c4, c5, σ => (if v2 ≤ c5 then some (c4, σ) else gw_b1 (fx_X0_deals σ ((Int32.toInt64 v1) + (Int32.toInt64 c5))) (fun σ1 => gw_ck v3 8 ((if (σ1.1 3 (Int32.toNatClampNeg v3)) = v3 then fx_X0_luck_L37 v1 v2 v3 n (c4 + (1 : Int32)) (c5 + 1) σ1 else fx_X0_luck_L37 v1 v2 v3 n (c4 + (0 : Int32)) (c5 + 1) σ1))))
def fx_X0_luck (σ : gw_S) (x1 : Int32) (x2 : Int32) (x3 : Int32) : Option (Int32 × gw_S) := (if fx_X0_isSeed x1 = true then (if fx_X0_isIn (Int32.toInt64 x2) (1 : Int64) (20 : Int64) = true then (if fx_X0_isPerson σ (Int32.toInt64 x3) = true then fx_X0_luck_L37 x1 x2 x3 1000 (0 : Int32) (0 : Int32) σ else some ((-2), σ)) else some ((-2), σ)) else some ((-2), σ))
set_option maxHeartbeats 4000000 in
theorem wk_X0_luck_L37 {E : gw_E} {l : Launch} {D : gw_D} {a : Nat → Nat} {Wr : va_W → Prop} {res : Int32 × gw_S} (X : gw_X E cX0_luck 6 RX0 (some .int) l D rm_X0_luck (some (gw_pI res.1 (gw_st (wX D a res.2) Wr)))) {v1 : Int32} {v2 : Int32} {v3 : Int32} : ∀ {n : Nat} {c4 : Int32} {c5 : Int32} {σ : gw_S}, fx_X0_luck_L37 v1 v2 v3 n c4 c5 σ = some res → gw_W E 37 [(0, .ref (a 0)), (1, .int v1), (2, .int v2), (3, .int v3), (4, .int c4), (5, .int c5)] [] (gw_st (wX D a σ) Wr) 0 0 := by
  intro n
  induction n with
  | zero =>
    intro c4 c5 σ hp
    cases (show none = some res from hp)
  | succ n ih =>
    intro c4 c5 σ hp
    rw [fx_X0_luck_L37] at hp
    refine gw_iload X 39 5 dX0_luck_37 rfl rfl ?_
    refine gw_iload_n X 40 2 dX0_luck_39 rfl rfl rfl ?_
    refine gw_icmp_ge X 79 43 dX0_luck_40 rfl rfl (fun z => ?_) (fun z => ?_)
    · replace hp := gw_t z hp
      refine gw_iload X 81 4 dX0_luck_79 rfl rfl ?_
      cases hp
      exact gw_iret X dX0_luck_81 (fun _ h => ⟨rfl, h⟩) (Nat.le_of_ble_eq_true rfl) (Nat.le_of_ble_eq_true rfl)
    · replace hp := gw_f z hp
      refine gw_aload_n X 44 0 dX0_luck_43 rfl rfl rfl ?_
      refine gw_iload_n X 45 1 dX0_luck_44 rfl rfl rfl ?_
      refine gw_i2l X 46 dX0_luck_45 rfl ?_
      refine gw_iload X 48 5 dX0_luck_46 rfl rfl ?_
      refine gw_i2l X 49 dX0_luck_48 rfl ?_
      refine gw_ladd X 50 dX0_luck_49 rfl ?_
      obtain ⟨σ1, h2, hp⟩ := gw_b1_some hp
      refine gw_callVv X 53 [.long ((Int32.toInt64 v1) + (Int32.toInt64 c5))] (mt_X0_deals h2) lk_X0_395 ydv_X0_deals gX_cl0 gX_at0 rfl rfl rfl dX0_luck_50 rfl rfl rfl ?_
      refine gw_iload X 55 4 dX0_luck_53 rfl rfl ?_
      refine gw_aload_n X 56 0 dX0_luck_55 rfl rfl rfl ?_
      refine gX_g0_9 X 59 q303 dX0_luck_56 rfl ?_
      refine gw_iload_n X 60 3 dX0_luck_59 rfl rfl rfl ?_
      obtain ⟨hc, hp⟩ := gw_ck_some hp
      refine gX_l3 X 61 (Int32.toNatClampNeg v3) hc rfl dX0_luck_60 rfl ?_
      refine gw_iload_n X 62 3 dX0_luck_61 rfl rfl rfl ?_
      refine gw_icmp_ne X 69 65 dX0_luck_62 rfl rfl (fun z => ?_) (fun z => ?_)
      · replace hp := gw_f z hp
        refine gw_iconst X 70 dX0_luck_69 rfl gw_ci_0 ?_
        refine gw_iadd X 71 dX0_luck_70 rfl ?_
        refine gw_istore X 73 [(4, .int (c4 + (0 : Int32))), (0, .ref (a 0)), (1, .int v1), (2, .int v2), (3, .int v3), (5, .int c5)] dX0_luck_71 rfl (by decide) rfl ?_
        refine gw_iinc X 76 5 [(5, .int (c5 + 1)), (4, .int (c4 + (0 : Int32))), (0, .ref (a 0)), (1, .int v1), (2, .int v2), (3, .int v3)] dX0_luck_73 rfl rfl gw_ci_1 (by decide) rfl ?_
        refine gw_goto X 37 dX0_luck_76 rfl ?_
        refine gw_lv [2, 3, 4, 5, 1, 0] rfl ?_
        exact ih hp
      · replace hp := gw_t z hp
        refine gw_iconst X 66 dX0_luck_65 rfl gw_ci_1 ?_
        refine gw_goto X 70 dX0_luck_66 rfl ?_
        refine gw_iadd X 71 dX0_luck_70 rfl ?_
        refine gw_istore X 73 [(4, .int (c4 + (1 : Int32))), (0, .ref (a 0)), (1, .int v1), (2, .int v2), (3, .int v3), (5, .int c5)] dX0_luck_71 rfl (by decide) rfl ?_
        refine gw_iinc X 76 5 [(5, .int (c5 + 1)), (4, .int (c4 + (1 : Int32))), (0, .ref (a 0)), (1, .int v1), (2, .int v2), (3, .int v3)] dX0_luck_73 rfl rfl gw_ci_1 (by decide) rfl ?_
        refine gw_goto X 37 dX0_luck_76 rfl ?_
        refine gw_lv [2, 3, 4, 5, 1, 0] rfl ?_
        exact ih hp
set_option maxHeartbeats 4000000 in
theorem mt_X0_luck {l : Launch} {D : gw_D} {a : Nat → Nat} {Wr : va_W → Prop} {σ : gw_S} {x1 : Int32} {x2 : Int32} {x3 : Int32} {res : Int32 × gw_S} (hp : fx_X0_luck σ x1 x2 x3 = some res) : gw_Ct D l yX0_luck cX0_luck 6 (some .int) rm_X0_luck [.ref (a 0), .int x1, .int x2, .int x3] (gw_st (wX D a σ) Wr) (gw_pI res.1 (gw_st (wX D a res.2) Wr)) := by
  refine gw_ct (own := RX0) [(0, .ref (a 0)), (1, .int x1), (2, .int x2), (3, .int x3)] (by decide) rfl (Nat.le_of_ble_eq_true rfl) rfl ?_
  intro E X
  unfold fx_X0_luck at hp
  refine gw_iload_n X 1 1 dX0_luck_0 rfl rfl rfl ?_
  refine gw_callSi X 4 [.int x1] (mt_X0_isSeed rfl) lk_X0_392 yd_X0_isSeed rfl rfl rfl dX0_luck_1 rfl rfl rfl ?_
  refine gw_if_eqB X 28 7 dX0_luck_4 rfl rfl (fun z => ?_) (fun z => ?_)
  · replace hp := gw_f z hp
    refine gw_bipush X 30 dX0_luck_28 rfl gw_cb_m2 ?_
    cases hp
    exact gw_iret X dX0_luck_30 (fun _ h => ⟨rfl, h⟩) (Nat.le_of_ble_eq_true rfl) (Nat.le_of_ble_eq_true rfl)
  · replace hp := gw_t z hp
    refine gw_iload_n X 8 2 dX0_luck_7 rfl rfl rfl ?_
    refine gw_i2l X 9 dX0_luck_8 rfl ?_
    refine gw_lconst X 10 dX0_luck_9 rfl gw_cl_1 ?_
    refine gw_ldc2 X 13 dX0_luck_10 rfl q1263 ?_
    refine gw_callSi X 16 [.long (Int32.toInt64 x2), .long 1, .long 20] (mt_X0_isIn rfl) lk_X0_67 yd_X0_isIn rfl rfl rfl dX0_luck_13 rfl rfl rfl ?_
    refine gw_if_eqB X 28 19 dX0_luck_16 rfl rfl (fun z => ?_) (fun z => ?_)
    · replace hp := gw_f z hp
      refine gw_bipush X 30 dX0_luck_28 rfl gw_cb_m2 ?_
      cases hp
      exact gw_iret X dX0_luck_30 (fun _ h => ⟨rfl, h⟩) (Nat.le_of_ble_eq_true rfl) (Nat.le_of_ble_eq_true rfl)
    · replace hp := gw_t z hp
      refine gw_aload_n X 20 0 dX0_luck_19 rfl rfl rfl ?_
      refine gw_iload_n X 21 3 dX0_luck_20 rfl rfl rfl ?_
      refine gw_i2l X 22 dX0_luck_21 rfl ?_
      refine gw_callVi X 25 [.long (Int32.toInt64 x3)] (mt_X0_isPerson rfl) lk_X0_186 ydv_X0_isPerson gX_cl0 gX_at0 rfl rfl rfl dX0_luck_22 rfl rfl rfl ?_
      refine gw_if_neB X 31 28 dX0_luck_25 rfl rfl (fun z => ?_) (fun z => ?_)
      · replace hp := gw_t z hp
        refine gw_iconst X 32 dX0_luck_31 rfl gw_ci_0 ?_
        refine gw_istore X 34 [(4, .int 0), (0, .ref (a 0)), (1, .int x1), (2, .int x2), (3, .int x3)] dX0_luck_32 rfl (by decide) rfl ?_
        refine gw_iconst X 35 dX0_luck_34 rfl gw_ci_0 ?_
        refine gw_istore X 37 [(5, .int 0), (4, .int 0), (0, .ref (a 0)), (1, .int x1), (2, .int x2), (3, .int x3)] dX0_luck_35 rfl (by decide) rfl ?_
        refine gw_lv [2, 3, 4, 5, 1, 0] rfl ?_
        exact wk_X0_luck_L37 X hp
      · replace hp := gw_f z hp
        refine gw_bipush X 30 dX0_luck_28 rfl gw_cb_m2 ?_
        cases hp
        exact gw_iret X dX0_luck_30 (fun _ h => ⟨rfl, h⟩) (Nat.le_of_ble_eq_true rfl) (Nat.le_of_ble_eq_true rfl)
abbrev rm_X0_winds : Room := { frames := 3, cells := 0, slots := 0, locals := 69 }
def fx_X0_winds_L34 (v1 : Int32) (v2 : Int32) : Nat → Int32 → Int32 → gw_S → Option (Int32 × gw_S)
  | 0, _, _, _ => none
  | n + 1, c3, c4, σ => (if v2 ≤ c4 then some (c3, σ) else gw_b1 (fx_X0_deals σ ((Int32.toInt64 v1) + (Int32.toInt64 c4))) (fun σ1 => gw_b1 (fx_X0_ringMany σ1) (fun r3 => fx_X0_winds_L34 v1 v2 n (c3 + r3) (c4 + 1) σ1)))
def fx_X0_winds (σ : gw_S) (x1 : Int32) (x2 : Int32) : Option (Int32 × gw_S) := (if fx_X0_isCity σ = true then (if fx_X0_isSeed x1 = true then (if fx_X0_isIn (Int32.toInt64 x2) (1 : Int64) (20 : Int64) = true then fx_X0_winds_L34 x1 x2 1000 (0 : Int32) (0 : Int32) σ else some ((-2), σ)) else some ((-2), σ)) else some ((-2), σ))
set_option maxHeartbeats 4000000 in
theorem wk_X0_winds_L34 {E : gw_E} {l : Launch} {D : gw_D} {a : Nat → Nat} {Wr : va_W → Prop} {res : Int32 × gw_S} (X : gw_X E cX0_winds 5 RX0 (some .int) l D rm_X0_winds (some (gw_pI res.1 (gw_st (wX D a res.2) Wr)))) {v1 : Int32} {v2 : Int32} : ∀ {n : Nat} {c3 : Int32} {c4 : Int32} {σ : gw_S}, fx_X0_winds_L34 v1 v2 n c3 c4 σ = some res → gw_W E 34 [(0, .ref (a 0)), (1, .int v1), (2, .int v2), (3, .int c3), (4, .int c4)] [] (gw_st (wX D a σ) Wr) 0 0 := by
  intro n
  induction n with
  | zero =>
    intro c3 c4 σ hp
    cases (show none = some res from hp)
  | succ n ih =>
    intro c3 c4 σ hp
    rw [fx_X0_winds_L34] at hp
    refine gw_iload X 36 4 dX0_winds_34 rfl rfl ?_
    refine gw_iload_n X 37 2 dX0_winds_36 rfl rfl rfl ?_
    refine gw_icmp_ge X 63 40 dX0_winds_37 rfl rfl (fun z => ?_) (fun z => ?_)
    · replace hp := gw_t z hp
      refine gw_iload_n X 64 3 dX0_winds_63 rfl rfl rfl ?_
      cases hp
      exact gw_iret X dX0_winds_64 (fun _ h => ⟨rfl, h⟩) (Nat.le_of_ble_eq_true rfl) (Nat.le_of_ble_eq_true rfl)
    · replace hp := gw_f z hp
      refine gw_aload_n X 41 0 dX0_winds_40 rfl rfl rfl ?_
      refine gw_iload_n X 42 1 dX0_winds_41 rfl rfl rfl ?_
      refine gw_i2l X 43 dX0_winds_42 rfl ?_
      refine gw_iload X 45 4 dX0_winds_43 rfl rfl ?_
      refine gw_i2l X 46 dX0_winds_45 rfl ?_
      refine gw_ladd X 47 dX0_winds_46 rfl ?_
      obtain ⟨σ1, h2, hp⟩ := gw_b1_some hp
      refine gw_callVv X 50 [.long ((Int32.toInt64 v1) + (Int32.toInt64 c4))] (mt_X0_deals h2) lk_X0_395 ydv_X0_deals gX_cl0 gX_at0 rfl rfl rfl dX0_winds_47 rfl rfl rfl ?_
      refine gw_iload_n X 51 3 dX0_winds_50 rfl rfl rfl ?_
      refine gw_aload_n X 52 0 dX0_winds_51 rfl rfl rfl ?_
      obtain ⟨r3, h4, hp⟩ := gw_b1_some hp
      refine gw_callVi X 55 [] (mt_X0_ringMany h4) lk_X0_229 ydv_X0_ringMany gX_cl0 gX_at0 rfl rfl rfl dX0_winds_52 rfl rfl rfl ?_
      refine gw_iadd X 56 dX0_winds_55 rfl ?_
      refine gw_istore_n X 57 [(3, .int (c3 + r3)), (0, .ref (a 0)), (1, .int v1), (2, .int v2), (4, .int c4)] dX0_winds_56 rfl rfl (by decide) rfl ?_
      refine gw_iinc X 60 4 [(4, .int (c4 + 1)), (3, .int (c3 + r3)), (0, .ref (a 0)), (1, .int v1), (2, .int v2)] dX0_winds_57 rfl rfl gw_ci_1 (by decide) rfl ?_
      refine gw_goto X 34 dX0_winds_60 rfl ?_
      refine gw_lv [2, 3, 4, 1, 0] rfl ?_
      exact ih hp
set_option maxHeartbeats 4000000 in
theorem mt_X0_winds {l : Launch} {D : gw_D} {a : Nat → Nat} {Wr : va_W → Prop} {σ : gw_S} {x1 : Int32} {x2 : Int32} {res : Int32 × gw_S} (hp : fx_X0_winds σ x1 x2 = some res) : gw_Ct D l yX0_winds cX0_winds 5 (some .int) rm_X0_winds [.ref (a 0), .int x1, .int x2] (gw_st (wX D a σ) Wr) (gw_pI res.1 (gw_st (wX D a res.2) Wr)) := by
  refine gw_ct (own := RX0) [(0, .ref (a 0)), (1, .int x1), (2, .int x2)] (by decide) rfl (Nat.le_of_ble_eq_true rfl) rfl ?_
  intro E X
  unfold fx_X0_winds at hp
  refine gw_aload_n X 1 0 dX0_winds_0 rfl rfl rfl ?_
  refine gw_callVi X 4 [] (mt_X0_isCity rfl) lk_X0_103 ydv_X0_isCity gX_cl0 gX_at0 rfl rfl rfl dX0_winds_1 rfl rfl rfl ?_
  refine gw_if_eqB X 26 7 dX0_winds_4 rfl rfl (fun z => ?_) (fun z => ?_)
  · replace hp := gw_f z hp
    refine gw_bipush X 28 dX0_winds_26 rfl gw_cb_m2 ?_
    cases hp
    exact gw_iret X dX0_winds_28 (fun _ h => ⟨rfl, h⟩) (Nat.le_of_ble_eq_true rfl) (Nat.le_of_ble_eq_true rfl)
  · replace hp := gw_t z hp
    refine gw_iload_n X 8 1 dX0_winds_7 rfl rfl rfl ?_
    refine gw_callSi X 11 [.int x1] (mt_X0_isSeed rfl) lk_X0_392 yd_X0_isSeed rfl rfl rfl dX0_winds_8 rfl rfl rfl ?_
    refine gw_if_eqB X 26 14 dX0_winds_11 rfl rfl (fun z => ?_) (fun z => ?_)
    · replace hp := gw_f z hp
      refine gw_bipush X 28 dX0_winds_26 rfl gw_cb_m2 ?_
      cases hp
      exact gw_iret X dX0_winds_28 (fun _ h => ⟨rfl, h⟩) (Nat.le_of_ble_eq_true rfl) (Nat.le_of_ble_eq_true rfl)
    · replace hp := gw_t z hp
      refine gw_iload_n X 15 2 dX0_winds_14 rfl rfl rfl ?_
      refine gw_i2l X 16 dX0_winds_15 rfl ?_
      refine gw_lconst X 17 dX0_winds_16 rfl gw_cl_1 ?_
      refine gw_ldc2 X 20 dX0_winds_17 rfl q1263 ?_
      refine gw_callSi X 23 [.long (Int32.toInt64 x2), .long 1, .long 20] (mt_X0_isIn rfl) lk_X0_67 yd_X0_isIn rfl rfl rfl dX0_winds_20 rfl rfl rfl ?_
      refine gw_if_neB X 29 26 dX0_winds_23 rfl rfl (fun z => ?_) (fun z => ?_)
      · replace hp := gw_t z hp
        refine gw_iconst X 30 dX0_winds_29 rfl gw_ci_0 ?_
        refine gw_istore_n X 31 [(3, .int 0), (0, .ref (a 0)), (1, .int x1), (2, .int x2)] dX0_winds_30 rfl rfl (by decide) rfl ?_
        refine gw_iconst X 32 dX0_winds_31 rfl gw_ci_0 ?_
        refine gw_istore X 34 [(4, .int 0), (3, .int 0), (0, .ref (a 0)), (1, .int x1), (2, .int x2)] dX0_winds_32 rfl (by decide) rfl ?_
        refine gw_lv [2, 3, 4, 1, 0] rfl ?_
        exact wk_X0_winds_L34 X hp
      · replace hp := gw_f z hp
        refine gw_bipush X 28 dX0_winds_26 rfl gw_cb_m2 ?_
        cases hp
        exact gw_iret X dX0_winds_28 (fun _ h => ⟨rfl, h⟩) (Nat.le_of_ble_eq_true rfl) (Nat.le_of_ble_eq_true rfl)
abbrev rm_X0_rate : Room := { frames := 2, cells := 0, slots := 0, locals := 47 }
def fx_X0_rate (σ : gw_S) (x1 : Int32) (x2 : Int32) : Option (Int32 × gw_S) := (if fx_X0_isPerson σ (Int32.toInt64 x1) = true then (if fx_X0_isIn (Int32.toInt64 x2) (1 : Int64) (999 : Int64) = true then (if (σ.1 1 3) ≤ 0 then gw_ck x1 8 (gw_ck x1 8 (some (σ.1 9 (Int32.toNatClampNeg x1), gw_u σ 9 (Int32.toNatClampNeg x1) x2))) else some ((-5), σ)) else some ((-2), σ)) else some ((-2), σ))
set_option maxHeartbeats 4000000 in
theorem mt_X0_rate {l : Launch} {D : gw_D} {a : Nat → Nat} {Wr : va_W → Prop} {σ : gw_S} {x1 : Int32} {x2 : Int32} {res : Int32 × gw_S} (hp : fx_X0_rate σ x1 x2 = some res) : gw_Ct D l yX0_rate cX0_rate 4 (some .int) rm_X0_rate [.ref (a 0), .int x1, .int x2] (gw_st (wX D a σ) Wr) (gw_pI res.1 (gw_st (wX D a res.2) Wr)) := by
  refine gw_ct (own := RX0) [(0, .ref (a 0)), (1, .int x1), (2, .int x2)] (by decide) rfl (Nat.le_of_ble_eq_true rfl) rfl ?_
  intro E X
  unfold fx_X0_rate at hp
  refine gw_aload_n X 1 0 dX0_rate_0 rfl rfl rfl ?_
  refine gw_iload_n X 2 1 dX0_rate_1 rfl rfl rfl ?_
  refine gw_i2l X 3 dX0_rate_2 rfl ?_
  refine gw_callVi X 6 [.long (Int32.toInt64 x1)] (mt_X0_isPerson rfl) lk_X0_186 ydv_X0_isPerson gX_cl0 gX_at0 rfl rfl rfl dX0_rate_3 rfl rfl rfl ?_
  refine gw_if_eqB X 21 9 dX0_rate_6 rfl rfl (fun z => ?_) (fun z => ?_)
  · replace hp := gw_f z hp
    refine gw_bipush X 23 dX0_rate_21 rfl gw_cb_m2 ?_
    cases hp
    exact gw_iret X dX0_rate_23 (fun _ h => ⟨rfl, h⟩) (Nat.le_of_ble_eq_true rfl) (Nat.le_of_ble_eq_true rfl)
  · replace hp := gw_t z hp
    refine gw_iload_n X 10 2 dX0_rate_9 rfl rfl rfl ?_
    refine gw_i2l X 11 dX0_rate_10 rfl ?_
    refine gw_lconst X 12 dX0_rate_11 rfl gw_cl_1 ?_
    refine gw_ldc2 X 15 dX0_rate_12 rfl q1272 ?_
    refine gw_callSi X 18 [.long (Int32.toInt64 x2), .long 1, .long 999] (mt_X0_isIn rfl) lk_X0_67 yd_X0_isIn rfl rfl rfl dX0_rate_15 rfl rfl rfl ?_
    refine gw_if_neB X 24 21 dX0_rate_18 rfl rfl (fun z => ?_) (fun z => ?_)
    · replace hp := gw_t z hp
      refine gw_aload_n X 25 0 dX0_rate_24 rfl rfl rfl ?_
      refine gX_g0_0 X 28 q280 dX0_rate_25 rfl ?_
      refine gX_g1_3N X 31 q196 dX0_rate_28 rfl ?_
      refine gw_if_le X 37 34 dX0_rate_31 rfl rfl (fun z => ?_) (fun z => ?_)
      · replace hp := gw_t z hp
        refine gw_aload_n X 38 0 dX0_rate_37 rfl rfl rfl ?_
        refine gX_g0_0 X 41 q280 dX0_rate_38 rfl ?_
        refine gX_g1_6N X 44 q204 dX0_rate_41 rfl ?_
        refine gw_iload_n X 45 1 dX0_rate_44 rfl rfl rfl ?_
        obtain ⟨hc, hp⟩ := gw_ck_some hp
        refine gX_l9 X 46 (Int32.toNatClampNeg x1) hc rfl dX0_rate_45 rfl ?_
        refine gw_istore_n X 47 [(3, .int (σ.1 9 (Int32.toNatClampNeg x1))), (0, .ref (a 0)), (1, .int x1), (2, .int x2)] dX0_rate_46 rfl rfl (by decide) rfl ?_
        refine gw_aload_n X 48 1 dX0_rate_47 rfl rfl rfl ?_
        refine gX_g0_0 X 51 q280 dX0_rate_48 rfl ?_
        refine gX_g1_6N X 54 q204 dX0_rate_51 rfl ?_
        refine gw_iload_n X 55 2 dX0_rate_54 rfl rfl rfl ?_
        refine gw_iload_n X 56 3 dX0_rate_55 rfl rfl rfl ?_
        obtain ⟨hc, hp⟩ := gw_ck_some hp
        refine gX_s9 X 57 (Int32.toNatClampNeg x1) hc rfl dX0_rate_56 rfl ?_
        refine gw_iload_n X 58 0 dX0_rate_57 rfl rfl rfl ?_
        cases hp
        exact gw_iret X dX0_rate_58 (fun _ h => ⟨rfl, h⟩) (Nat.le_of_ble_eq_true rfl) (Nat.le_of_ble_eq_true rfl)
      · replace hp := gw_f z hp
        refine gw_bipush X 36 dX0_rate_34 rfl gw_cb_m5 ?_
        cases hp
        exact gw_iret X dX0_rate_36 (fun _ h => ⟨rfl, h⟩) (Nat.le_of_ble_eq_true rfl) (Nat.le_of_ble_eq_true rfl)
    · replace hp := gw_f z hp
      refine gw_bipush X 23 dX0_rate_21 rfl gw_cb_m2 ?_
      cases hp
      exact gw_iret X dX0_rate_23 (fun _ h => ⟨rfl, h⟩) (Nat.le_of_ble_eq_true rfl) (Nat.le_of_ble_eq_true rfl)
abbrev rm_X0_forge : Room := { frames := 2, cells := 0, slots := 0, locals := 47 }
def fx_X0_forge (σ : gw_S) (x1 : Int32) (x2 : Int32) : Int32 × gw_S := (if fx_X0_isPerson σ (Int32.toInt64 x1) = true then (if fx_X0_isOneOf (Int32.toInt64 x2) (2 : Int32) = true then (if (σ.1 1 3) ≤ 0 then (((σ.1 1 4) >>> (x1 &&& 31)) &&& (1 : Int32), gw_u σ 1 4 (((σ.1 1 4) &&& (((1 : Int32) <<< (x1 &&& 31)) ^^^ (-1 : Int32))) ||| (x2 <<< (x1 &&& 31)))) else ((-5), σ)) else ((-2), σ)) else ((-2), σ))
set_option maxHeartbeats 4000000 in
theorem mt_X0_forge {l : Launch} {D : gw_D} {a : Nat → Nat} {Wr : va_W → Prop} {σ : gw_S} {x1 : Int32} {x2 : Int32} {res : Int32 × gw_S} (hp : fx_X0_forge σ x1 x2 = res) : gw_Ct D l yX0_forge cX0_forge 4 (some .int) rm_X0_forge [.ref (a 0), .int x1, .int x2] (gw_st (wX D a σ) Wr) (gw_pI res.1 (gw_st (wX D a res.2) Wr)) := by
  refine gw_ct (own := RX0) [(0, .ref (a 0)), (1, .int x1), (2, .int x2)] (by decide) rfl (Nat.le_of_ble_eq_true rfl) rfl ?_
  intro E X
  unfold fx_X0_forge at hp
  refine gw_aload_n X 1 0 dX0_forge_0 rfl rfl rfl ?_
  refine gw_iload_n X 2 1 dX0_forge_1 rfl rfl rfl ?_
  refine gw_i2l X 3 dX0_forge_2 rfl ?_
  refine gw_callVi X 6 [.long (Int32.toInt64 x1)] (mt_X0_isPerson rfl) lk_X0_186 ydv_X0_isPerson gX_cl0 gX_at0 rfl rfl rfl dX0_forge_3 rfl rfl rfl ?_
  refine gw_if_eqB X 18 9 dX0_forge_6 rfl rfl (fun z => ?_) (fun z => ?_)
  · replace hp := gw_f z hp
    refine gw_bipush X 20 dX0_forge_18 rfl gw_cb_m2 ?_
    cases hp
    exact gw_iret X dX0_forge_20 (fun _ h => ⟨rfl, h⟩) (Nat.le_of_ble_eq_true rfl) (Nat.le_of_ble_eq_true rfl)
  · replace hp := gw_t z hp
    refine gw_iload_n X 10 2 dX0_forge_9 rfl rfl rfl ?_
    refine gw_i2l X 11 dX0_forge_10 rfl ?_
    refine gw_iconst X 12 dX0_forge_11 rfl gw_ci_2 ?_
    refine gw_callSi X 15 [.long (Int32.toInt64 x2), .int 2] (mt_X0_isOneOf rfl) lk_X0_97 yd_X0_isOneOf rfl rfl rfl dX0_forge_12 rfl rfl rfl ?_
    refine gw_if_neB X 21 18 dX0_forge_15 rfl rfl (fun z => ?_) (fun z => ?_)
    · replace hp := gw_t z hp
      refine gw_aload_n X 22 0 dX0_forge_21 rfl rfl rfl ?_
      refine gX_g0_0 X 25 q280 dX0_forge_22 rfl ?_
      refine gX_g1_3N X 28 q196 dX0_forge_25 rfl ?_
      refine gw_if_le X 34 31 dX0_forge_28 rfl rfl (fun z => ?_) (fun z => ?_)
      · replace hp := gw_t z hp
        refine gw_aload_n X 35 0 dX0_forge_34 rfl rfl rfl ?_
        refine gX_g0_0 X 38 q280 dX0_forge_35 rfl ?_
        refine gX_g1_4N X 41 q199 dX0_forge_38 rfl ?_
        refine gw_iload_n X 42 1 dX0_forge_41 rfl rfl rfl ?_
        refine gw_ishr X 43 dX0_forge_42 rfl ?_
        refine gw_iconst X 44 dX0_forge_43 rfl gw_ci_1 ?_
        refine gw_iand X 45 dX0_forge_44 rfl ?_
        refine gw_istore_n X 46 [(3, .int (((σ.1 1 4) >>> (x1 &&& 31)) &&& (1 : Int32))), (0, .ref (a 0)), (1, .int x1), (2, .int x2)] dX0_forge_45 rfl rfl (by decide) rfl ?_
        refine gw_aload_n X 47 1 dX0_forge_46 rfl rfl rfl ?_
        refine gX_g0_0 X 50 q280 dX0_forge_47 rfl ?_
        refine gw_aload_n X 51 1 dX0_forge_50 rfl rfl rfl ?_
        refine gX_g0_0 X 54 q280 dX0_forge_51 rfl ?_
        refine gX_g1_4N X 57 q199 dX0_forge_54 rfl ?_
        refine gw_iconst X 58 dX0_forge_57 rfl gw_ci_1 ?_
        refine gw_iload_n X 59 2 dX0_forge_58 rfl rfl rfl ?_
        refine gw_ishl X 60 dX0_forge_59 rfl ?_
        refine gw_iconst X 61 dX0_forge_60 rfl gw_ci_m1 ?_
        refine gw_ixor X 62 dX0_forge_61 rfl ?_
        refine gw_iand X 63 dX0_forge_62 rfl ?_
        refine gw_iload_n X 64 3 dX0_forge_63 rfl rfl rfl ?_
        refine gw_iload_n X 65 2 dX0_forge_64 rfl rfl rfl ?_
        refine gw_ishl X 66 dX0_forge_65 rfl ?_
        refine gw_ior X 67 dX0_forge_66 rfl ?_
        refine gX_p1_4N X 70 q199 dX0_forge_67 rfl ?_
        refine gw_iload_n X 71 0 dX0_forge_70 rfl rfl rfl ?_
        cases hp
        exact gw_iret X dX0_forge_71 (fun _ h => ⟨rfl, h⟩) (Nat.le_of_ble_eq_true rfl) (Nat.le_of_ble_eq_true rfl)
      · replace hp := gw_f z hp
        refine gw_bipush X 33 dX0_forge_31 rfl gw_cb_m5 ?_
        cases hp
        exact gw_iret X dX0_forge_33 (fun _ h => ⟨rfl, h⟩) (Nat.le_of_ble_eq_true rfl) (Nat.le_of_ble_eq_true rfl)
    · replace hp := gw_f z hp
      refine gw_bipush X 20 dX0_forge_18 rfl gw_cb_m2 ?_
      cases hp
      exact gw_iret X dX0_forge_20 (fun _ h => ⟨rfl, h⟩) (Nat.le_of_ble_eq_true rfl) (Nat.le_of_ble_eq_true rfl)
