set_option maxRecDepth 100000
abbrev rm_X3_draws : Room := { frames := 0, cells := 0, slots := 0, locals := 0 }
def fx_X3_draws_L13 {τ : Type} (k : gw_S → Option (τ)) (v3 : Int32) (v4 : Int64) : Nat → Int32 → gw_S → Option (τ)
  | 0, _, _ => none
  | n + 1, c6, σ => (if v3 ≤ c6 then k σ else gw_ck c6 8 (fx_X3_draws_L13 k v3 v4 n (c6 + 1) (gw_u σ 12 (Int32.toNatClampNeg c6) c6)))
def fx_X3_draws_L39 {τ : Type} (k : gw_S → Option (τ)) (v3 : Int32) : Nat → Int64 → Int32 → gw_S → Option (τ)
  | 0, _, _, _ => none
  | n + 1, c4, c6, σ => (if c6 ≤ 0 then k σ else gw_czL (Int32.toInt64 (c6 + (1 : Int32))) (gw_ck c6 8 (gw_ck (Int64.toInt32 ((((((1103515245 : Int64) * c4) + (12345 : Int64)) - (((1103515245 : Int64) * c4) + (12345 : Int64)) / (2147483648 : Int64) * (2147483648 : Int64)) / (65536 : Int64)) - (((((1103515245 : Int64) * c4) + (12345 : Int64)) - (((1103515245 : Int64) * c4) + (12345 : Int64)) / (2147483648 : Int64) * (2147483648 : Int64)) / (65536 : Int64)) / (Int32.toInt64 (c6 + (1 : Int32))) * (Int32.toInt64 (c6 + (1 : Int32))))) 8 (gw_ck c6 8 (gw_let (gw_u σ 12 (Int32.toNatClampNeg c6) (σ.1 12 (Int32.toNatClampNeg (Int64.toInt32 ((((((1103515245 : Int64) * c4) + (12345 : Int64)) - (((1103515245 : Int64) * c4) + (12345 : Int64)) / (2147483648 : Int64) * (2147483648 : Int64)) / (65536 : Int64)) - (((((1103515245 : Int64) * c4) + (12345 : Int64)) - (((1103515245 : Int64) * c4) + (12345 : Int64)) / (2147483648 : Int64) * (2147483648 : Int64)) / (65536 : Int64)) / (Int32.toInt64 (c6 + (1 : Int32))) * (Int32.toInt64 (c6 + (1 : Int32)))))))) (fun σ2 => gw_ck (Int64.toInt32 ((((((1103515245 : Int64) * c4) + (12345 : Int64)) - (((1103515245 : Int64) * c4) + (12345 : Int64)) / (2147483648 : Int64) * (2147483648 : Int64)) / (65536 : Int64)) - (((((1103515245 : Int64) * c4) + (12345 : Int64)) - (((1103515245 : Int64) * c4) + (12345 : Int64)) / (2147483648 : Int64) * (2147483648 : Int64)) / (65536 : Int64)) / (Int32.toInt64 (c6 + (1 : Int32))) * (Int32.toInt64 (c6 + (1 : Int32))))) 8 (fx_X3_draws_L39 k v3 n ((((1103515245 : Int64) * c4) + (12345 : Int64)) - (((1103515245 : Int64) * c4) + (12345 : Int64)) / (2147483648 : Int64) * (2147483648 : Int64)) (c6 + (-1)) (gw_u σ2 12 (Int32.toNatClampNeg (Int64.toInt32 ((((((1103515245 : Int64) * c4) + (12345 : Int64)) - (((1103515245 : Int64) * c4) + (12345 : Int64)) / (2147483648 : Int64) * (2147483648 : Int64)) / (65536 : Int64)) - (((((1103515245 : Int64) * c4) + (12345 : Int64)) - (((1103515245 : Int64) * c4) + (12345 : Int64)) / (2147483648 : Int64) * (2147483648 : Int64)) / (65536 : Int64)) / (Int32.toInt64 (c6 + (1 : Int32))) * (Int32.toInt64 (c6 + (1 : Int32)))))) (σ.1 12 (Int32.toNatClampNeg c6))))))))))
def fx_X3_draws_L116 (v3 : Int32) : Nat → Int32 → gw_S → Option (gw_S)
  | 0, _, _ => none
  | n + 1, c6, σ => (if v3 ≤ c6 then some σ else gw_ck c6 8 (gw_ck (σ.1 12 (Int32.toNatClampNeg c6)) 8 (fx_X3_draws_L116 v3 n (c6 + 1) (gw_u σ 11 (Int32.toNatClampNeg (σ.1 12 (Int32.toNatClampNeg c6))) c6))))
def fx_X3_draws (σ : gw_S) (x1 : Int64) : Option (gw_S) := fx_X3_draws_L13 (fun (σ1 : gw_S) => fx_X3_draws_L39 (fun (σ4 : gw_S) => fx_X3_draws_L116 (σ.1 7 1) 1000 (0 : Int32) σ4) (σ.1 7 1) 1000 x1 ((σ.1 7 1) - (1 : Int32)) σ1) (σ.1 7 1) x1 1000 (0 : Int32) σ
set_option maxHeartbeats 4000000 in
theorem wk_X3_draws_L13 {E : gw_E} {l : Launch} {D : gw_D} {a : Nat → Nat} {Wr : va_W → Prop} {τ : Type} {res : τ} {post : Option (Option Value → va_W → Prop)} (X : gw_X E cX3_draws 9 RX3 none l D rm_X3_draws post) {k : gw_S → Option (τ)} {v3 : Int32} {v4 : Int64} : ∀ {n : Nat} {c6 : Int32} {σ : gw_S}, fx_X3_draws_L13 k v3 v4 n c6 σ = some res → (∀  (σ : gw_S), k σ = some res → gw_W E 34 [(0, .ref (a 0)), (3, .int v3), (4, .long v4)] [] (gw_st (wM D a σ) Wr) 0 0) → gw_W E 13 [(0, .ref (a 0)), (3, .int v3), (4, .long v4), (6, .int c6)] [] (gw_st (wM D a σ) Wr) 0 0 := by
  intro n
  induction n with
  | zero =>
    intro c6 σ hp hk
    cases (show none = some res from hp)
  | succ n ih =>
    intro c6 σ hp hk
    rw [fx_X3_draws_L13] at hp
    refine gw_iload X 15 3 dX3_draws_13 rfl rfl ?_
    refine gw_iload_n X 16 1 dX3_draws_15 rfl rfl rfl ?_
    refine gw_icmp_ge X 34 19 dX3_draws_16 rfl rfl (fun z => ?_) (fun z => ?_)
    · replace hp := gw_t z hp
      refine gw_lv [0, 1, 2] rfl ?_
      exact hk _ hp
    · replace hp := gw_f z hp
      refine gw_aload_n X 20 0 dX3_draws_19 rfl rfl rfl ?_
      refine gM_g0_22 X 23 q1416 dX3_draws_20 rfl ?_
      refine gw_iload X 25 3 dX3_draws_23 rfl rfl ?_
      refine gw_iload X 27 3 dX3_draws_25 rfl rfl ?_
      obtain ⟨hc, hp⟩ := gw_ck_some hp
      refine gM_s12 X 28 (Int32.toNatClampNeg c6) hc rfl dX3_draws_27 rfl ?_
      refine gw_iinc X 31 3 [(6, .int (c6 + 1)), (0, .ref (a 0)), (3, .int v3), (4, .long v4)] dX3_draws_28 rfl rfl gw_ci_1 (by decide) rfl ?_
      refine gw_goto X 13 dX3_draws_31 rfl ?_
      refine gw_lv [1, 2, 3, 0] rfl ?_
      exact ih hp hk
set_option maxHeartbeats 4000000 in
theorem wk_X3_draws_L39 {E : gw_E} {l : Launch} {D : gw_D} {a : Nat → Nat} {Wr : va_W → Prop} {τ : Type} {res : τ} {post : Option (Option Value → va_W → Prop)} (X : gw_X E cX3_draws 9 RX3 none l D rm_X3_draws post) {k : gw_S → Option (τ)} {v3 : Int32} : ∀ {n : Nat} {c4 : Int64} {c6 : Int32} {σ : gw_S}, fx_X3_draws_L39 k v3 n c4 c6 σ = some res → (∀  (σ : gw_S), k σ = some res → gw_W E 113 [(0, .ref (a 0)), (3, .int v3)] [] (gw_st (wM D a σ) Wr) 0 0) → gw_W E 39 [(0, .ref (a 0)), (3, .int v3), (4, .long c4), (6, .int c6)] [] (gw_st (wM D a σ) Wr) 0 0 := by
  intro n
  induction n with
  | zero =>
    intro c4 c6 σ hp hk
    cases (show none = some res from hp)
  | succ n ih =>
    intro c4 c6 σ hp hk
    rw [fx_X3_draws_L39] at hp
    refine gw_iload X 41 3 dX3_draws_39 rfl rfl ?_
    refine gw_if_le X 113 44 dX3_draws_41 rfl rfl (fun z => ?_) (fun z => ?_)
    · replace hp := gw_t z hp
      refine gw_lv [0, 1] rfl ?_
      exact hk _ hp
    · replace hp := gw_f z hp
      refine gw_ldc2 X 47 dX3_draws_44 rfl q2044 ?_
      refine gw_lload X 49 2 dX3_draws_47 rfl rfl ?_
      refine gw_lmul X 50 dX3_draws_49 rfl ?_
      refine gw_ldc2 X 53 dX3_draws_50 rfl q2045 ?_
      refine gw_ladd X 54 dX3_draws_53 rfl ?_
      refine gw_ldc2 X 57 dX3_draws_54 rfl q2046 ?_
      refine gw_lrem X 58 dX3_draws_57 rfl (by decide) ?_
      refine gw_lstore X 60 [(4, .long ((((1103515245 : Int64) * c4) + (12345 : Int64)) - (((1103515245 : Int64) * c4) + (12345 : Int64)) / (2147483648 : Int64) * (2147483648 : Int64))), (0, .ref (a 0)), (3, .int v3), (6, .int c6)] dX3_draws_58 rfl (by decide) rfl ?_
      refine gw_lload X 62 0 dX3_draws_60 rfl rfl ?_
      refine gw_ldc2 X 65 dX3_draws_62 rfl q2047 ?_
      refine gw_ldiv X 66 dX3_draws_65 rfl (by decide) ?_
      refine gw_iload X 68 3 dX3_draws_66 rfl rfl ?_
      refine gw_iconst X 69 dX3_draws_68 rfl gw_ci_1 ?_
      refine gw_iadd X 70 dX3_draws_69 rfl ?_
      refine gw_i2l X 71 dX3_draws_70 rfl ?_
      obtain ⟨hz, hp⟩ := gw_czL_some hp
      refine gw_lrem X 72 dX3_draws_71 rfl hz ?_
      refine gw_l2i X 73 dX3_draws_72 rfl ?_
      refine gw_istore X 75 [(7, .int (Int64.toInt32 ((((((1103515245 : Int64) * c4) + (12345 : Int64)) - (((1103515245 : Int64) * c4) + (12345 : Int64)) / (2147483648 : Int64) * (2147483648 : Int64)) / (65536 : Int64)) - (((((1103515245 : Int64) * c4) + (12345 : Int64)) - (((1103515245 : Int64) * c4) + (12345 : Int64)) / (2147483648 : Int64) * (2147483648 : Int64)) / (65536 : Int64)) / (Int32.toInt64 (c6 + (1 : Int32))) * (Int32.toInt64 (c6 + (1 : Int32)))))), (4, .long ((((1103515245 : Int64) * c4) + (12345 : Int64)) - (((1103515245 : Int64) * c4) + (12345 : Int64)) / (2147483648 : Int64) * (2147483648 : Int64))), (0, .ref (a 0)), (3, .int v3), (6, .int c6)] dX3_draws_73 rfl (by decide) rfl ?_
      refine gw_aload_n X 76 2 dX3_draws_75 rfl rfl rfl ?_
      refine gM_g0_22 X 79 q1416 dX3_draws_76 rfl ?_
      refine gw_iload X 81 4 dX3_draws_79 rfl rfl ?_
      obtain ⟨hc, hp⟩ := gw_ck_some hp
      refine gM_l12 X 82 (Int32.toNatClampNeg c6) hc rfl dX3_draws_81 rfl ?_
      refine gw_istore X 84 [(8, .int (σ.1 12 (Int32.toNatClampNeg c6))), (7, .int (Int64.toInt32 ((((((1103515245 : Int64) * c4) + (12345 : Int64)) - (((1103515245 : Int64) * c4) + (12345 : Int64)) / (2147483648 : Int64) * (2147483648 : Int64)) / (65536 : Int64)) - (((((1103515245 : Int64) * c4) + (12345 : Int64)) - (((1103515245 : Int64) * c4) + (12345 : Int64)) / (2147483648 : Int64) * (2147483648 : Int64)) / (65536 : Int64)) / (Int32.toInt64 (c6 + (1 : Int32))) * (Int32.toInt64 (c6 + (1 : Int32)))))), (4, .long ((((1103515245 : Int64) * c4) + (12345 : Int64)) - (((1103515245 : Int64) * c4) + (12345 : Int64)) / (2147483648 : Int64) * (2147483648 : Int64))), (0, .ref (a 0)), (3, .int v3), (6, .int c6)] dX3_draws_82 rfl (by decide) rfl ?_
      refine gw_aload_n X 85 3 dX3_draws_84 rfl rfl rfl ?_
      refine gM_g0_22 X 88 q1416 dX3_draws_85 rfl ?_
      refine gw_iload X 90 5 dX3_draws_88 rfl rfl ?_
      refine gw_aload_n X 91 3 dX3_draws_90 rfl rfl rfl ?_
      refine gM_g0_22 X 94 q1416 dX3_draws_91 rfl ?_
      refine gw_iload X 96 1 dX3_draws_94 rfl rfl ?_
      obtain ⟨hc, hp⟩ := gw_ck_some hp
      refine gM_l12 X 97 (Int32.toNatClampNeg (Int64.toInt32 ((((((1103515245 : Int64) * c4) + (12345 : Int64)) - (((1103515245 : Int64) * c4) + (12345 : Int64)) / (2147483648 : Int64) * (2147483648 : Int64)) / (65536 : Int64)) - (((((1103515245 : Int64) * c4) + (12345 : Int64)) - (((1103515245 : Int64) * c4) + (12345 : Int64)) / (2147483648 : Int64) * (2147483648 : Int64)) / (65536 : Int64)) / (Int32.toInt64 (c6 + (1 : Int32))) * (Int32.toInt64 (c6 + (1 : Int32)))))) hc rfl dX3_draws_96 rfl ?_
      obtain ⟨hc, hp⟩ := gw_ck_some hp
      refine gM_s12 X 98 (Int32.toNatClampNeg c6) hc rfl dX3_draws_97 rfl ?_
      refine gw_aload_n X 99 3 dX3_draws_98 rfl rfl rfl ?_
      obtain ⟨σ2, h3, hp⟩ := gw_let_some hp
      rw [← h3]
      clear h3
      refine gM_g0_22 X 102 q1416 dX3_draws_99 rfl ?_
      refine gw_iload X 104 1 dX3_draws_102 rfl rfl ?_
      refine gw_iload X 106 0 dX3_draws_104 rfl rfl ?_
      obtain ⟨hc, hp⟩ := gw_ck_some hp
      refine gM_s12 X 107 (Int32.toNatClampNeg (Int64.toInt32 ((((((1103515245 : Int64) * c4) + (12345 : Int64)) - (((1103515245 : Int64) * c4) + (12345 : Int64)) / (2147483648 : Int64) * (2147483648 : Int64)) / (65536 : Int64)) - (((((1103515245 : Int64) * c4) + (12345 : Int64)) - (((1103515245 : Int64) * c4) + (12345 : Int64)) / (2147483648 : Int64) * (2147483648 : Int64)) / (65536 : Int64)) / (Int32.toInt64 (c6 + (1 : Int32))) * (Int32.toInt64 (c6 + (1 : Int32)))))) hc rfl dX3_draws_106 rfl ?_
      refine gw_iinc X 110 5 [(6, .int (c6 + (-1))), (8, .int (σ.1 12 (Int32.toNatClampNeg c6))), (7, .int (Int64.toInt32 ((((((1103515245 : Int64) * c4) + (12345 : Int64)) - (((1103515245 : Int64) * c4) + (12345 : Int64)) / (2147483648 : Int64) * (2147483648 : Int64)) / (65536 : Int64)) - (((((1103515245 : Int64) * c4) + (12345 : Int64)) - (((1103515245 : Int64) * c4) + (12345 : Int64)) / (2147483648 : Int64) * (2147483648 : Int64)) / (65536 : Int64)) / (Int32.toInt64 (c6 + (1 : Int32))) * (Int32.toInt64 (c6 + (1 : Int32)))))), (4, .long ((((1103515245 : Int64) * c4) + (12345 : Int64)) - (((1103515245 : Int64) * c4) + (12345 : Int64)) / (2147483648 : Int64) * (2147483648 : Int64))), (0, .ref (a 0)), (3, .int v3)] dX3_draws_107 rfl rfl gw_ci_m1 (by decide) rfl ?_
      refine gw_goto X 39 dX3_draws_110 rfl ?_
      refine gw_lv [4, 5, 3, 0] rfl ?_
      exact ih hp hk
set_option maxHeartbeats 4000000 in
theorem wk_X3_draws_L116 {E : gw_E} {l : Launch} {D : gw_D} {a : Nat → Nat} {Wr : va_W → Prop} {res : gw_S} (X : gw_X E cX3_draws 9 RX3 none l D rm_X3_draws (some (gw_pV (gw_st (wM D a res) Wr)))) {v3 : Int32} : ∀ {n : Nat} {c6 : Int32} {σ : gw_S}, fx_X3_draws_L116 v3 n c6 σ = some res → gw_W E 116 [(0, .ref (a 0)), (3, .int v3), (6, .int c6)] [] (gw_st (wM D a σ) Wr) 0 0 := by
  intro n
  induction n with
  | zero =>
    intro c6 σ hp
    cases (show none = some res from hp)
  | succ n ih =>
    intro c6 σ hp
    rw [fx_X3_draws_L116] at hp
    refine gw_iload X 118 2 dX3_draws_116 rfl rfl ?_
    refine gw_iload_n X 119 1 dX3_draws_118 rfl rfl rfl ?_
    refine gw_icmp_ge X 142 122 dX3_draws_119 rfl rfl (fun z => ?_) (fun z => ?_)
    · replace hp := gw_t z hp
      cases hp
      exact gw_vret X dX3_draws_142 (fun _ h => ⟨rfl, h⟩) (Nat.le_of_ble_eq_true rfl) (Nat.le_of_ble_eq_true rfl)
    · replace hp := gw_f z hp
      refine gw_aload_n X 123 0 dX3_draws_122 rfl rfl rfl ?_
      refine gM_g0_21 X 126 q1415 dX3_draws_123 rfl ?_
      refine gw_aload_n X 127 0 dX3_draws_126 rfl rfl rfl ?_
      refine gM_g0_22 X 130 q1416 dX3_draws_127 rfl ?_
      refine gw_iload X 132 2 dX3_draws_130 rfl rfl ?_
      obtain ⟨hc, hp⟩ := gw_ck_some hp
      refine gM_l12 X 133 (Int32.toNatClampNeg c6) hc rfl dX3_draws_132 rfl ?_
      refine gw_iload X 135 2 dX3_draws_133 rfl rfl ?_
      obtain ⟨hc, hp⟩ := gw_ck_some hp
      refine gM_s11 X 136 (Int32.toNatClampNeg (σ.1 12 (Int32.toNatClampNeg c6))) hc rfl dX3_draws_135 rfl ?_
      refine gw_iinc X 139 2 [(6, .int (c6 + 1)), (0, .ref (a 0)), (3, .int v3)] dX3_draws_136 rfl rfl gw_ci_1 (by decide) rfl ?_
      refine gw_goto X 116 dX3_draws_139 rfl ?_
      refine gw_lv [1, 2, 0] rfl ?_
      exact ih hp
set_option maxHeartbeats 4000000 in
theorem mt_X3_draws {l : Launch} {D : gw_D} {a : Nat → Nat} {Wr : va_W → Prop} {σ : gw_S} {x1 : Int64} {res : gw_S} (hp : fx_X3_draws σ x1 = some res) : gw_Ct D l yX3_draws cX3_draws 9 none rm_X3_draws [.ref (a 0), .long x1] (gw_st (wM D a σ) Wr) (gw_pV (gw_st (wM D a res) Wr)) := by
  refine gw_ct (own := RX3) [(0, .ref (a 0)), (1, .long x1)] (by decide) rfl (Nat.le_of_ble_eq_true rfl) rfl ?_
  intro E X
  unfold fx_X3_draws at hp
  refine gw_aload_n X 1 0 dX3_draws_0 rfl rfl rfl ?_
  refine gM_g0_17 X 4 q1411 dX3_draws_1 rfl ?_
  refine gw_iconst X 5 dX3_draws_4 rfl gw_ci_1 ?_
  refine gM_l7 X 6 1 (gw_in rfl) rfl dX3_draws_5 rfl ?_
  refine gw_istore_n X 7 [(3, .int (σ.1 7 1)), (0, .ref (a 0)), (1, .long x1)] dX3_draws_6 rfl rfl (by decide) rfl ?_
  refine gw_lload_n X 8 2 dX3_draws_7 rfl rfl rfl ?_
  refine gw_lstore X 10 [(4, .long x1), (3, .int (σ.1 7 1)), (0, .ref (a 0)), (1, .long x1)] dX3_draws_8 rfl (by decide) rfl ?_
  refine gw_iconst X 11 dX3_draws_10 rfl gw_ci_0 ?_
  refine gw_istore X 13 [(6, .int 0), (4, .long x1), (3, .int (σ.1 7 1)), (0, .ref (a 0)), (1, .long x1)] dX3_draws_11 rfl (by decide) rfl ?_
  refine gw_lv [3, 2, 1, 0] rfl ?_
  refine wk_X3_draws_L13 X hp ?_
  clear hp
  intro σ1 hp
  refine gw_iload_n X 35 1 dX3_draws_34 rfl rfl rfl ?_
  refine gw_iconst X 36 dX3_draws_35 rfl gw_ci_1 ?_
  refine gw_isub X 37 dX3_draws_36 rfl ?_
  refine gw_istore X 39 [(6, .int ((σ.1 7 1) - (1 : Int32))), (0, .ref (a 0)), (3, .int (σ.1 7 1)), (4, .long x1)] dX3_draws_37 rfl (by decide) rfl ?_
  refine gw_lv [1, 2, 3, 0] rfl ?_
  refine wk_X3_draws_L39 X hp ?_
  clear hp
  intro σ4 hp
  refine gw_iconst X 114 dX3_draws_113 rfl gw_ci_0 ?_
  refine gw_istore X 116 [(6, .int 0), (0, .ref (a 0)), (3, .int (σ.1 7 1))] dX3_draws_114 rfl (by decide) rfl ?_
  refine gw_lv [1, 2, 0] rfl ?_
  exact wk_X3_draws_L116 X hp
abbrev rm_X3_drawn : Room := { frames := 2, cells := 0, slots := 0, locals := 47 }
def fx_X3_drawn (σ : gw_S) (x1 : Int32) (x2 : Int32) : Option (Int32 × gw_S) := gw_let (gw_u σ 0 0 0) (fun σ1 => (if fx_X3_isSeed x1 = true then (if fx_X3_isPerson σ1 (Int32.toInt64 x2) = true then gw_b1 (fx_X3_draws σ1 (Int32.toInt64 x1)) (fun σ3 => gw_ck x2 8 (some (σ3.1 11 (Int32.toNatClampNeg x2), σ3))) else some ((-2), σ1)) else some ((-2), σ1)))
set_option maxHeartbeats 4000000 in
theorem mt_X3_drawn {l : Launch} {D : gw_D} {a : Nat → Nat} {Wr : va_W → Prop} {σ : gw_S} {x1 : Int32} {x2 : Int32} {res : Int32 × gw_S} (hp : fx_X3_drawn σ x1 x2 = some res) : gw_Ct D l yX3_drawn cX3_drawn 3 (some .int) rm_X3_drawn [.ref (a 0), .int x1, .int x2] (gw_st (wM D a σ) Wr) (gw_pI res.1 (gw_st (wM D a res.2) Wr)) := by
  refine gw_ct (own := RX3) [(0, .ref (a 0)), (1, .int x1), (2, .int x2)] (by decide) rfl (Nat.le_of_ble_eq_true rfl) rfl ?_
  intro E X
  unfold fx_X3_drawn at hp
  refine gw_aload_n X 1 0 dX3_drawn_0 rfl rfl rfl ?_
  refine gw_iconst X 2 dX3_drawn_1 rfl gw_ci_0 ?_
  refine gM_p0_0 X 5 q1394 dX3_drawn_2 rfl ?_
  refine gw_iload_n X 6 1 dX3_drawn_5 rfl rfl rfl ?_
  obtain ⟨σ1, h2, hp⟩ := gw_let_some hp
  rw [← h2]
  clear h2
  refine gw_callSi X 9 [.int x1] (mt_X3_isSeed rfl) lk_X3_398 yd_X3_isSeed rfl rfl rfl dX3_drawn_6 rfl rfl rfl ?_
  refine gw_if_eqB X 21 12 dX3_drawn_9 rfl rfl (fun z => ?_) (fun z => ?_)
  · replace hp := gw_f z hp
    refine gw_bipush X 23 dX3_drawn_21 rfl gw_cb_m2 ?_
    cases hp
    exact gw_iret X dX3_drawn_23 (fun _ h => ⟨rfl, h⟩) (Nat.le_of_ble_eq_true rfl) (Nat.le_of_ble_eq_true rfl)
  · replace hp := gw_t z hp
    refine gw_aload_n X 13 0 dX3_drawn_12 rfl rfl rfl ?_
    refine gw_iload_n X 14 2 dX3_drawn_13 rfl rfl rfl ?_
    refine gw_i2l X 15 dX3_drawn_14 rfl ?_
    refine gw_callVi X 18 [.long (Int32.toInt64 x2)] (mt_X3_isPerson rfl) lk_X3_206 ydv_X3_isPerson gM_cl0 gM_at0 rfl rfl rfl dX3_drawn_15 rfl rfl rfl ?_
    refine gw_if_neB X 24 21 dX3_drawn_18 rfl rfl (fun z => ?_) (fun z => ?_)
    · replace hp := gw_t z hp
      refine gw_aload_n X 25 0 dX3_drawn_24 rfl rfl rfl ?_
      refine gw_iload_n X 26 1 dX3_drawn_25 rfl rfl rfl ?_
      refine gw_i2l X 27 dX3_drawn_26 rfl ?_
      obtain ⟨σ3, h4, hp⟩ := gw_b1_some hp
      refine gw_callVv X 30 [.long (Int32.toInt64 x1)] (mt_X3_draws h4) lk_X3_401 ydv_X3_draws gM_cl0 gM_at0 rfl rfl rfl dX3_drawn_27 rfl rfl rfl ?_
      refine gw_aload_n X 31 0 dX3_drawn_30 rfl rfl rfl ?_
      refine gM_g0_21 X 34 q1415 dX3_drawn_31 rfl ?_
      refine gw_iload_n X 35 2 dX3_drawn_34 rfl rfl rfl ?_
      obtain ⟨hc, hp⟩ := gw_ck_some hp
      refine gM_l11 X 36 (Int32.toNatClampNeg x2) hc rfl dX3_drawn_35 rfl ?_
      cases hp
      exact gw_iret X dX3_drawn_36 (fun _ h => ⟨rfl, h⟩) (Nat.le_of_ble_eq_true rfl) (Nat.le_of_ble_eq_true rfl)
    · replace hp := gw_f z hp
      refine gw_bipush X 23 dX3_drawn_21 rfl gw_cb_m2 ?_
      cases hp
      exact gw_iret X dX3_drawn_23 (fun _ h => ⟨rfl, h⟩) (Nat.le_of_ble_eq_true rfl) (Nat.le_of_ble_eq_true rfl)
abbrev rm_X3_luck : Room := { frames := 2, cells := 0, slots := 0, locals := 47 }
def fx_X3_luck_L42 (v1 : Int32) (v2 : Int32) (v3 : Int32) : Nat → Int32 → Int32 → gw_S → Option (Int32 × gw_S)
  | 0, _, _, _ => none
  | n + 1, c4, c5, σ => (if v2 ≤ c5 then some (c4, σ) else gw_b1 (fx_X3_draws σ ((Int32.toInt64 v1) + (Int32.toInt64 c5))) (fun σ3 => gw_ck v3 8 ((if (σ3.1 11 (Int32.toNatClampNeg v3)) = v3 then fx_X3_luck_L42 v1 v2 v3 n (c4 + (1 : Int32)) (c5 + 1) σ3 else fx_X3_luck_L42 v1 v2 v3 n (c4 + (0 : Int32)) (c5 + 1) σ3))))
def fx_X3_luck (σ : gw_S) (x1 : Int32) (x2 : Int32) (x3 : Int32) : Option (Int32 × gw_S) := gw_let (gw_u σ 0 0 0) (fun σ1 => (if fx_X3_isSeed x1 = true then (if fx_X3_in (Int32.toInt64 x2) (1 : Int64) (20 : Int64) = true then (if fx_X3_isPerson σ1 (Int32.toInt64 x3) = true then fx_X3_luck_L42 x1 x2 x3 1000 (0 : Int32) (0 : Int32) σ1 else some ((-2), σ1)) else some ((-2), σ1)) else some ((-2), σ1)))
set_option maxHeartbeats 4000000 in
theorem wk_X3_luck_L42 {E : gw_E} {l : Launch} {D : gw_D} {a : Nat → Nat} {Wr : va_W → Prop} {res : Int32 × gw_S} (X : gw_X E cX3_luck 6 RX3 (some .int) l D rm_X3_luck (some (gw_pI res.1 (gw_st (wM D a res.2) Wr)))) {v1 : Int32} {v2 : Int32} {v3 : Int32} : ∀ {n : Nat} {c4 : Int32} {c5 : Int32} {σ : gw_S}, fx_X3_luck_L42 v1 v2 v3 n c4 c5 σ = some res → gw_W E 42 [(0, .ref (a 0)), (1, .int v1), (2, .int v2), (3, .int v3), (4, .int c4), (5, .int c5)] [] (gw_st (wM D a σ) Wr) 0 0 := by
  intro n
  induction n with
  | zero =>
    intro c4 c5 σ hp
    cases (show none = some res from hp)
  | succ n ih =>
    intro c4 c5 σ hp
    rw [fx_X3_luck_L42] at hp
    refine gw_iload X 44 5 dX3_luck_42 rfl rfl ?_
    refine gw_iload_n X 45 2 dX3_luck_44 rfl rfl rfl ?_
    refine gw_icmp_ge X 84 48 dX3_luck_45 rfl rfl (fun z => ?_) (fun z => ?_)
    · replace hp := gw_t z hp
      refine gw_iload X 86 4 dX3_luck_84 rfl rfl ?_
      cases hp
      exact gw_iret X dX3_luck_86 (fun _ h => ⟨rfl, h⟩) (Nat.le_of_ble_eq_true rfl) (Nat.le_of_ble_eq_true rfl)
    · replace hp := gw_f z hp
      refine gw_aload_n X 49 0 dX3_luck_48 rfl rfl rfl ?_
      refine gw_iload_n X 50 1 dX3_luck_49 rfl rfl rfl ?_
      refine gw_i2l X 51 dX3_luck_50 rfl ?_
      refine gw_iload X 53 5 dX3_luck_51 rfl rfl ?_
      refine gw_i2l X 54 dX3_luck_53 rfl ?_
      refine gw_ladd X 55 dX3_luck_54 rfl ?_
      obtain ⟨σ3, h4, hp⟩ := gw_b1_some hp
      refine gw_callVv X 58 [.long ((Int32.toInt64 v1) + (Int32.toInt64 c5))] (mt_X3_draws h4) lk_X3_401 ydv_X3_draws gM_cl0 gM_at0 rfl rfl rfl dX3_luck_55 rfl rfl rfl ?_
      refine gw_iload X 60 4 dX3_luck_58 rfl rfl ?_
      refine gw_aload_n X 61 0 dX3_luck_60 rfl rfl rfl ?_
      refine gM_g0_21 X 64 q1415 dX3_luck_61 rfl ?_
      refine gw_iload_n X 65 3 dX3_luck_64 rfl rfl rfl ?_
      obtain ⟨hc, hp⟩ := gw_ck_some hp
      refine gM_l11 X 66 (Int32.toNatClampNeg v3) hc rfl dX3_luck_65 rfl ?_
      refine gw_iload_n X 67 3 dX3_luck_66 rfl rfl rfl ?_
      refine gw_icmp_ne X 74 70 dX3_luck_67 rfl rfl (fun z => ?_) (fun z => ?_)
      · replace hp := gw_f z hp
        refine gw_iconst X 75 dX3_luck_74 rfl gw_ci_0 ?_
        refine gw_iadd X 76 dX3_luck_75 rfl ?_
        refine gw_istore X 78 [(4, .int (c4 + (0 : Int32))), (0, .ref (a 0)), (1, .int v1), (2, .int v2), (3, .int v3), (5, .int c5)] dX3_luck_76 rfl (by decide) rfl ?_
        refine gw_iinc X 81 5 [(5, .int (c5 + 1)), (4, .int (c4 + (0 : Int32))), (0, .ref (a 0)), (1, .int v1), (2, .int v2), (3, .int v3)] dX3_luck_78 rfl rfl gw_ci_1 (by decide) rfl ?_
        refine gw_goto X 42 dX3_luck_81 rfl ?_
        refine gw_lv [2, 3, 4, 5, 1, 0] rfl ?_
        exact ih hp
      · replace hp := gw_t z hp
        refine gw_iconst X 71 dX3_luck_70 rfl gw_ci_1 ?_
        refine gw_goto X 75 dX3_luck_71 rfl ?_
        refine gw_iadd X 76 dX3_luck_75 rfl ?_
        refine gw_istore X 78 [(4, .int (c4 + (1 : Int32))), (0, .ref (a 0)), (1, .int v1), (2, .int v2), (3, .int v3), (5, .int c5)] dX3_luck_76 rfl (by decide) rfl ?_
        refine gw_iinc X 81 5 [(5, .int (c5 + 1)), (4, .int (c4 + (1 : Int32))), (0, .ref (a 0)), (1, .int v1), (2, .int v2), (3, .int v3)] dX3_luck_78 rfl rfl gw_ci_1 (by decide) rfl ?_
        refine gw_goto X 42 dX3_luck_81 rfl ?_
        refine gw_lv [2, 3, 4, 5, 1, 0] rfl ?_
        exact ih hp
set_option maxHeartbeats 4000000 in
theorem mt_X3_luck {l : Launch} {D : gw_D} {a : Nat → Nat} {Wr : va_W → Prop} {σ : gw_S} {x1 : Int32} {x2 : Int32} {x3 : Int32} {res : Int32 × gw_S} (hp : fx_X3_luck σ x1 x2 x3 = some res) : gw_Ct D l yX3_luck cX3_luck 6 (some .int) rm_X3_luck [.ref (a 0), .int x1, .int x2, .int x3] (gw_st (wM D a σ) Wr) (gw_pI res.1 (gw_st (wM D a res.2) Wr)) := by
  refine gw_ct (own := RX3) [(0, .ref (a 0)), (1, .int x1), (2, .int x2), (3, .int x3)] (by decide) rfl (Nat.le_of_ble_eq_true rfl) rfl ?_
  intro E X
  unfold fx_X3_luck at hp
  refine gw_aload_n X 1 0 dX3_luck_0 rfl rfl rfl ?_
  refine gw_iconst X 2 dX3_luck_1 rfl gw_ci_0 ?_
  refine gM_p0_0 X 5 q1394 dX3_luck_2 rfl ?_
  refine gw_iload_n X 6 1 dX3_luck_5 rfl rfl rfl ?_
  obtain ⟨σ1, h2, hp⟩ := gw_let_some hp
  rw [← h2]
  clear h2
  refine gw_callSi X 9 [.int x1] (mt_X3_isSeed rfl) lk_X3_398 yd_X3_isSeed rfl rfl rfl dX3_luck_6 rfl rfl rfl ?_
  refine gw_if_eqB X 33 12 dX3_luck_9 rfl rfl (fun z => ?_) (fun z => ?_)
  · replace hp := gw_f z hp
    refine gw_bipush X 35 dX3_luck_33 rfl gw_cb_m2 ?_
    cases hp
    exact gw_iret X dX3_luck_35 (fun _ h => ⟨rfl, h⟩) (Nat.le_of_ble_eq_true rfl) (Nat.le_of_ble_eq_true rfl)
  · replace hp := gw_t z hp
    refine gw_iload_n X 13 2 dX3_luck_12 rfl rfl rfl ?_
    refine gw_i2l X 14 dX3_luck_13 rfl ?_
    refine gw_lconst X 15 dX3_luck_14 rfl gw_cl_1 ?_
    refine gw_ldc2 X 18 dX3_luck_15 rfl q2052 ?_
    refine gw_callSi X 21 [.long (Int32.toInt64 x2), .long 1, .long 20] (mt_X3_in rfl) lk_X3_64 yd_X3_in rfl rfl rfl dX3_luck_18 rfl rfl rfl ?_
    refine gw_if_eqB X 33 24 dX3_luck_21 rfl rfl (fun z => ?_) (fun z => ?_)
    · replace hp := gw_f z hp
      refine gw_bipush X 35 dX3_luck_33 rfl gw_cb_m2 ?_
      cases hp
      exact gw_iret X dX3_luck_35 (fun _ h => ⟨rfl, h⟩) (Nat.le_of_ble_eq_true rfl) (Nat.le_of_ble_eq_true rfl)
    · replace hp := gw_t z hp
      refine gw_aload_n X 25 0 dX3_luck_24 rfl rfl rfl ?_
      refine gw_iload_n X 26 3 dX3_luck_25 rfl rfl rfl ?_
      refine gw_i2l X 27 dX3_luck_26 rfl ?_
      refine gw_callVi X 30 [.long (Int32.toInt64 x3)] (mt_X3_isPerson rfl) lk_X3_206 ydv_X3_isPerson gM_cl0 gM_at0 rfl rfl rfl dX3_luck_27 rfl rfl rfl ?_
      refine gw_if_neB X 36 33 dX3_luck_30 rfl rfl (fun z => ?_) (fun z => ?_)
      · replace hp := gw_t z hp
        refine gw_iconst X 37 dX3_luck_36 rfl gw_ci_0 ?_
        refine gw_istore X 39 [(4, .int 0), (0, .ref (a 0)), (1, .int x1), (2, .int x2), (3, .int x3)] dX3_luck_37 rfl (by decide) rfl ?_
        refine gw_iconst X 40 dX3_luck_39 rfl gw_ci_0 ?_
        refine gw_istore X 42 [(5, .int 0), (4, .int 0), (0, .ref (a 0)), (1, .int x1), (2, .int x2), (3, .int x3)] dX3_luck_40 rfl (by decide) rfl ?_
        refine gw_lv [2, 3, 4, 5, 1, 0] rfl ?_
        exact wk_X3_luck_L42 X hp
      · replace hp := gw_f z hp
        refine gw_bipush X 35 dX3_luck_33 rfl gw_cb_m2 ?_
        cases hp
        exact gw_iret X dX3_luck_35 (fun _ h => ⟨rfl, h⟩) (Nat.le_of_ble_eq_true rfl) (Nat.le_of_ble_eq_true rfl)
abbrev rm_X3_winds : Room := { frames := 2, cells := 0, slots := 0, locals := 49 }
def fx_X3_winds_L39 (v1 : Int32) (v2 : Int32) : Nat → Int32 → Int32 → gw_S → Option (Int32 × gw_S)
  | 0, _, _, _ => none
  | n + 1, c3, c4, σ => (if v2 ≤ c4 then some (c3, σ) else gw_b1 (fx_X3_draws σ ((Int32.toInt64 v1) + (Int32.toInt64 c4))) (fun σ3 => gw_b1 (fx_X3_ringsNow σ3) (fun r5 => fx_X3_winds_L39 v1 v2 n (c3 + r5) (c4 + 1) σ3)))
def fx_X3_winds (σ : gw_S) (x1 : Int32) (x2 : Int32) : Option (Int32 × gw_S) := gw_let (gw_u σ 0 0 0) (fun σ1 => (if fx_X3_isSeed x1 = true then (if fx_X3_in (Int32.toInt64 x2) (1 : Int64) (20 : Int64) = true then (if fx_X3_isCity σ1 = true then fx_X3_winds_L39 x1 x2 1000 (0 : Int32) (0 : Int32) σ1 else some ((-2), σ1)) else some ((-2), σ1)) else some ((-2), σ1)))
set_option maxHeartbeats 4000000 in
theorem wk_X3_winds_L39 {E : gw_E} {l : Launch} {D : gw_D} {a : Nat → Nat} {Wr : va_W → Prop} {res : Int32 × gw_S} (X : gw_X E cX3_winds 5 RX3 (some .int) l D rm_X3_winds (some (gw_pI res.1 (gw_st (wM D a res.2) Wr)))) {v1 : Int32} {v2 : Int32} : ∀ {n : Nat} {c3 : Int32} {c4 : Int32} {σ : gw_S}, fx_X3_winds_L39 v1 v2 n c3 c4 σ = some res → gw_W E 39 [(0, .ref (a 0)), (1, .int v1), (2, .int v2), (3, .int c3), (4, .int c4)] [] (gw_st (wM D a σ) Wr) 0 0 := by
  intro n
  induction n with
  | zero =>
    intro c3 c4 σ hp
    cases (show none = some res from hp)
  | succ n ih =>
    intro c3 c4 σ hp
    rw [fx_X3_winds_L39] at hp
    refine gw_iload X 41 4 dX3_winds_39 rfl rfl ?_
    refine gw_iload_n X 42 2 dX3_winds_41 rfl rfl rfl ?_
    refine gw_icmp_ge X 68 45 dX3_winds_42 rfl rfl (fun z => ?_) (fun z => ?_)
    · replace hp := gw_t z hp
      refine gw_iload_n X 69 3 dX3_winds_68 rfl rfl rfl ?_
      cases hp
      exact gw_iret X dX3_winds_69 (fun _ h => ⟨rfl, h⟩) (Nat.le_of_ble_eq_true rfl) (Nat.le_of_ble_eq_true rfl)
    · replace hp := gw_f z hp
      refine gw_aload_n X 46 0 dX3_winds_45 rfl rfl rfl ?_
      refine gw_iload_n X 47 1 dX3_winds_46 rfl rfl rfl ?_
      refine gw_i2l X 48 dX3_winds_47 rfl ?_
      refine gw_iload X 50 4 dX3_winds_48 rfl rfl ?_
      refine gw_i2l X 51 dX3_winds_50 rfl ?_
      refine gw_ladd X 52 dX3_winds_51 rfl ?_
      obtain ⟨σ3, h4, hp⟩ := gw_b1_some hp
      refine gw_callVv X 55 [.long ((Int32.toInt64 v1) + (Int32.toInt64 c4))] (mt_X3_draws h4) lk_X3_401 ydv_X3_draws gM_cl0 gM_at0 rfl rfl rfl dX3_winds_52 rfl rfl rfl ?_
      refine gw_iload_n X 56 3 dX3_winds_55 rfl rfl rfl ?_
      refine gw_aload_n X 57 0 dX3_winds_56 rfl rfl rfl ?_
      obtain ⟨r5, h6, hp⟩ := gw_b1_some hp
      refine gw_callVi X 60 [] (mt_X3_ringsNow h6) lk_X3_275 ydv_X3_ringsNow gM_cl0 gM_at0 rfl rfl rfl dX3_winds_57 rfl rfl rfl ?_
      refine gw_iadd X 61 dX3_winds_60 rfl ?_
      refine gw_istore_n X 62 [(3, .int (c3 + r5)), (0, .ref (a 0)), (1, .int v1), (2, .int v2), (4, .int c4)] dX3_winds_61 rfl rfl (by decide) rfl ?_
      refine gw_iinc X 65 4 [(4, .int (c4 + 1)), (3, .int (c3 + r5)), (0, .ref (a 0)), (1, .int v1), (2, .int v2)] dX3_winds_62 rfl rfl gw_ci_1 (by decide) rfl ?_
      refine gw_goto X 39 dX3_winds_65 rfl ?_
      refine gw_lv [2, 3, 4, 1, 0] rfl ?_
      exact ih hp
set_option maxHeartbeats 4000000 in
theorem mt_X3_winds {l : Launch} {D : gw_D} {a : Nat → Nat} {Wr : va_W → Prop} {σ : gw_S} {x1 : Int32} {x2 : Int32} {res : Int32 × gw_S} (hp : fx_X3_winds σ x1 x2 = some res) : gw_Ct D l yX3_winds cX3_winds 5 (some .int) rm_X3_winds [.ref (a 0), .int x1, .int x2] (gw_st (wM D a σ) Wr) (gw_pI res.1 (gw_st (wM D a res.2) Wr)) := by
  refine gw_ct (own := RX3) [(0, .ref (a 0)), (1, .int x1), (2, .int x2)] (by decide) rfl (Nat.le_of_ble_eq_true rfl) rfl ?_
  intro E X
  unfold fx_X3_winds at hp
  refine gw_aload_n X 1 0 dX3_winds_0 rfl rfl rfl ?_
  refine gw_iconst X 2 dX3_winds_1 rfl gw_ci_0 ?_
  refine gM_p0_0 X 5 q1394 dX3_winds_2 rfl ?_
  refine gw_iload_n X 6 1 dX3_winds_5 rfl rfl rfl ?_
  obtain ⟨σ1, h2, hp⟩ := gw_let_some hp
  rw [← h2]
  clear h2
  refine gw_callSi X 9 [.int x1] (mt_X3_isSeed rfl) lk_X3_398 yd_X3_isSeed rfl rfl rfl dX3_winds_6 rfl rfl rfl ?_
  refine gw_if_eqB X 31 12 dX3_winds_9 rfl rfl (fun z => ?_) (fun z => ?_)
  · replace hp := gw_f z hp
    refine gw_bipush X 33 dX3_winds_31 rfl gw_cb_m2 ?_
    cases hp
    exact gw_iret X dX3_winds_33 (fun _ h => ⟨rfl, h⟩) (Nat.le_of_ble_eq_true rfl) (Nat.le_of_ble_eq_true rfl)
  · replace hp := gw_t z hp
    refine gw_iload_n X 13 2 dX3_winds_12 rfl rfl rfl ?_
    refine gw_i2l X 14 dX3_winds_13 rfl ?_
    refine gw_lconst X 15 dX3_winds_14 rfl gw_cl_1 ?_
    refine gw_ldc2 X 18 dX3_winds_15 rfl q2052 ?_
    refine gw_callSi X 21 [.long (Int32.toInt64 x2), .long 1, .long 20] (mt_X3_in rfl) lk_X3_64 yd_X3_in rfl rfl rfl dX3_winds_18 rfl rfl rfl ?_
    refine gw_if_eqB X 31 24 dX3_winds_21 rfl rfl (fun z => ?_) (fun z => ?_)
    · replace hp := gw_f z hp
      refine gw_bipush X 33 dX3_winds_31 rfl gw_cb_m2 ?_
      cases hp
      exact gw_iret X dX3_winds_33 (fun _ h => ⟨rfl, h⟩) (Nat.le_of_ble_eq_true rfl) (Nat.le_of_ble_eq_true rfl)
    · replace hp := gw_t z hp
      refine gw_aload_n X 25 0 dX3_winds_24 rfl rfl rfl ?_
      refine gw_callVi X 28 [] (mt_X3_isCity rfl) lk_X3_209 ydv_X3_isCity gM_cl0 gM_at0 rfl rfl rfl dX3_winds_25 rfl rfl rfl ?_
      refine gw_if_neB X 34 31 dX3_winds_28 rfl rfl (fun z => ?_) (fun z => ?_)
      · replace hp := gw_t z hp
        refine gw_iconst X 35 dX3_winds_34 rfl gw_ci_0 ?_
        refine gw_istore_n X 36 [(3, .int 0), (0, .ref (a 0)), (1, .int x1), (2, .int x2)] dX3_winds_35 rfl rfl (by decide) rfl ?_
        refine gw_iconst X 37 dX3_winds_36 rfl gw_ci_0 ?_
        refine gw_istore X 39 [(4, .int 0), (3, .int 0), (0, .ref (a 0)), (1, .int x1), (2, .int x2)] dX3_winds_37 rfl (by decide) rfl ?_
        refine gw_lv [2, 3, 4, 1, 0] rfl ?_
        exact wk_X3_winds_L39 X hp
      · replace hp := gw_f z hp
        refine gw_bipush X 33 dX3_winds_31 rfl gw_cb_m2 ?_
        cases hp
        exact gw_iret X dX3_winds_33 (fun _ h => ⟨rfl, h⟩) (Nat.le_of_ble_eq_true rfl) (Nat.le_of_ble_eq_true rfl)
abbrev rm_X3_rate : Room := { frames := 2, cells := 0, slots := 0, locals := 47 }
def fx_X3_rate (σ : gw_S) (x1 : Int32) (x2 : Int32) : Option (Int32 × gw_S) := gw_let (gw_u σ 0 0 0) (fun σ1 => (if fx_X3_isPerson σ1 (Int32.toInt64 x1) = true then (if fx_X3_in (Int32.toInt64 x2) (1 : Int64) (999 : Int64) = true then (if (σ1.1 7 2) ≤ 0 then gw_ck ((5 : Int32) * x1) 200 (gw_ck ((5 : Int32) * x1) 200 (some (σ1.1 8 (Int32.toNatClampNeg ((5 : Int32) * x1)), gw_u σ1 8 (Int32.toNatClampNeg ((5 : Int32) * x1)) x2))) else some ((-5), σ1)) else some ((-2), σ1)) else some ((-2), σ1)))
set_option maxHeartbeats 4000000 in
theorem mt_X3_rate {l : Launch} {D : gw_D} {a : Nat → Nat} {Wr : va_W → Prop} {σ : gw_S} {x1 : Int32} {x2 : Int32} {res : Int32 × gw_S} (hp : fx_X3_rate σ x1 x2 = some res) : gw_Ct D l yX3_rate cX3_rate 4 (some .int) rm_X3_rate [.ref (a 0), .int x1, .int x2] (gw_st (wM D a σ) Wr) (gw_pI res.1 (gw_st (wM D a res.2) Wr)) := by
  refine gw_ct (own := RX3) [(0, .ref (a 0)), (1, .int x1), (2, .int x2)] (by decide) rfl (Nat.le_of_ble_eq_true rfl) rfl ?_
  intro E X
  unfold fx_X3_rate at hp
  refine gw_aload_n X 1 0 dX3_rate_0 rfl rfl rfl ?_
  refine gw_iconst X 2 dX3_rate_1 rfl gw_ci_0 ?_
  refine gM_p0_0 X 5 q1394 dX3_rate_2 rfl ?_
  refine gw_aload_n X 6 0 dX3_rate_5 rfl rfl rfl ?_
  refine gw_iload_n X 7 1 dX3_rate_6 rfl rfl rfl ?_
  refine gw_i2l X 8 dX3_rate_7 rfl ?_
  obtain ⟨σ1, h2, hp⟩ := gw_let_some hp
  rw [← h2]
  clear h2
  refine gw_callVi X 11 [.long (Int32.toInt64 x1)] (mt_X3_isPerson rfl) lk_X3_206 ydv_X3_isPerson gM_cl0 gM_at0 rfl rfl rfl dX3_rate_8 rfl rfl rfl ?_
  refine gw_if_eqB X 26 14 dX3_rate_11 rfl rfl (fun z => ?_) (fun z => ?_)
  · replace hp := gw_f z hp
    refine gw_bipush X 28 dX3_rate_26 rfl gw_cb_m2 ?_
    cases hp
    exact gw_iret X dX3_rate_28 (fun _ h => ⟨rfl, h⟩) (Nat.le_of_ble_eq_true rfl) (Nat.le_of_ble_eq_true rfl)
  · replace hp := gw_t z hp
    refine gw_iload_n X 15 2 dX3_rate_14 rfl rfl rfl ?_
    refine gw_i2l X 16 dX3_rate_15 rfl ?_
    refine gw_lconst X 17 dX3_rate_16 rfl gw_cl_1 ?_
    refine gw_ldc2 X 20 dX3_rate_17 rfl q2061 ?_
    refine gw_callSi X 23 [.long (Int32.toInt64 x2), .long 1, .long 999] (mt_X3_in rfl) lk_X3_64 yd_X3_in rfl rfl rfl dX3_rate_20 rfl rfl rfl ?_
    refine gw_if_neB X 29 26 dX3_rate_23 rfl rfl (fun z => ?_) (fun z => ?_)
    · replace hp := gw_t z hp
      refine gw_aload_n X 30 0 dX3_rate_29 rfl rfl rfl ?_
      refine gM_g0_17 X 33 q1411 dX3_rate_30 rfl ?_
      refine gw_iconst X 34 dX3_rate_33 rfl gw_ci_2 ?_
      refine gM_l7 X 35 2 (gw_in rfl) rfl dX3_rate_34 rfl ?_
      refine gw_if_le X 41 38 dX3_rate_35 rfl rfl (fun z => ?_) (fun z => ?_)
      · replace hp := gw_t z hp
        refine gw_aload_n X 42 0 dX3_rate_41 rfl rfl rfl ?_
        refine gM_g0_18 X 45 q1412 dX3_rate_42 rfl ?_
        refine gw_iconst X 46 dX3_rate_45 rfl gw_ci_5 ?_
        refine gw_iload_n X 47 1 dX3_rate_46 rfl rfl rfl ?_
        refine gw_imul X 48 dX3_rate_47 rfl ?_
        obtain ⟨hc, hp⟩ := gw_ck_some hp
        refine gM_l8 X 49 (Int32.toNatClampNeg ((5 : Int32) * x1)) hc rfl dX3_rate_48 rfl ?_
        refine gw_istore_n X 50 [(3, .int (σ1.1 8 (Int32.toNatClampNeg ((5 : Int32) * x1)))), (0, .ref (a 0)), (1, .int x1), (2, .int x2)] dX3_rate_49 rfl rfl (by decide) rfl ?_
        refine gw_aload_n X 51 1 dX3_rate_50 rfl rfl rfl ?_
        refine gM_g0_18 X 54 q1412 dX3_rate_51 rfl ?_
        refine gw_iconst X 55 dX3_rate_54 rfl gw_ci_5 ?_
        refine gw_iload_n X 56 2 dX3_rate_55 rfl rfl rfl ?_
        refine gw_imul X 57 dX3_rate_56 rfl ?_
        refine gw_iload_n X 58 3 dX3_rate_57 rfl rfl rfl ?_
        obtain ⟨hc, hp⟩ := gw_ck_some hp
        refine gM_s8 X 59 (Int32.toNatClampNeg ((5 : Int32) * x1)) hc rfl dX3_rate_58 rfl ?_
        refine gw_iload_n X 60 0 dX3_rate_59 rfl rfl rfl ?_
        cases hp
        exact gw_iret X dX3_rate_60 (fun _ h => ⟨rfl, h⟩) (Nat.le_of_ble_eq_true rfl) (Nat.le_of_ble_eq_true rfl)
      · replace hp := gw_f z hp
        refine gw_bipush X 40 dX3_rate_38 rfl gw_cb_m5 ?_
        cases hp
        exact gw_iret X dX3_rate_40 (fun _ h => ⟨rfl, h⟩) (Nat.le_of_ble_eq_true rfl) (Nat.le_of_ble_eq_true rfl)
    · replace hp := gw_f z hp
      refine gw_bipush X 28 dX3_rate_26 rfl gw_cb_m2 ?_
      cases hp
      exact gw_iret X dX3_rate_28 (fun _ h => ⟨rfl, h⟩) (Nat.le_of_ble_eq_true rfl) (Nat.le_of_ble_eq_true rfl)
abbrev rm_X3_forge : Room := { frames := 2, cells := 0, slots := 0, locals := 47 }
def fx_X3_forge (σ : gw_S) (x1 : Int32) (x2 : Int32) : Option (Int32 × gw_S) := gw_let (gw_u σ 0 0 0) (fun σ1 => (if fx_X3_isPerson σ1 (Int32.toInt64 x1) = true then (if fx_X3_in (Int32.toInt64 x2) (0 : Int64) (1 : Int64) = true then (if (σ1.1 7 2) ≤ 0 then gw_ck (((5 : Int32) * x1) + (4 : Int32)) 200 (gw_ck (((5 : Int32) * x1) + (4 : Int32)) 200 (some (σ1.1 8 (Int32.toNatClampNeg (((5 : Int32) * x1) + (4 : Int32))), gw_u σ1 8 (Int32.toNatClampNeg (((5 : Int32) * x1) + (4 : Int32))) x2))) else some ((-5), σ1)) else some ((-2), σ1)) else some ((-2), σ1)))
set_option maxHeartbeats 4000000 in
theorem mt_X3_forge {l : Launch} {D : gw_D} {a : Nat → Nat} {Wr : va_W → Prop} {σ : gw_S} {x1 : Int32} {x2 : Int32} {res : Int32 × gw_S} (hp : fx_X3_forge σ x1 x2 = some res) : gw_Ct D l yX3_forge cX3_forge 4 (some .int) rm_X3_forge [.ref (a 0), .int x1, .int x2] (gw_st (wM D a σ) Wr) (gw_pI res.1 (gw_st (wM D a res.2) Wr)) := by
  refine gw_ct (own := RX3) [(0, .ref (a 0)), (1, .int x1), (2, .int x2)] (by decide) rfl (Nat.le_of_ble_eq_true rfl) rfl ?_
  intro E X
  unfold fx_X3_forge at hp
  refine gw_aload_n X 1 0 dX3_forge_0 rfl rfl rfl ?_
  refine gw_iconst X 2 dX3_forge_1 rfl gw_ci_0 ?_
  refine gM_p0_0 X 5 q1394 dX3_forge_2 rfl ?_
  refine gw_aload_n X 6 0 dX3_forge_5 rfl rfl rfl ?_
  refine gw_iload_n X 7 1 dX3_forge_6 rfl rfl rfl ?_
  refine gw_i2l X 8 dX3_forge_7 rfl ?_
  obtain ⟨σ1, h2, hp⟩ := gw_let_some hp
  rw [← h2]
  clear h2
  refine gw_callVi X 11 [.long (Int32.toInt64 x1)] (mt_X3_isPerson rfl) lk_X3_206 ydv_X3_isPerson gM_cl0 gM_at0 rfl rfl rfl dX3_forge_8 rfl rfl rfl ?_
  refine gw_if_eqB X 24 14 dX3_forge_11 rfl rfl (fun z => ?_) (fun z => ?_)
  · replace hp := gw_f z hp
    refine gw_bipush X 26 dX3_forge_24 rfl gw_cb_m2 ?_
    cases hp
    exact gw_iret X dX3_forge_26 (fun _ h => ⟨rfl, h⟩) (Nat.le_of_ble_eq_true rfl) (Nat.le_of_ble_eq_true rfl)
  · replace hp := gw_t z hp
    refine gw_iload_n X 15 2 dX3_forge_14 rfl rfl rfl ?_
    refine gw_i2l X 16 dX3_forge_15 rfl ?_
    refine gw_lconst X 17 dX3_forge_16 rfl gw_cl_0 ?_
    refine gw_lconst X 18 dX3_forge_17 rfl gw_cl_1 ?_
    refine gw_callSi X 21 [.long (Int32.toInt64 x2), .long 0, .long 1] (mt_X3_in rfl) lk_X3_64 yd_X3_in rfl rfl rfl dX3_forge_18 rfl rfl rfl ?_
    refine gw_if_neB X 27 24 dX3_forge_21 rfl rfl (fun z => ?_) (fun z => ?_)
    · replace hp := gw_t z hp
      refine gw_aload_n X 28 0 dX3_forge_27 rfl rfl rfl ?_
      refine gM_g0_17 X 31 q1411 dX3_forge_28 rfl ?_
      refine gw_iconst X 32 dX3_forge_31 rfl gw_ci_2 ?_
      refine gM_l7 X 33 2 (gw_in rfl) rfl dX3_forge_32 rfl ?_
      refine gw_if_le X 39 36 dX3_forge_33 rfl rfl (fun z => ?_) (fun z => ?_)
      · replace hp := gw_t z hp
        refine gw_aload_n X 40 0 dX3_forge_39 rfl rfl rfl ?_
        refine gM_g0_18 X 43 q1412 dX3_forge_40 rfl ?_
        refine gw_iconst X 44 dX3_forge_43 rfl gw_ci_5 ?_
        refine gw_iload_n X 45 1 dX3_forge_44 rfl rfl rfl ?_
        refine gw_imul X 46 dX3_forge_45 rfl ?_
        refine gw_iconst X 47 dX3_forge_46 rfl gw_ci_4 ?_
        refine gw_iadd X 48 dX3_forge_47 rfl ?_
        obtain ⟨hc, hp⟩ := gw_ck_some hp
        refine gM_l8 X 49 (Int32.toNatClampNeg (((5 : Int32) * x1) + (4 : Int32))) hc rfl dX3_forge_48 rfl ?_
        refine gw_istore_n X 50 [(3, .int (σ1.1 8 (Int32.toNatClampNeg (((5 : Int32) * x1) + (4 : Int32))))), (0, .ref (a 0)), (1, .int x1), (2, .int x2)] dX3_forge_49 rfl rfl (by decide) rfl ?_
        refine gw_aload_n X 51 1 dX3_forge_50 rfl rfl rfl ?_
        refine gM_g0_18 X 54 q1412 dX3_forge_51 rfl ?_
        refine gw_iconst X 55 dX3_forge_54 rfl gw_ci_5 ?_
        refine gw_iload_n X 56 2 dX3_forge_55 rfl rfl rfl ?_
        refine gw_imul X 57 dX3_forge_56 rfl ?_
        refine gw_iconst X 58 dX3_forge_57 rfl gw_ci_4 ?_
        refine gw_iadd X 59 dX3_forge_58 rfl ?_
        refine gw_iload_n X 60 3 dX3_forge_59 rfl rfl rfl ?_
        obtain ⟨hc, hp⟩ := gw_ck_some hp
        refine gM_s8 X 61 (Int32.toNatClampNeg (((5 : Int32) * x1) + (4 : Int32))) hc rfl dX3_forge_60 rfl ?_
        refine gw_iload_n X 62 0 dX3_forge_61 rfl rfl rfl ?_
        cases hp
        exact gw_iret X dX3_forge_62 (fun _ h => ⟨rfl, h⟩) (Nat.le_of_ble_eq_true rfl) (Nat.le_of_ble_eq_true rfl)
      · replace hp := gw_f z hp
        refine gw_bipush X 38 dX3_forge_36 rfl gw_cb_m5 ?_
        cases hp
        exact gw_iret X dX3_forge_38 (fun _ h => ⟨rfl, h⟩) (Nat.le_of_ble_eq_true rfl) (Nat.le_of_ble_eq_true rfl)
    · replace hp := gw_f z hp
      refine gw_bipush X 26 dX3_forge_24 rfl gw_cb_m2 ?_
      cases hp
      exact gw_iret X dX3_forge_26 (fun _ h => ⟨rfl, h⟩) (Nat.le_of_ble_eq_true rfl) (Nat.le_of_ble_eq_true rfl)
abbrev rm_X3_count : Room := { frames := 5, cells := 0, slots := 0, locals := 111 }
def fx_X3_count_L91 (σ : gw_S)  : Nat → Int32 → Int32 → Option (Int32 × gw_S)
  | 0, _, _ => none
  | n + 1, c2, c3 => (if (σ.1 7 1) ≤ c3 then some (c2, σ) else gw_b1 (fx_X3_of σ c3 (4 : Int32)) (fun r9 => fx_X3_count_L91 σ n (c2 + r9) (c3 + 1)))
def fx_X3_count_L139 (σ : gw_S)  : Nat → Int32 → Int32 → Option (Int32 × gw_S)
  | 0, _, _ => none
  | n + 1, c2, c3 => (if (4 : Int32) ≤ c3 then some (c2, σ) else gw_ck c3 4 ((if (σ.1 1 (Int32.toNatClampNeg c3)) = (-1 : Int32) then fx_X3_count_L139 σ n (c2 + (0 : Int32)) (c3 + 1) else fx_X3_count_L139 σ n (c2 + (1 : Int32)) (c3 + 1))))
def fx_X3_count (σ : gw_S) (x1 : Int32) : Option (Int32 × gw_S) := gw_let (gw_u σ 0 0 0) (fun σ1 => (if x1 = 0 then some (σ1.1 7 1, σ1) else (if x1 = 1 then some (σ1.1 7 0, σ1) else (if x1 = 2 then gw_b1 (fx_X3_laysNow σ1) (fun σ3 => gw_b1 (fx_X3_freeNow σ3) (fun r5 => gw_b1 (fx_X3_sizeOf r5) (fun r7 => some ((σ3.1 7 1) - r7, σ3)))) else (if x1 = 3 then fx_X3_count_L91 σ1 1000 (0 : Int32) (0 : Int32) else (if x1 = 4 then some (σ1.1 7 2, σ1) else (if x1 = 5 then some (σ1.1 6 0, σ1) else (if x1 = 6 then some (σ1.1 0 6, σ1) else (if x1 = 7 then fx_X3_count_L139 σ1 1000 (0 : Int32) (0 : Int32) else (some ((-1), σ1)))))))))))
set_option maxHeartbeats 4000000 in
theorem wk_X3_count_L91 {E : gw_E} {l : Launch} {D : gw_D} {a : Nat → Nat} {Wr : va_W → Prop} {σ : gw_S} {res : Int32 × gw_S} (X : gw_X E cX3_count 4 RX3 (some .int) l D rm_X3_count (some (gw_pI res.1 (gw_st (wM D a res.2) Wr))))  : ∀ {n : Nat} {c2 : Int32} {c3 : Int32}, fx_X3_count_L91 σ n c2 c3 = some res → gw_W E 91 [(0, .ref (a 0)), (2, .int c2), (3, .int c3)] [] (gw_st (wM D a σ) Wr) 0 0 := by
  intro n
  induction n with
  | zero =>
    intro c2 c3 hp
    cases (show none = some res from hp)
  | succ n ih =>
    intro c2 c3 hp
    rw [fx_X3_count_L91] at hp
    refine gw_iload_n X 92 2 dX3_count_91 rfl rfl rfl ?_
    refine gw_aload_n X 93 0 dX3_count_92 rfl rfl rfl ?_
    refine gM_g0_17 X 96 q1411 dX3_count_93 rfl ?_
    refine gw_iconst X 97 dX3_count_96 rfl gw_ci_1 ?_
    refine gM_l7 X 98 1 (gw_in rfl) rfl dX3_count_97 rfl ?_
    refine gw_icmp_ge X 116 101 dX3_count_98 rfl rfl (fun z => ?_) (fun z => ?_)
    · replace hp := gw_t z hp
      refine gw_iload_n X 117 1 dX3_count_116 rfl rfl rfl ?_
      cases hp
      exact gw_iret X dX3_count_117 (fun _ h => ⟨rfl, h⟩) (Nat.le_of_ble_eq_true rfl) (Nat.le_of_ble_eq_true rfl)
    · replace hp := gw_f z hp
      refine gw_iload_n X 102 1 dX3_count_101 rfl rfl rfl ?_
      refine gw_aload_n X 103 0 dX3_count_102 rfl rfl rfl ?_
      refine gw_iload_n X 104 2 dX3_count_103 rfl rfl rfl ?_
      refine gw_iconst X 105 dX3_count_104 rfl gw_ci_4 ?_
      obtain ⟨r9, h10, hp⟩ := gw_b1_some hp
      refine gw_callVi X 108 [.int c3, .int 4] (mt_X3_of h10) lk_X3_214 ydv_X3_of gM_cl0 gM_at0 rfl rfl rfl dX3_count_105 rfl rfl rfl ?_
      refine gw_iadd X 109 dX3_count_108 rfl ?_
      refine gw_istore_n X 110 [(2, .int (c2 + r9)), (0, .ref (a 0)), (3, .int c3)] dX3_count_109 rfl rfl (by decide) rfl ?_
      refine gw_iinc X 113 2 [(3, .int (c3 + 1)), (2, .int (c2 + r9)), (0, .ref (a 0))] dX3_count_110 rfl rfl gw_ci_1 (by decide) rfl ?_
      refine gw_goto X 91 dX3_count_113 rfl ?_
      refine gw_lv [2, 1, 0] rfl ?_
      exact ih hp
set_option maxHeartbeats 4000000 in
theorem wk_X3_count_L139 {E : gw_E} {l : Launch} {D : gw_D} {a : Nat → Nat} {Wr : va_W → Prop} {σ : gw_S} {res : Int32 × gw_S} (X : gw_X E cX3_count 4 RX3 (some .int) l D rm_X3_count (some (gw_pI res.1 (gw_st (wM D a res.2) Wr))))  : ∀ {n : Nat} {c2 : Int32} {c3 : Int32}, fx_X3_count_L139 σ n c2 c3 = some res → gw_W E 139 [(0, .ref (a 0)), (2, .int c2), (3, .int c3)] [] (gw_st (wM D a σ) Wr) 0 0 := by
  intro n
  induction n with
  | zero =>
    intro c2 c3 hp
    cases (show none = some res from hp)
  | succ n ih =>
    intro c2 c3 hp
    rw [fx_X3_count_L139] at hp
    refine gw_iload_n X 140 2 dX3_count_139 rfl rfl rfl ?_
    refine gw_iconst X 141 dX3_count_140 rfl gw_ci_4 ?_
    refine gw_icmp_ge X 168 144 dX3_count_141 rfl rfl (fun z => ?_) (fun z => ?_)
    · replace hp := gw_t z hp
      refine gw_iload_n X 169 1 dX3_count_168 rfl rfl rfl ?_
      cases hp
      exact gw_iret X dX3_count_169 (fun _ h => ⟨rfl, h⟩) (Nat.le_of_ble_eq_true rfl) (Nat.le_of_ble_eq_true rfl)
    · replace hp := gw_f z hp
      refine gw_iload_n X 145 1 dX3_count_144 rfl rfl rfl ?_
      refine gw_aload_n X 146 0 dX3_count_145 rfl rfl rfl ?_
      refine gM_g0_1 X 149 q1395 dX3_count_146 rfl ?_
      refine gw_iload_n X 150 2 dX3_count_149 rfl rfl rfl ?_
      obtain ⟨hc, hp⟩ := gw_ck_some hp
      refine gM_l1 X 151 (Int32.toNatClampNeg c3) hc rfl dX3_count_150 rfl ?_
      refine gw_iconst X 152 dX3_count_151 rfl gw_ci_m1 ?_
      refine gw_icmp_ne X 159 155 dX3_count_152 rfl rfl (fun z => ?_) (fun z => ?_)
      · replace hp := gw_f z hp
        refine gw_iconst X 160 dX3_count_159 rfl gw_ci_1 ?_
        refine gw_iadd X 161 dX3_count_160 rfl ?_
        refine gw_istore_n X 162 [(2, .int (c2 + (1 : Int32))), (0, .ref (a 0)), (3, .int c3)] dX3_count_161 rfl rfl (by decide) rfl ?_
        refine gw_iinc X 165 2 [(3, .int (c3 + 1)), (2, .int (c2 + (1 : Int32))), (0, .ref (a 0))] dX3_count_162 rfl rfl gw_ci_1 (by decide) rfl ?_
        refine gw_goto X 139 dX3_count_165 rfl ?_
        refine gw_lv [2, 1, 0] rfl ?_
        exact ih hp
      · replace hp := gw_t z hp
        refine gw_iconst X 156 dX3_count_155 rfl gw_ci_0 ?_
        refine gw_goto X 160 dX3_count_156 rfl ?_
        refine gw_iadd X 161 dX3_count_160 rfl ?_
        refine gw_istore_n X 162 [(2, .int (c2 + (0 : Int32))), (0, .ref (a 0)), (3, .int c3)] dX3_count_161 rfl rfl (by decide) rfl ?_
        refine gw_iinc X 165 2 [(3, .int (c3 + 1)), (2, .int (c2 + (0 : Int32))), (0, .ref (a 0))] dX3_count_162 rfl rfl gw_ci_1 (by decide) rfl ?_
        refine gw_goto X 139 dX3_count_165 rfl ?_
        refine gw_lv [2, 1, 0] rfl ?_
        exact ih hp
set_option maxHeartbeats 4000000 in
theorem mt_X3_count {l : Launch} {D : gw_D} {a : Nat → Nat} {Wr : va_W → Prop} {σ : gw_S} {x1 : Int32} {res : Int32 × gw_S} (hp : fx_X3_count σ x1 = some res) : gw_Ct D l yX3_count cX3_count 4 (some .int) rm_X3_count [.ref (a 0), .int x1] (gw_st (wM D a σ) Wr) (gw_pI res.1 (gw_st (wM D a res.2) Wr)) := by
  refine gw_ct (own := RX3) [(0, .ref (a 0)), (1, .int x1)] (by decide) rfl (Nat.le_of_ble_eq_true rfl) rfl ?_
  intro E X
  unfold fx_X3_count at hp
  refine gw_aload_n X 1 0 dX3_count_0 rfl rfl rfl ?_
  refine gw_iconst X 2 dX3_count_1 rfl gw_ci_0 ?_
  refine gM_p0_0 X 5 q1394 dX3_count_2 rfl ?_
  refine gw_iconst X 6 dX3_count_5 rfl gw_ci_0 ?_
  refine gw_istore_n X 7 [(2, .int 0), (0, .ref (a 0)), (1, .int x1)] dX3_count_6 rfl rfl (by decide) rfl ?_
  refine gw_iload_n X 8 2 dX3_count_7 rfl rfl rfl ?_
  obtain ⟨σ1, h2, hp⟩ := gw_let_some hp
  rw [← h2]
  clear h2
  by_cases z0 : x1 = 0
  · replace hp := gw_t z0 hp
    refine gw_tsIn X 56 0 z0 dX3_count_8 (by decide) (by decide) rfl rfl ?_
    refine gw_aload_n X 57 1 dX3_count_56 rfl rfl rfl ?_
    refine gM_g0_17 X 60 q1411 dX3_count_57 rfl ?_
    refine gw_iconst X 61 dX3_count_60 rfl gw_ci_1 ?_
    refine gM_l7 X 62 1 (gw_in rfl) rfl dX3_count_61 rfl ?_
    cases hp
    exact gw_iret X dX3_count_62 (fun _ h => ⟨rfl, h⟩) (Nat.le_of_ble_eq_true rfl) (Nat.le_of_ble_eq_true rfl)
  replace hp := gw_f z0 hp
  by_cases z1 : x1 = 1
  · replace hp := gw_t z1 hp
    refine gw_tsIn X 63 1 z1 dX3_count_8 (by decide) (by decide) rfl rfl ?_
    refine gw_aload_n X 64 1 dX3_count_63 rfl rfl rfl ?_
    refine gM_g0_17 X 67 q1411 dX3_count_64 rfl ?_
    refine gw_iconst X 68 dX3_count_67 rfl gw_ci_0 ?_
    refine gM_l7 X 69 0 (gw_in rfl) rfl dX3_count_68 rfl ?_
    cases hp
    exact gw_iret X dX3_count_69 (fun _ h => ⟨rfl, h⟩) (Nat.le_of_ble_eq_true rfl) (Nat.le_of_ble_eq_true rfl)
  replace hp := gw_f z1 hp
  by_cases z2 : x1 = 2
  · replace hp := gw_t z2 hp
    refine gw_tsIn X 70 2 z2 dX3_count_8 (by decide) (by decide) rfl rfl ?_
    refine gw_aload_n X 71 1 dX3_count_70 rfl rfl rfl ?_
    obtain ⟨σ3, h4, hp⟩ := gw_b1_some hp
    refine gw_callVv X 74 [] (mt_X3_laysNow h4) lk_X3_251 ydv_X3_laysNow gM_cl0 gM_at0 rfl rfl rfl dX3_count_71 rfl rfl rfl ?_
    refine gw_aload_n X 75 1 dX3_count_74 rfl rfl rfl ?_
    refine gM_g0_17 X 78 q1411 dX3_count_75 rfl ?_
    refine gw_iconst X 79 dX3_count_78 rfl gw_ci_1 ?_
    refine gM_l7 X 80 1 (gw_in rfl) rfl dX3_count_79 rfl ?_
    refine gw_aload_n X 81 1 dX3_count_80 rfl rfl rfl ?_
    obtain ⟨r5, h6, hp⟩ := gw_b1_some hp
    refine gw_callVi X 84 [] (mt_X3_freeNow h6) lk_X3_260 ydv_X3_freeNow gM_cl0 gM_at0 rfl rfl rfl dX3_count_81 rfl rfl rfl ?_
    obtain ⟨r7, h8, hp⟩ := gw_b1_some hp
    refine gw_callSi X 87 [.int r5] (mt_X3_sizeOf h8) lk_X3_297 yd_X3_sizeOf rfl rfl rfl dX3_count_84 rfl rfl rfl ?_
    refine gw_isub X 88 dX3_count_87 rfl ?_
    cases hp
    exact gw_iret X dX3_count_88 (fun _ h => ⟨rfl, h⟩) (Nat.le_of_ble_eq_true rfl) (Nat.le_of_ble_eq_true rfl)
  replace hp := gw_f z2 hp
  by_cases z3 : x1 = 3
  · replace hp := gw_t z3 hp
    refine gw_tsIn X 89 3 z3 dX3_count_8 (by decide) (by decide) rfl rfl ?_
    refine gw_iconst X 90 dX3_count_89 rfl gw_ci_0 ?_
    refine gw_istore_n X 91 [(3, .int 0), (2, .int 0), (0, .ref (a 0)), (1, .int x1)] dX3_count_90 rfl rfl (by decide) rfl ?_
    refine gw_lv [2, 1, 0] rfl ?_
    exact wk_X3_count_L91 X hp
  replace hp := gw_f z3 hp
  by_cases z4 : x1 = 4
  · replace hp := gw_t z4 hp
    refine gw_tsIn X 118 4 z4 dX3_count_8 (by decide) (by decide) rfl rfl ?_
    refine gw_aload_n X 119 1 dX3_count_118 rfl rfl rfl ?_
    refine gM_g0_17 X 122 q1411 dX3_count_119 rfl ?_
    refine gw_iconst X 123 dX3_count_122 rfl gw_ci_2 ?_
    refine gM_l7 X 124 2 (gw_in rfl) rfl dX3_count_123 rfl ?_
    cases hp
    exact gw_iret X dX3_count_124 (fun _ h => ⟨rfl, h⟩) (Nat.le_of_ble_eq_true rfl) (Nat.le_of_ble_eq_true rfl)
  replace hp := gw_f z4 hp
  by_cases z5 : x1 = 5
  · replace hp := gw_t z5 hp
    refine gw_tsIn X 125 5 z5 dX3_count_8 (by decide) (by decide) rfl rfl ?_
    refine gw_aload_n X 126 1 dX3_count_125 rfl rfl rfl ?_
    refine gM_g0_16 X 129 q1410 dX3_count_126 rfl ?_
    refine gw_iconst X 130 dX3_count_129 rfl gw_ci_0 ?_
    refine gM_l6 X 131 0 (gw_in rfl) rfl dX3_count_130 rfl ?_
    cases hp
    exact gw_iret X dX3_count_131 (fun _ h => ⟨rfl, h⟩) (Nat.le_of_ble_eq_true rfl) (Nat.le_of_ble_eq_true rfl)
  replace hp := gw_f z5 hp
  by_cases z6 : x1 = 6
  · replace hp := gw_t z6 hp
    refine gw_tsIn X 132 6 z6 dX3_count_8 (by decide) (by decide) rfl rfl ?_
    refine gw_aload_n X 133 1 dX3_count_132 rfl rfl rfl ?_
    refine gM_g0_6 X 136 q1400 dX3_count_133 rfl ?_
    cases hp
    exact gw_iret X dX3_count_136 (fun _ h => ⟨rfl, h⟩) (Nat.le_of_ble_eq_true rfl) (Nat.le_of_ble_eq_true rfl)
  replace hp := gw_f z6 hp
  by_cases z7 : x1 = 7
  · replace hp := gw_t z7 hp
    refine gw_tsIn X 137 7 z7 dX3_count_8 (by decide) (by decide) rfl rfl ?_
    refine gw_iconst X 138 dX3_count_137 rfl gw_ci_0 ?_
    refine gw_istore_n X 139 [(3, .int 0), (2, .int 0), (0, .ref (a 0)), (1, .int x1)] dX3_count_138 rfl rfl (by decide) rfl ?_
    refine gw_lv [2, 1, 0] rfl ?_
    exact wk_X3_count_L139 X hp
  replace hp := gw_f z7 hp
  refine gw_tsOut X 170 dX3_count_8 (by have y0 := lv_neT (a := 0) z0 (by decide); have y1 := lv_neT (a := 1) z1 (by decide); have y2 := lv_neT (a := 2) z2 (by decide); have y3 := lv_neT (a := 3) z3 (by decide); have y4 := lv_neT (a := 4) z4 (by decide); have y5 := lv_neT (a := 5) z5 (by decide); have y6 := lv_neT (a := 6) z6 (by decide); have y7 := lv_neT (a := 7) z7 (by decide); omega) rfl ?_
  refine gw_iconst X 171 dX3_count_170 rfl gw_ci_m1 ?_
  cases hp
  exact gw_iret X dX3_count_171 (fun _ h => ⟨rfl, h⟩) (Nat.le_of_ble_eq_true rfl) (Nat.le_of_ble_eq_true rfl)
abbrev rm_X3_image : Room := { frames := 2, cells := 0, slots := 0, locals := 46 }
def fx_X3_image (σ : gw_S) (x1 : Int32) : Option (Int32 × gw_S) := gw_let (gw_u σ 0 0 0) (fun σ1 => (if fx_X3_in (Int32.toInt64 x1) (0 : Int64) (2 : Int64) = true then gw_b1 (fx_X3_copyCity σ1 (0 : Int32) ((1 : Int32) + x1)) (fun σ3 => gw_ck x1 3 (some (0, gw_u σ3 10 (Int32.toNatClampNeg x1) (vp_nar .boolean 1)))) else some ((-2), σ1)))
set_option maxHeartbeats 4000000 in
theorem mt_X3_image {l : Launch} {D : gw_D} {a : Nat → Nat} {Wr : va_W → Prop} {σ : gw_S} {x1 : Int32} {res : Int32 × gw_S} (hp : fx_X3_image σ x1 = some res) : gw_Ct D l yX3_image cX3_image 2 (some .int) rm_X3_image [.ref (a 0), .int x1] (gw_st (wM D a σ) Wr) (gw_pI res.1 (gw_st (wM D a res.2) Wr)) := by
  refine gw_ct (own := RX3) [(0, .ref (a 0)), (1, .int x1)] (by decide) rfl (Nat.le_of_ble_eq_true rfl) rfl ?_
  intro E X
  unfold fx_X3_image at hp
  refine gw_aload_n X 1 0 dX3_image_0 rfl rfl rfl ?_
  refine gw_iconst X 2 dX3_image_1 rfl gw_ci_0 ?_
  refine gM_p0_0 X 5 q1394 dX3_image_2 rfl ?_
  refine gw_iload_n X 6 1 dX3_image_5 rfl rfl rfl ?_
  refine gw_i2l X 7 dX3_image_6 rfl ?_
  refine gw_lconst X 8 dX3_image_7 rfl gw_cl_0 ?_
  refine gw_ldc2 X 11 dX3_image_8 rfl q2074 ?_
  obtain ⟨σ1, h2, hp⟩ := gw_let_some hp
  rw [← h2]
  clear h2
  refine gw_callSi X 14 [.long (Int32.toInt64 x1), .long 0, .long 2] (mt_X3_in rfl) lk_X3_64 yd_X3_in rfl rfl rfl dX3_image_11 rfl rfl rfl ?_
  refine gw_if_neB X 20 17 dX3_image_14 rfl rfl (fun z => ?_) (fun z => ?_)
  · replace hp := gw_t z hp
    refine gw_aload_n X 21 0 dX3_image_20 rfl rfl rfl ?_
    refine gw_iconst X 22 dX3_image_21 rfl gw_ci_0 ?_
    refine gw_iconst X 23 dX3_image_22 rfl gw_ci_1 ?_
    refine gw_iload_n X 24 1 dX3_image_23 rfl rfl rfl ?_
    refine gw_iadd X 25 dX3_image_24 rfl ?_
    obtain ⟨σ3, h4, hp⟩ := gw_b1_some hp
    refine gw_callVv X 28 [.int 0, .int ((1 : Int32) + x1)] (mt_X3_copyCity h4) lk_X3_199 ydv_X3_copyCity gM_cl0 gM_at0 rfl rfl rfl dX3_image_25 rfl rfl rfl ?_
    refine gw_aload_n X 29 0 dX3_image_28 rfl rfl rfl ?_
    refine gM_g0_20 X 32 q1414 dX3_image_29 rfl ?_
    refine gw_iload_n X 33 1 dX3_image_32 rfl rfl rfl ?_
    refine gw_iconst X 34 dX3_image_33 rfl gw_ci_1 ?_
    obtain ⟨hc, hp⟩ := gw_ck_some hp
    refine gM_s10 X 35 (Int32.toNatClampNeg x1) hc rfl dX3_image_34 rfl ?_
    refine gw_iconst X 36 dX3_image_35 rfl gw_ci_0 ?_
    cases hp
    exact gw_iret X dX3_image_36 (fun _ h => ⟨rfl, h⟩) (Nat.le_of_ble_eq_true rfl) (Nat.le_of_ble_eq_true rfl)
  · replace hp := gw_f z hp
    refine gw_bipush X 19 dX3_image_17 rfl gw_cb_m2 ?_
    cases hp
    exact gw_iret X dX3_image_19 (fun _ h => ⟨rfl, h⟩) (Nat.le_of_ble_eq_true rfl) (Nat.le_of_ble_eq_true rfl)
abbrev rm_X3_back : Room := { frames := 2, cells := 0, slots := 0, locals := 46 }
def fx_X3_back (σ : gw_S) (x1 : Int32) : Option (Int32 × gw_S) := gw_let (gw_u σ 0 0 0) (fun σ1 => (if fx_X3_in (Int32.toInt64 x1) (0 : Int64) (2 : Int64) = true then gw_ck x1 3 ((if (σ1.1 10 (Int32.toNatClampNeg x1)) = 0 then some ((-6), σ1) else gw_b1 (fx_X3_copyCity σ1 ((1 : Int32) + x1) (0 : Int32)) (fun σ3 => some (0, σ3)))) else some ((-2), σ1)))
set_option maxHeartbeats 4000000 in
theorem mt_X3_back {l : Launch} {D : gw_D} {a : Nat → Nat} {Wr : va_W → Prop} {σ : gw_S} {x1 : Int32} {res : Int32 × gw_S} (hp : fx_X3_back σ x1 = some res) : gw_Ct D l yX3_back cX3_back 2 (some .int) rm_X3_back [.ref (a 0), .int x1] (gw_st (wM D a σ) Wr) (gw_pI res.1 (gw_st (wM D a res.2) Wr)) := by
  refine gw_ct (own := RX3) [(0, .ref (a 0)), (1, .int x1)] (by decide) rfl (Nat.le_of_ble_eq_true rfl) rfl ?_
  intro E X
  unfold fx_X3_back at hp
  refine gw_aload_n X 1 0 dX3_back_0 rfl rfl rfl ?_
  refine gw_iconst X 2 dX3_back_1 rfl gw_ci_0 ?_
  refine gM_p0_0 X 5 q1394 dX3_back_2 rfl ?_
  refine gw_iload_n X 6 1 dX3_back_5 rfl rfl rfl ?_
  refine gw_i2l X 7 dX3_back_6 rfl ?_
  refine gw_lconst X 8 dX3_back_7 rfl gw_cl_0 ?_
  refine gw_ldc2 X 11 dX3_back_8 rfl q2074 ?_
  obtain ⟨σ1, h2, hp⟩ := gw_let_some hp
  rw [← h2]
  clear h2
  refine gw_callSi X 14 [.long (Int32.toInt64 x1), .long 0, .long 2] (mt_X3_in rfl) lk_X3_64 yd_X3_in rfl rfl rfl dX3_back_11 rfl rfl rfl ?_
  refine gw_if_neB X 20 17 dX3_back_14 rfl rfl (fun z => ?_) (fun z => ?_)
  · replace hp := gw_t z hp
    refine gw_aload_n X 21 0 dX3_back_20 rfl rfl rfl ?_
    refine gM_g0_20 X 24 q1414 dX3_back_21 rfl ?_
    refine gw_iload_n X 25 1 dX3_back_24 rfl rfl rfl ?_
    obtain ⟨hc, hp⟩ := gw_ck_some hp
    refine gM_l10 X 26 (Int32.toNatClampNeg x1) hc rfl dX3_back_25 rfl ?_
    refine gw_if_ne X 32 29 dX3_back_26 rfl rfl (fun z => ?_) (fun z => ?_)
    · replace hp := gw_f z hp
      refine gw_aload_n X 33 0 dX3_back_32 rfl rfl rfl ?_
      refine gw_iconst X 34 dX3_back_33 rfl gw_ci_1 ?_
      refine gw_iload_n X 35 1 dX3_back_34 rfl rfl rfl ?_
      refine gw_iadd X 36 dX3_back_35 rfl ?_
      refine gw_iconst X 37 dX3_back_36 rfl gw_ci_0 ?_
      obtain ⟨σ3, h4, hp⟩ := gw_b1_some hp
      refine gw_callVv X 40 [.int ((1 : Int32) + x1), .int 0] (mt_X3_copyCity h4) lk_X3_199 ydv_X3_copyCity gM_cl0 gM_at0 rfl rfl rfl dX3_back_37 rfl rfl rfl ?_
      refine gw_iconst X 41 dX3_back_40 rfl gw_ci_0 ?_
      cases hp
      exact gw_iret X dX3_back_41 (fun _ h => ⟨rfl, h⟩) (Nat.le_of_ble_eq_true rfl) (Nat.le_of_ble_eq_true rfl)
    · replace hp := gw_t z hp
      refine gw_bipush X 31 dX3_back_29 rfl gw_cb_m6 ?_
      cases hp
      exact gw_iret X dX3_back_31 (fun _ h => ⟨rfl, h⟩) (Nat.le_of_ble_eq_true rfl) (Nat.le_of_ble_eq_true rfl)
  · replace hp := gw_f z hp
    refine gw_bipush X 19 dX3_back_17 rfl gw_cb_m2 ?_
    cases hp
    exact gw_iret X dX3_back_19 (fun _ h => ⟨rfl, h⟩) (Nat.le_of_ble_eq_true rfl) (Nat.le_of_ble_eq_true rfl)
