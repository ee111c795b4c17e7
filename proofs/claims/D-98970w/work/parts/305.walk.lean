set_option maxRecDepth 100000
abbrev rm_X3_laysWork : Room := { frames := 2, cells := 0, slots := 0, locals := 45 }
def fx_X3_laysWork_L2 {τ : Type} (k : gw_S → Option (τ)) (v1 : Int32) : Nat → Int32 → gw_S → Option (τ)
  | 0, _, _ => none
  | n + 1, c2, σ => (if (64 : Int32) ≤ c2 then k σ else gw_ck (((64 : Int32) * (σ.1 7 1)) + c2) 576 (fx_X3_laysWork_L2 k v1 n (c2 + 1) (gw_u σ 14 (Int32.toNatClampNeg (((64 : Int32) * (σ.1 7 1)) + c2)) 0)))
def fx_X3_laysWork_L79 {τ : Type} (k : Int32 → Option (τ)) (σ : gw_S) (v1 : Int32) (v2 : Int32) (v3 : Int32) (v5 : Int32) : Nat → Int32 → Int32 → Option (τ)
  | 0, _, _ => none
  | n + 1, c4, c6 => (if (6 : Int32) ≤ c6 then k c4 else gw_b1 (if fx_X3_isBit v5 c6 = true then gw_ck (((64 : Int32) * (v2 + (1 : Int32))) + (v3 &&& (((1 : Int32) <<< (c6 &&& 31)) ^^^ (-1 : Int32)))) 576 (some ((1 : Int32) + (σ.1 14 (Int32.toNatClampNeg (((64 : Int32) * (v2 + (1 : Int32))) + (v3 &&& (((1 : Int32) <<< (c6 &&& 31)) ^^^ (-1 : Int32)))))))) else some (0 : Int32)) (fun (y4 : Int32) => (if y4 ≤ c4 then fx_X3_laysWork_L79 k σ v1 v2 v3 v5 n c4 (c6 + 1) else fx_X3_laysWork_L79 k σ v1 v2 v3 v5 n y4 (c6 + 1))))
def fx_X3_laysWork_L46 {τ : Type} (k : gw_S → Option (τ)) (v1 : Int32) (v2 : Int32) : Nat → Int32 → gw_S → Option (τ)
  | 0, _, _ => none
  | n + 1, c3, σ => (if (64 : Int32) ≤ c3 then k σ else gw_ck (((64 : Int32) * (v2 + (1 : Int32))) + c3) 576 (gw_b1 (fx_X3_mayDo σ v2 v1 c3) (fun r2 => fx_X3_laysWork_L79 (fun (e6 : Int32) => gw_ck (((64 : Int32) * v2) + c3) 576 (fx_X3_laysWork_L46 k v1 v2 n (c3 + 1) (gw_u σ 14 (Int32.toNatClampNeg (((64 : Int32) * v2) + c3)) e6))) σ v1 v2 c3 r2 1000 (σ.1 14 (Int32.toNatClampNeg (((64 : Int32) * (v2 + (1 : Int32))) + c3))) (0 : Int32))))
def fx_X3_laysWork_L40 (v1 : Int32) : Nat → Int32 → gw_S → Option (gw_S)
  | 0, _, _ => none
  | n + 1, c2, σ => (if c2 < 0 then some σ else fx_X3_laysWork_L46 (fun (σ7 : gw_S) => fx_X3_laysWork_L40 v1 n (c2 + (-1)) σ7) v1 c2 1000 (0 : Int32) σ)
def fx_X3_laysWork (σ : gw_S) (x1 : Int32) : Option (gw_S) := fx_X3_laysWork_L2 (fun (σ1 : gw_S) => fx_X3_laysWork_L40 x1 1000 ((σ1.1 7 1) - (1 : Int32)) σ1) x1 1000 (0 : Int32) σ
set_option maxHeartbeats 4000000 in
theorem wk_X3_laysWork_L2 {E : gw_E} {l : Launch} {D : gw_D} {a : Nat → Nat} {Wr : va_W → Prop} {τ : Type} {res : τ} {post : Option (Option Value → va_W → Prop)} (X : gw_X E cX3_laysWork 8 RX3 none l D rm_X3_laysWork post) {k : gw_S → Option (τ)} {v1 : Int32} : ∀ {n : Nat} {c2 : Int32} {σ : gw_S}, fx_X3_laysWork_L2 k v1 n c2 σ = some res → (∀  (σ : gw_S), k σ = some res → gw_W E 31 [(0, .ref (a 0)), (1, .int v1)] [] (gw_st (wM D a σ) Wr) 0 0) → gw_W E 2 [(0, .ref (a 0)), (1, .int v1), (2, .int c2)] [] (gw_st (wM D a σ) Wr) 0 0 := by
  intro n
  induction n with
  | zero =>
    intro c2 σ hp hk
    cases (show none = some res from hp)
  | succ n ih =>
    intro c2 σ hp hk
    rw [fx_X3_laysWork_L2] at hp
    refine gw_iload_n X 3 2 dX3_laysWork_2 rfl rfl rfl ?_
    refine gw_bipush X 5 dX3_laysWork_3 rfl gw_cb_64 ?_
    refine gw_icmp_ge X 31 8 dX3_laysWork_5 rfl rfl (fun z => ?_) (fun z => ?_)
    · replace hp := gw_t z hp
      refine gw_lv [0, 1] rfl ?_
      exact hk _ hp
    · replace hp := gw_f z hp
      refine gw_aload_n X 9 0 dX3_laysWork_8 rfl rfl rfl ?_
      refine gM_g0_28 X 12 q1422 dX3_laysWork_9 rfl ?_
      refine gw_bipush X 14 dX3_laysWork_12 rfl gw_cb_64 ?_
      refine gw_aload_n X 15 0 dX3_laysWork_14 rfl rfl rfl ?_
      refine gM_g0_17 X 18 q1411 dX3_laysWork_15 rfl ?_
      refine gw_iconst X 19 dX3_laysWork_18 rfl gw_ci_1 ?_
      refine gM_l7 X 20 1 (gw_in rfl) rfl dX3_laysWork_19 rfl ?_
      refine gw_imul X 21 dX3_laysWork_20 rfl ?_
      refine gw_iload_n X 22 2 dX3_laysWork_21 rfl rfl rfl ?_
      refine gw_iadd X 23 dX3_laysWork_22 rfl ?_
      refine gw_iconst X 24 dX3_laysWork_23 rfl gw_ci_0 ?_
      obtain ⟨hc, hp⟩ := gw_ck_some hp
      refine gM_s14 X 25 (Int32.toNatClampNeg (((64 : Int32) * (σ.1 7 1)) + c2)) hc rfl dX3_laysWork_24 rfl ?_
      refine gw_iinc X 28 2 [(2, .int (c2 + 1)), (0, .ref (a 0)), (1, .int v1)] dX3_laysWork_25 rfl rfl gw_ci_1 (by decide) rfl ?_
      refine gw_goto X 2 dX3_laysWork_28 rfl ?_
      refine gw_lv [1, 2, 0] rfl ?_
      exact ih hp hk
set_option maxHeartbeats 4000000 in
theorem wk_X3_laysWork_L79 {E : gw_E} {l : Launch} {D : gw_D} {a : Nat → Nat} {Wr : va_W → Prop} {σ : gw_S} {τ : Type} {res : τ} {post : Option (Option Value → va_W → Prop)} (X : gw_X E cX3_laysWork 8 RX3 none l D rm_X3_laysWork post) {k : Int32 → Option (τ)} {v1 : Int32} {v2 : Int32} {v3 : Int32} {v5 : Int32} : ∀ {n : Nat} {c4 : Int32} {c6 : Int32}, fx_X3_laysWork_L79 k σ v1 v2 v3 v5 n c4 c6 = some res → (∀ (c4 : Int32), k c4 = some res → gw_W E 146 [(0, .ref (a 0)), (1, .int v1), (2, .int v2), (3, .int v3), (4, .int c4)] [] (gw_st (wM D a σ) Wr) 0 0) → gw_W E 79 [(0, .ref (a 0)), (1, .int v1), (2, .int v2), (3, .int v3), (4, .int c4), (5, .int v5), (6, .int c6)] [] (gw_st (wM D a σ) Wr) 0 0 := by
  intro n
  induction n with
  | zero =>
    intro c4 c6 hp hk
    cases (show none = some res from hp)
  | succ n ih =>
    intro c4 c6 hp hk
    rw [fx_X3_laysWork_L79] at hp
    refine gw_iload X 81 6 dX3_laysWork_79 rfl rfl ?_
    refine gw_bipush X 83 dX3_laysWork_81 rfl gw_cb_6 ?_
    refine gw_icmp_ge X 146 86 dX3_laysWork_83 rfl rfl (fun z => ?_) (fun z => ?_)
    · replace hp := gw_t z hp
      refine gw_lv [0, 1, 2, 3, 4] rfl ?_
      exact hk _ hp
    · replace hp := gw_f z hp
      refine gw_iload X 88 5 dX3_laysWork_86 rfl rfl ?_
      refine gw_iload X 90 6 dX3_laysWork_88 rfl rfl ?_
      refine gw_callSi X 93 [.int v5, .int c6] (mt_X3_isBit rfl) lk_X3_239 yd_X3_isBit rfl rfl rfl dX3_laysWork_90 rfl rfl rfl ?_
      obtain ⟨y4, h5, hp⟩ := gw_b1_some hp
      have kJ : gw_W E 122 [(0, .ref (a 0)), (1, .int v1), (2, .int v2), (3, .int v3), (4, .int c4), (5, .int v5), (6, .int c6)] [.int y4] (gw_st (wM D a σ) Wr) 0 0 := by
        refine gw_istore X 124 [(7, .int y4), (0, .ref (a 0)), (1, .int v1), (2, .int v2), (3, .int v3), (4, .int c4), (5, .int v5), (6, .int c6)] dX3_laysWork_122 rfl (by decide) rfl ?_
        refine gw_iload X 126 0 dX3_laysWork_124 rfl rfl ?_
        refine gw_iload X 128 5 dX3_laysWork_126 rfl rfl ?_
        refine gw_icmp_le X 136 131 dX3_laysWork_128 rfl rfl (fun z => ?_) (fun z => ?_)
        · replace hp := gw_t z hp
          refine gw_iload X 138 5 dX3_laysWork_136 rfl rfl ?_
          refine gw_istore X 140 [(4, .int c4), (7, .int y4), (0, .ref (a 0)), (1, .int v1), (2, .int v2), (3, .int v3), (5, .int v5), (6, .int c6)] dX3_laysWork_138 rfl (by decide) rfl ?_
          refine gw_iinc X 143 7 [(6, .int (c6 + 1)), (4, .int c4), (7, .int y4), (0, .ref (a 0)), (1, .int v1), (2, .int v2), (3, .int v3), (5, .int v5)] dX3_laysWork_140 rfl rfl gw_ci_1 (by decide) rfl ?_
          refine gw_goto X 79 dX3_laysWork_143 rfl ?_
          refine gw_lv [3, 4, 5, 6, 1, 7, 0] rfl ?_
          exact ih hp hk
        · replace hp := gw_f z hp
          refine gw_iload X 133 0 dX3_laysWork_131 rfl rfl ?_
          refine gw_goto X 138 dX3_laysWork_133 rfl ?_
          refine gw_istore X 140 [(4, .int y4), (7, .int y4), (0, .ref (a 0)), (1, .int v1), (2, .int v2), (3, .int v3), (5, .int v5), (6, .int c6)] dX3_laysWork_138 rfl (by decide) rfl ?_
          refine gw_iinc X 143 7 [(6, .int (c6 + 1)), (4, .int y4), (7, .int y4), (0, .ref (a 0)), (1, .int v1), (2, .int v2), (3, .int v3), (5, .int v5)] dX3_laysWork_140 rfl rfl gw_ci_1 (by decide) rfl ?_
          refine gw_goto X 79 dX3_laysWork_143 rfl ?_
          refine gw_lv [3, 4, 5, 6, 1, 7, 0] rfl ?_
          exact ih hp hk
      clear hp
      have hp := h5
      clear h5
      refine gw_if_eqB X 121 96 dX3_laysWork_93 rfl rfl (fun z => ?_) (fun z => ?_)
      · replace hp := gw_f z hp
        refine gw_iconst X 122 dX3_laysWork_121 rfl gw_ci_0 ?_
        cases hp
        exact gw_lv [0, 1, 2, 3, 4, 5, 6] rfl kJ
      · replace hp := gw_t z hp
        refine gw_iconst X 97 dX3_laysWork_96 rfl gw_ci_1 ?_
        refine gw_aload_n X 98 0 dX3_laysWork_97 rfl rfl rfl ?_
        refine gM_g0_28 X 101 q1422 dX3_laysWork_98 rfl ?_
        refine gw_bipush X 103 dX3_laysWork_101 rfl gw_cb_64 ?_
        refine gw_iload_n X 104 2 dX3_laysWork_103 rfl rfl rfl ?_
        refine gw_iconst X 105 dX3_laysWork_104 rfl gw_ci_1 ?_
        refine gw_iadd X 106 dX3_laysWork_105 rfl ?_
        refine gw_imul X 107 dX3_laysWork_106 rfl ?_
        refine gw_iload_n X 108 3 dX3_laysWork_107 rfl rfl rfl ?_
        refine gw_iconst X 109 dX3_laysWork_108 rfl gw_ci_1 ?_
        refine gw_iload X 111 6 dX3_laysWork_109 rfl rfl ?_
        refine gw_ishl X 112 dX3_laysWork_111 rfl ?_
        refine gw_iconst X 113 dX3_laysWork_112 rfl gw_ci_m1 ?_
        refine gw_ixor X 114 dX3_laysWork_113 rfl ?_
        refine gw_iand X 115 dX3_laysWork_114 rfl ?_
        refine gw_iadd X 116 dX3_laysWork_115 rfl ?_
        obtain ⟨hc, hp⟩ := gw_ck_some hp
        refine gM_l14 X 117 (Int32.toNatClampNeg (((64 : Int32) * (v2 + (1 : Int32))) + (v3 &&& (((1 : Int32) <<< (c6 &&& 31)) ^^^ (-1 : Int32))))) hc rfl dX3_laysWork_116 rfl ?_
        refine gw_iadd X 118 dX3_laysWork_117 rfl ?_
        refine gw_goto X 122 dX3_laysWork_118 rfl ?_
        cases hp
        exact gw_lv [0, 1, 2, 3, 4, 5, 6] rfl kJ
set_option maxHeartbeats 4000000 in
theorem wk_X3_laysWork_L46 {E : gw_E} {l : Launch} {D : gw_D} {a : Nat → Nat} {Wr : va_W → Prop} {τ : Type} {res : τ} {post : Option (Option Value → va_W → Prop)} (X : gw_X E cX3_laysWork 8 RX3 none l D rm_X3_laysWork post) {k : gw_S → Option (τ)} {v1 : Int32} {v2 : Int32} : ∀ {n : Nat} {c3 : Int32} {σ : gw_S}, fx_X3_laysWork_L46 k v1 v2 n c3 σ = some res → (∀  (σ : gw_S), k σ = some res → gw_W E 165 [(0, .ref (a 0)), (1, .int v1), (2, .int v2)] [] (gw_st (wM D a σ) Wr) 0 0) → gw_W E 46 [(0, .ref (a 0)), (1, .int v1), (2, .int v2), (3, .int c3)] [] (gw_st (wM D a σ) Wr) 0 0 := by
  intro n
  induction n with
  | zero =>
    intro c3 σ hp hk
    cases (show none = some res from hp)
  | succ n ih =>
    intro c3 σ hp hk
    rw [fx_X3_laysWork_L46] at hp
    refine gw_iload_n X 47 3 dX3_laysWork_46 rfl rfl rfl ?_
    refine gw_bipush X 49 dX3_laysWork_47 rfl gw_cb_64 ?_
    refine gw_icmp_ge X 165 52 dX3_laysWork_49 rfl rfl (fun z => ?_) (fun z => ?_)
    · replace hp := gw_t z hp
      refine gw_lv [0, 1, 2] rfl ?_
      exact hk _ hp
    · replace hp := gw_f z hp
      refine gw_aload_n X 53 0 dX3_laysWork_52 rfl rfl rfl ?_
      refine gM_g0_28 X 56 q1422 dX3_laysWork_53 rfl ?_
      refine gw_bipush X 58 dX3_laysWork_56 rfl gw_cb_64 ?_
      refine gw_iload_n X 59 2 dX3_laysWork_58 rfl rfl rfl ?_
      refine gw_iconst X 60 dX3_laysWork_59 rfl gw_ci_1 ?_
      refine gw_iadd X 61 dX3_laysWork_60 rfl ?_
      refine gw_imul X 62 dX3_laysWork_61 rfl ?_
      refine gw_iload_n X 63 3 dX3_laysWork_62 rfl rfl rfl ?_
      refine gw_iadd X 64 dX3_laysWork_63 rfl ?_
      obtain ⟨hc, hp⟩ := gw_ck_some hp
      refine gM_l14 X 65 (Int32.toNatClampNeg (((64 : Int32) * (v2 + (1 : Int32))) + c3)) hc rfl dX3_laysWork_64 rfl ?_
      refine gw_istore X 67 [(4, .int (σ.1 14 (Int32.toNatClampNeg (((64 : Int32) * (v2 + (1 : Int32))) + c3)))), (0, .ref (a 0)), (1, .int v1), (2, .int v2), (3, .int c3)] dX3_laysWork_65 rfl (by decide) rfl ?_
      refine gw_aload_n X 68 1 dX3_laysWork_67 rfl rfl rfl ?_
      refine gw_iload_n X 69 3 dX3_laysWork_68 rfl rfl rfl ?_
      refine gw_iload_n X 70 2 dX3_laysWork_69 rfl rfl rfl ?_
      refine gw_iload_n X 71 4 dX3_laysWork_70 rfl rfl rfl ?_
      obtain ⟨r2, h3, hp⟩ := gw_b1_some hp
      refine gw_callVi X 74 [.int v2, .int v1, .int c3] (mt_X3_mayDo h3) lk_X3_303 ydv_X3_mayDo gM_cl0 gM_at0 rfl rfl rfl dX3_laysWork_71 rfl rfl rfl ?_
      refine gw_istore X 76 [(5, .int r2), (4, .int (σ.1 14 (Int32.toNatClampNeg (((64 : Int32) * (v2 + (1 : Int32))) + c3)))), (0, .ref (a 0)), (1, .int v1), (2, .int v2), (3, .int c3)] dX3_laysWork_74 rfl (by decide) rfl ?_
      refine gw_iconst X 77 dX3_laysWork_76 rfl gw_ci_0 ?_
      refine gw_istore X 79 [(6, .int 0), (5, .int r2), (4, .int (σ.1 14 (Int32.toNatClampNeg (((64 : Int32) * (v2 + (1 : Int32))) + c3)))), (0, .ref (a 0)), (1, .int v1), (2, .int v2), (3, .int c3)] dX3_laysWork_77 rfl (by decide) rfl ?_
      refine gw_lv [3, 4, 5, 6, 2, 1, 0] rfl ?_
      refine wk_X3_laysWork_L79 X hp ?_
      clear hp
      intro e6 hp
      refine gw_aload_n X 147 0 dX3_laysWork_146 rfl rfl rfl ?_
      refine gM_g0_28 X 150 q1422 dX3_laysWork_147 rfl ?_
      refine gw_bipush X 152 dX3_laysWork_150 rfl gw_cb_64 ?_
      refine gw_iload_n X 153 2 dX3_laysWork_152 rfl rfl rfl ?_
      refine gw_imul X 154 dX3_laysWork_153 rfl ?_
      refine gw_iload_n X 155 3 dX3_laysWork_154 rfl rfl rfl ?_
      refine gw_iadd X 156 dX3_laysWork_155 rfl ?_
      refine gw_iload X 158 4 dX3_laysWork_156 rfl rfl ?_
      obtain ⟨hc, hp⟩ := gw_ck_some hp
      refine gM_s14 X 159 (Int32.toNatClampNeg (((64 : Int32) * v2) + c3)) hc rfl dX3_laysWork_158 rfl ?_
      refine gw_iinc X 162 3 [(3, .int (c3 + 1)), (0, .ref (a 0)), (1, .int v1), (2, .int v2), (4, .int e6)] dX3_laysWork_159 rfl rfl gw_ci_1 (by decide) rfl ?_
      refine gw_goto X 46 dX3_laysWork_162 rfl ?_
      refine gw_lv [1, 2, 3, 0] rfl ?_
      exact ih hp hk
set_option maxHeartbeats 4000000 in
theorem wk_X3_laysWork_L40 {E : gw_E} {l : Launch} {D : gw_D} {a : Nat → Nat} {Wr : va_W → Prop} {res : gw_S} (X : gw_X E cX3_laysWork 8 RX3 none l D rm_X3_laysWork (some (gw_pV (gw_st (wM D a res) Wr)))) {v1 : Int32} : ∀ {n : Nat} {c2 : Int32} {σ : gw_S}, fx_X3_laysWork_L40 v1 n c2 σ = some res → gw_W E 40 [(0, .ref (a 0)), (1, .int v1), (2, .int c2)] [] (gw_st (wM D a σ) Wr) 0 0 := by
  intro n
  induction n with
  | zero =>
    intro c2 σ hp
    cases (show none = some res from hp)
  | succ n ih =>
    intro c2 σ hp
    rw [fx_X3_laysWork_L40] at hp
    refine gw_iload_n X 41 2 dX3_laysWork_40 rfl rfl rfl ?_
    refine gw_if_lt X 171 44 dX3_laysWork_41 rfl rfl (fun z => ?_) (fun z => ?_)
    · replace hp := gw_t z hp
      cases hp
      exact gw_vret X dX3_laysWork_171 (fun _ h => ⟨rfl, h⟩) (Nat.le_of_ble_eq_true rfl) (Nat.le_of_ble_eq_true rfl)
    · replace hp := gw_f z hp
      refine gw_iconst X 45 dX3_laysWork_44 rfl gw_ci_0 ?_
      refine gw_istore_n X 46 [(3, .int 0), (0, .ref (a 0)), (1, .int v1), (2, .int c2)] dX3_laysWork_45 rfl rfl (by decide) rfl ?_
      refine gw_lv [1, 2, 3, 0] rfl ?_
      refine wk_X3_laysWork_L46 X hp ?_
      clear hp
      intro σ7 hp
      refine gw_iinc X 168 2 [(2, .int (c2 + (-1))), (0, .ref (a 0)), (1, .int v1)] dX3_laysWork_165 rfl rfl gw_ci_m1 (by decide) rfl ?_
      refine gw_goto X 40 dX3_laysWork_168 rfl ?_
      refine gw_lv [1, 2, 0] rfl ?_
      exact ih hp
set_option maxHeartbeats 4000000 in
theorem mt_X3_laysWork {l : Launch} {D : gw_D} {a : Nat → Nat} {Wr : va_W → Prop} {σ : gw_S} {x1 : Int32} {res : gw_S} (hp : fx_X3_laysWork σ x1 = some res) : gw_Ct D l yX3_laysWork cX3_laysWork 8 none rm_X3_laysWork [.ref (a 0), .int x1] (gw_st (wM D a σ) Wr) (gw_pV (gw_st (wM D a res) Wr)) := by
  refine gw_ct (own := RX3) [(0, .ref (a 0)), (1, .int x1)] (by decide) rfl (Nat.le_of_ble_eq_true rfl) rfl ?_
  intro E X
  unfold fx_X3_laysWork at hp
  refine gw_iconst X 1 dX3_laysWork_0 rfl gw_ci_0 ?_
  refine gw_istore_n X 2 [(2, .int 0), (0, .ref (a 0)), (1, .int x1)] dX3_laysWork_1 rfl rfl (by decide) rfl ?_
  refine gw_lv [1, 2, 0] rfl ?_
  refine wk_X3_laysWork_L2 X hp ?_
  clear hp
  intro σ1 hp
  refine gw_aload_n X 32 0 dX3_laysWork_31 rfl rfl rfl ?_
  refine gM_g0_17 X 35 q1411 dX3_laysWork_32 rfl ?_
  refine gw_iconst X 36 dX3_laysWork_35 rfl gw_ci_1 ?_
  refine gM_l7 X 37 1 (gw_in rfl) rfl dX3_laysWork_36 rfl ?_
  refine gw_iconst X 38 dX3_laysWork_37 rfl gw_ci_1 ?_
  refine gw_isub X 39 dX3_laysWork_38 rfl ?_
  refine gw_istore_n X 40 [(2, .int ((σ1.1 7 1) - (1 : Int32))), (0, .ref (a 0)), (1, .int x1)] dX3_laysWork_39 rfl rfl (by decide) rfl ?_
  refine gw_lv [1, 2, 0] rfl ?_
  exact wk_X3_laysWork_L40 X hp
abbrev rm_X3_work : Room := { frames := 5, cells := 0, slots := 0, locals := 111 }
def fx_X3_work_L23  : Nat → Int32 → Int32 → gw_S → Option (Int32 × gw_S)
  | 0, _, _, _ => none
  | n + 1, c1, c2, σ => (if (σ.1 7 1) ≤ c2 then some (c1, σ) else gw_b1 (fx_X3_laysWork σ c2) (fun σ5 => gw_b1 (fx_X3_of σ5 c2 (2 : Int32)) (fun r7 => gw_ck r7 576 (fx_X3_work_L23  n (c1 + (σ5.1 14 (Int32.toNatClampNeg r7))) (c2 + 1) σ5))))
def fx_X3_work (σ : gw_S)  : Option (Int32 × gw_S) := gw_let (gw_u σ 0 0 0) (fun σ1 => (if fx_X3_isCity σ1 = true then gw_b1 (fx_X3_laysNow σ1) (fun σ3 => fx_X3_work_L23  1000 (0 : Int32) (0 : Int32) σ3) else some ((-2), σ1)))
set_option maxHeartbeats 4000000 in
theorem wk_X3_work_L23 {E : gw_E} {l : Launch} {D : gw_D} {a : Nat → Nat} {Wr : va_W → Prop} {res : Int32 × gw_S} (X : gw_X E cX3_work 3 RX3 (some .int) l D rm_X3_work (some (gw_pI res.1 (gw_st (wM D a res.2) Wr))))  : ∀ {n : Nat} {c1 : Int32} {c2 : Int32} {σ : gw_S}, fx_X3_work_L23  n c1 c2 σ = some res → gw_W E 23 [(0, .ref (a 0)), (1, .int c1), (2, .int c2)] [] (gw_st (wM D a σ) Wr) 0 0 := by
  intro n
  induction n with
  | zero =>
    intro c1 c2 σ hp
    cases (show none = some res from hp)
  | succ n ih =>
    intro c1 c2 σ hp
    rw [fx_X3_work_L23] at hp
    refine gw_iload_n X 24 2 dX3_work_23 rfl rfl rfl ?_
    refine gw_aload_n X 25 0 dX3_work_24 rfl rfl rfl ?_
    refine gM_g0_17 X 28 q1411 dX3_work_25 rfl ?_
    refine gw_iconst X 29 dX3_work_28 rfl gw_ci_1 ?_
    refine gM_l7 X 30 1 (gw_in rfl) rfl dX3_work_29 rfl ?_
    refine gw_icmp_ge X 58 33 dX3_work_30 rfl rfl (fun z => ?_) (fun z => ?_)
    · replace hp := gw_t z hp
      refine gw_iload_n X 59 1 dX3_work_58 rfl rfl rfl ?_
      cases hp
      exact gw_iret X dX3_work_59 (fun _ h => ⟨rfl, h⟩) (Nat.le_of_ble_eq_true rfl) (Nat.le_of_ble_eq_true rfl)
    · replace hp := gw_f z hp
      refine gw_aload_n X 34 0 dX3_work_33 rfl rfl rfl ?_
      refine gw_iload_n X 35 2 dX3_work_34 rfl rfl rfl ?_
      obtain ⟨σ5, h6, hp⟩ := gw_b1_some hp
      refine gw_callVv X 38 [.int c2] (mt_X3_laysWork h6) lk_X3_306 ydv_X3_laysWork gM_cl0 gM_at0 rfl rfl rfl dX3_work_35 rfl rfl rfl ?_
      refine gw_iload_n X 39 1 dX3_work_38 rfl rfl rfl ?_
      refine gw_aload_n X 40 0 dX3_work_39 rfl rfl rfl ?_
      refine gM_g0_28 X 43 q1422 dX3_work_40 rfl ?_
      refine gw_aload_n X 44 0 dX3_work_43 rfl rfl rfl ?_
      refine gw_iload_n X 45 2 dX3_work_44 rfl rfl rfl ?_
      refine gw_iconst X 46 dX3_work_45 rfl gw_ci_2 ?_
      obtain ⟨r7, h8, hp⟩ := gw_b1_some hp
      refine gw_callVi X 49 [.int c2, .int 2] (mt_X3_of h8) lk_X3_214 ydv_X3_of gM_cl0 gM_at0 rfl rfl rfl dX3_work_46 rfl rfl rfl ?_
      obtain ⟨hc, hp⟩ := gw_ck_some hp
      refine gM_l14 X 50 (Int32.toNatClampNeg r7) hc rfl dX3_work_49 rfl ?_
      refine gw_iadd X 51 dX3_work_50 rfl ?_
      refine gw_istore_n X 52 [(1, .int (c1 + (σ5.1 14 (Int32.toNatClampNeg r7)))), (0, .ref (a 0)), (2, .int c2)] dX3_work_51 rfl rfl (by decide) rfl ?_
      refine gw_iinc X 55 2 [(2, .int (c2 + 1)), (1, .int (c1 + (σ5.1 14 (Int32.toNatClampNeg r7)))), (0, .ref (a 0))] dX3_work_52 rfl rfl gw_ci_1 (by decide) rfl ?_
      refine gw_goto X 23 dX3_work_55 rfl ?_
      refine gw_lv [2, 1, 0] rfl ?_
      exact ih hp
set_option maxHeartbeats 4000000 in
theorem mt_X3_work {l : Launch} {D : gw_D} {a : Nat → Nat} {Wr : va_W → Prop} {σ : gw_S}  {res : Int32 × gw_S} (hp : fx_X3_work σ  = some res) : gw_Ct D l yX3_work cX3_work 3 (some .int) rm_X3_work [.ref (a 0)] (gw_st (wM D a σ) Wr) (gw_pI res.1 (gw_st (wM D a res.2) Wr)) := by
  refine gw_ct (own := RX3) [(0, .ref (a 0))] (by decide) rfl (Nat.le_of_ble_eq_true rfl) rfl ?_
  intro E X
  unfold fx_X3_work at hp
  refine gw_aload_n X 1 0 dX3_work_0 rfl rfl rfl ?_
  refine gw_iconst X 2 dX3_work_1 rfl gw_ci_0 ?_
  refine gM_p0_0 X 5 q1394 dX3_work_2 rfl ?_
  refine gw_aload_n X 6 0 dX3_work_5 rfl rfl rfl ?_
  obtain ⟨σ1, h2, hp⟩ := gw_let_some hp
  rw [← h2]
  clear h2
  refine gw_callVi X 9 [] (mt_X3_isCity rfl) lk_X3_209 ydv_X3_isCity gM_cl0 gM_at0 rfl rfl rfl dX3_work_6 rfl rfl rfl ?_
  refine gw_if_neB X 15 12 dX3_work_9 rfl rfl (fun z => ?_) (fun z => ?_)
  · replace hp := gw_t z hp
    refine gw_aload_n X 16 0 dX3_work_15 rfl rfl rfl ?_
    obtain ⟨σ3, h4, hp⟩ := gw_b1_some hp
    refine gw_callVv X 19 [] (mt_X3_laysNow h4) lk_X3_251 ydv_X3_laysNow gM_cl0 gM_at0 rfl rfl rfl dX3_work_16 rfl rfl rfl ?_
    refine gw_iconst X 20 dX3_work_19 rfl gw_ci_0 ?_
    refine gw_istore_n X 21 [(1, .int 0), (0, .ref (a 0))] dX3_work_20 rfl rfl (by decide) rfl ?_
    refine gw_iconst X 22 dX3_work_21 rfl gw_ci_0 ?_
    refine gw_istore_n X 23 [(2, .int 0), (1, .int 0), (0, .ref (a 0))] dX3_work_22 rfl rfl (by decide) rfl ?_
    refine gw_lv [2, 1, 0] rfl ?_
    exact wk_X3_work_L23 X hp
  · replace hp := gw_f z hp
    refine gw_bipush X 14 dX3_work_12 rfl gw_cb_m2 ?_
    cases hp
    exact gw_iret X dX3_work_14 (fun _ h => ⟨rfl, h⟩) (Nat.le_of_ble_eq_true rfl) (Nat.le_of_ble_eq_true rfl)
abbrev rm_X3_works : Room := { frames := 5, cells := 0, slots := 0, locals := 111 }
def fx_X3_works_L69 {τ : Type} (k : Int32 → Option (τ)) (σ : gw_S) (v1 : Int32) (v2 : Int32) (v3 : Int32) (v4 : Int32) (v5 : Int32) : Nat → Int32 → Option (τ)
  | 0, _ => none
  | n + 1, c6 => (if (6 : Int32) ≤ c6 then k c6 else (if fx_X3_isBit v5 c6 = true then gw_ck (((64 : Int32) * (v4 + (1 : Int32))) + (v3 &&& (((1 : Int32) <<< (c6 &&& 31)) ^^^ (-1 : Int32)))) 576 (gw_ck (((64 : Int32) * v4) + v3) 576 ((if ((1 : Int32) + (σ.1 14 (Int32.toNatClampNeg (((64 : Int32) * (v4 + (1 : Int32))) + (v3 &&& (((1 : Int32) <<< (c6 &&& 31)) ^^^ (-1 : Int32))))))) = (σ.1 14 (Int32.toNatClampNeg (((64 : Int32) * v4) + v3))) then k c6 else fx_X3_works_L69 k σ v1 v2 v3 v4 v5 n (c6 + 1)))) else fx_X3_works_L69 k σ v1 v2 v3 v4 v5 n (c6 + 1)))
def fx_X3_works_L50 (σ : gw_S) (v1 : Int32) (v2 : Int32) : Nat → Int32 → Int32 → Option (Int32 × gw_S)
  | 0, _, _ => none
  | n + 1, c3, c4 => (if v1 < c4 then some ((-1), σ) else gw_b1 (fx_X3_mayDo σ c4 v2 c3) (fun r9 => fx_X3_works_L69 (fun (e11 : Int32) => (if c4 = v1 then (if e11 = (6 : Int32) then some ((-1), σ) else some (e11, σ)) else (if (6 : Int32) ≤ e11 then fx_X3_works_L50 σ v1 v2 n c3 (c4 + 1) else fx_X3_works_L50 σ v1 v2 n (c3 &&& (((1 : Int32) <<< (e11 &&& 31)) ^^^ (-1 : Int32))) (c4 + 1)))) σ v1 v2 c3 c4 r9 1000 (0 : Int32)))
def fx_X3_works (σ : gw_S) (x1 : Int32) : Option (Int32 × gw_S) := gw_let (gw_u σ 0 0 0) (fun σ1 => (if fx_X3_isPerson σ1 (Int32.toInt64 x1) = true then gw_b1 (fx_X3_laysNow σ1) (fun σ3 => gw_ck x1 8 ((if (σ3.1 11 (Int32.toNatClampNeg x1)) = (-1 : Int32) then some ((-1), σ3) else gw_b1 (fx_X3_laysWork σ3 (σ3.1 11 (Int32.toNatClampNeg x1))) (fun σ5 => gw_b1 (fx_X3_of σ5 (σ3.1 11 (Int32.toNatClampNeg x1)) (2 : Int32)) (fun r7 => fx_X3_works_L50 σ5 x1 (σ3.1 11 (Int32.toNatClampNeg x1)) 1000 r7 (0 : Int32)))))) else some ((-2), σ1)))
set_option maxHeartbeats 4000000 in
theorem wk_X3_works_L69 {E : gw_E} {l : Launch} {D : gw_D} {a : Nat → Nat} {Wr : va_W → Prop} {σ : gw_S} {τ : Type} {res : τ} {post : Option (Option Value → va_W → Prop)} (X : gw_X E cX3_works 7 RX3 (some .int) l D rm_X3_works post) {k : Int32 → Option (τ)} {v1 : Int32} {v2 : Int32} {v3 : Int32} {v4 : Int32} {v5 : Int32} : ∀ {n : Nat} {c6 : Int32}, fx_X3_works_L69 k σ v1 v2 v3 v4 v5 n c6 = some res → (∀ (c6 : Int32), k c6 = some res → gw_W E 130 [(0, .ref (a 0)), (1, .int v1), (2, .int v2), (3, .int v3), (4, .int v4), (6, .int c6)] [] (gw_st (wM D a σ) Wr) 0 0) → gw_W E 69 [(0, .ref (a 0)), (1, .int v1), (2, .int v2), (3, .int v3), (4, .int v4), (5, .int v5), (6, .int c6)] [] (gw_st (wM D a σ) Wr) 0 0 := by
  intro n
  induction n with
  | zero =>
    intro c6 hp hk
    cases (show none = some res from hp)
  | succ n ih =>
    intro c6 hp hk
    rw [fx_X3_works_L69] at hp
    refine gw_iload X 71 6 dX3_works_69 rfl rfl ?_
    refine gw_bipush X 73 dX3_works_71 rfl gw_cb_6 ?_
    refine gw_icmp_ge X 130 76 dX3_works_73 rfl rfl (fun z => ?_) (fun z => ?_)
    · replace hp := gw_t z hp
      refine gw_lv [0, 1, 2, 3, 4, 6] rfl ?_
      exact hk _ hp
    · replace hp := gw_f z hp
      refine gw_iload X 78 5 dX3_works_76 rfl rfl ?_
      refine gw_iload X 80 6 dX3_works_78 rfl rfl ?_
      refine gw_callSi X 83 [.int v5, .int c6] (mt_X3_isBit rfl) lk_X3_239 yd_X3_isBit rfl rfl rfl dX3_works_80 rfl rfl rfl ?_
      refine gw_if_eqB X 124 86 dX3_works_83 rfl rfl (fun z => ?_) (fun z => ?_)
      · replace hp := gw_f z hp
        refine gw_iinc X 127 6 [(6, .int (c6 + 1)), (0, .ref (a 0)), (1, .int v1), (2, .int v2), (3, .int v3), (4, .int v4), (5, .int v5)] dX3_works_124 rfl rfl gw_ci_1 (by decide) rfl ?_
        refine gw_goto X 69 dX3_works_127 rfl ?_
        refine gw_lv [1, 2, 3, 4, 5, 6, 0] rfl ?_
        exact ih hp hk
      · replace hp := gw_t z hp
        refine gw_iconst X 87 dX3_works_86 rfl gw_ci_1 ?_
        refine gw_aload_n X 88 0 dX3_works_87 rfl rfl rfl ?_
        refine gM_g0_28 X 91 q1422 dX3_works_88 rfl ?_
        refine gw_bipush X 93 dX3_works_91 rfl gw_cb_64 ?_
        refine gw_iload X 95 4 dX3_works_93 rfl rfl ?_
        refine gw_iconst X 96 dX3_works_95 rfl gw_ci_1 ?_
        refine gw_iadd X 97 dX3_works_96 rfl ?_
        refine gw_imul X 98 dX3_works_97 rfl ?_
        refine gw_iload_n X 99 3 dX3_works_98 rfl rfl rfl ?_
        refine gw_iconst X 100 dX3_works_99 rfl gw_ci_1 ?_
        refine gw_iload X 102 6 dX3_works_100 rfl rfl ?_
        refine gw_ishl X 103 dX3_works_102 rfl ?_
        refine gw_iconst X 104 dX3_works_103 rfl gw_ci_m1 ?_
        refine gw_ixor X 105 dX3_works_104 rfl ?_
        refine gw_iand X 106 dX3_works_105 rfl ?_
        refine gw_iadd X 107 dX3_works_106 rfl ?_
        obtain ⟨hc, hp⟩ := gw_ck_some hp
        refine gM_l14 X 108 (Int32.toNatClampNeg (((64 : Int32) * (v4 + (1 : Int32))) + (v3 &&& (((1 : Int32) <<< (c6 &&& 31)) ^^^ (-1 : Int32))))) hc rfl dX3_works_107 rfl ?_
        refine gw_iadd X 109 dX3_works_108 rfl ?_
        refine gw_aload_n X 110 0 dX3_works_109 rfl rfl rfl ?_
        refine gM_g0_28 X 113 q1422 dX3_works_110 rfl ?_
        refine gw_bipush X 115 dX3_works_113 rfl gw_cb_64 ?_
        refine gw_iload X 117 4 dX3_works_115 rfl rfl ?_
        refine gw_imul X 118 dX3_works_117 rfl ?_
        refine gw_iload_n X 119 3 dX3_works_118 rfl rfl rfl ?_
        refine gw_iadd X 120 dX3_works_119 rfl ?_
        obtain ⟨hc, hp⟩ := gw_ck_some hp
        refine gM_l14 X 121 (Int32.toNatClampNeg (((64 : Int32) * v4) + v3)) hc rfl dX3_works_120 rfl ?_
        refine gw_icmp_eq X 130 124 dX3_works_121 rfl rfl (fun z => ?_) (fun z => ?_)
        · replace hp := gw_t z hp
          refine gw_lv [0, 1, 2, 3, 4, 6] rfl ?_
          exact hk _ hp
        · replace hp := gw_f z hp
          refine gw_iinc X 127 6 [(6, .int (c6 + 1)), (0, .ref (a 0)), (1, .int v1), (2, .int v2), (3, .int v3), (4, .int v4), (5, .int v5)] dX3_works_124 rfl rfl gw_ci_1 (by decide) rfl ?_
          refine gw_goto X 69 dX3_works_127 rfl ?_
          refine gw_lv [1, 2, 3, 4, 5, 6, 0] rfl ?_
          exact ih hp hk
set_option maxHeartbeats 4000000 in
theorem wk_X3_works_L50 {E : gw_E} {l : Launch} {D : gw_D} {a : Nat → Nat} {Wr : va_W → Prop} {σ : gw_S} {res : Int32 × gw_S} (X : gw_X E cX3_works 7 RX3 (some .int) l D rm_X3_works (some (gw_pI res.1 (gw_st (wM D a res.2) Wr)))) {v1 : Int32} {v2 : Int32} : ∀ {n : Nat} {c3 : Int32} {c4 : Int32}, fx_X3_works_L50 σ v1 v2 n c3 c4 = some res → gw_W E 50 [(0, .ref (a 0)), (1, .int v1), (2, .int v2), (3, .int c3), (4, .int c4)] [] (gw_st (wM D a σ) Wr) 0 0 := by
  intro n
  induction n with
  | zero =>
    intro c3 c4 hp
    cases (show none = some res from hp)
  | succ n ih =>
    intro c3 c4 hp
    rw [fx_X3_works_L50] at hp
    refine gw_iload X 52 4 dX3_works_50 rfl rfl ?_
    refine gw_iload_n X 53 1 dX3_works_52 rfl rfl rfl ?_
    refine gw_icmp_gt X 172 56 dX3_works_53 rfl rfl (fun z => ?_) (fun z => ?_)
    · replace hp := gw_t z hp
      refine gw_iconst X 173 dX3_works_172 rfl gw_ci_m1 ?_
      cases hp
      exact gw_iret X dX3_works_173 (fun _ h => ⟨rfl, h⟩) (Nat.le_of_ble_eq_true rfl) (Nat.le_of_ble_eq_true rfl)
    · replace hp := gw_f z hp
      refine gw_aload_n X 57 0 dX3_works_56 rfl rfl rfl ?_
      refine gw_iload X 59 4 dX3_works_57 rfl rfl ?_
      refine gw_iload_n X 60 2 dX3_works_59 rfl rfl rfl ?_
      refine gw_iload_n X 61 3 dX3_works_60 rfl rfl rfl ?_
      obtain ⟨r9, h10, hp⟩ := gw_b1_some hp
      refine gw_callVi X 64 [.int c4, .int v2, .int c3] (mt_X3_mayDo h10) lk_X3_303 ydv_X3_mayDo gM_cl0 gM_at0 rfl rfl rfl dX3_works_61 rfl rfl rfl ?_
      refine gw_istore X 66 [(5, .int r9), (0, .ref (a 0)), (1, .int v1), (2, .int v2), (3, .int c3), (4, .int c4)] dX3_works_64 rfl (by decide) rfl ?_
      refine gw_iconst X 67 dX3_works_66 rfl gw_ci_0 ?_
      refine gw_istore X 69 [(6, .int 0), (5, .int r9), (0, .ref (a 0)), (1, .int v1), (2, .int v2), (3, .int c3), (4, .int c4)] dX3_works_67 rfl (by decide) rfl ?_
      refine gw_lv [2, 3, 4, 5, 6, 1, 0] rfl ?_
      refine wk_X3_works_L69 X hp ?_
      clear hp
      intro e11 hp
      refine gw_iload X 132 4 dX3_works_130 rfl rfl ?_
      refine gw_iload_n X 133 1 dX3_works_132 rfl rfl rfl ?_
      refine gw_icmp_ne X 150 136 dX3_works_133 rfl rfl (fun z => ?_) (fun z => ?_)
      · replace hp := gw_f z hp
        refine gw_iload X 152 5 dX3_works_150 rfl rfl ?_
        refine gw_bipush X 154 dX3_works_152 rfl gw_cb_6 ?_
        refine gw_icmp_ge X 166 157 dX3_works_154 rfl rfl (fun z => ?_) (fun z => ?_)
        · replace hp := gw_t z hp
          refine gw_iinc X 169 4 [(4, .int (c4 + 1)), (0, .ref (a 0)), (1, .int v1), (2, .int v2), (3, .int c3), (6, .int e11)] dX3_works_166 rfl rfl gw_ci_1 (by decide) rfl ?_
          refine gw_goto X 50 dX3_works_169 rfl ?_
          refine gw_lv [1, 2, 3, 4, 0] rfl ?_
          exact ih hp
        · replace hp := gw_f z hp
          refine gw_iload_n X 158 3 dX3_works_157 rfl rfl rfl ?_
          refine gw_iconst X 159 dX3_works_158 rfl gw_ci_1 ?_
          refine gw_iload X 161 5 dX3_works_159 rfl rfl ?_
          refine gw_ishl X 162 dX3_works_161 rfl ?_
          refine gw_iconst X 163 dX3_works_162 rfl gw_ci_m1 ?_
          refine gw_ixor X 164 dX3_works_163 rfl ?_
          refine gw_iand X 165 dX3_works_164 rfl ?_
          refine gw_istore_n X 166 [(3, .int (c3 &&& (((1 : Int32) <<< (e11 &&& 31)) ^^^ (-1 : Int32)))), (0, .ref (a 0)), (1, .int v1), (2, .int v2), (4, .int c4), (6, .int e11)] dX3_works_165 rfl rfl (by decide) rfl ?_
          refine gw_iinc X 169 4 [(4, .int (c4 + 1)), (3, .int (c3 &&& (((1 : Int32) <<< (e11 &&& 31)) ^^^ (-1 : Int32)))), (0, .ref (a 0)), (1, .int v1), (2, .int v2), (6, .int e11)] dX3_works_166 rfl rfl gw_ci_1 (by decide) rfl ?_
          refine gw_goto X 50 dX3_works_169 rfl ?_
          refine gw_lv [2, 3, 4, 1, 0] rfl ?_
          exact ih hp
      · replace hp := gw_t z hp
        refine gw_iload X 138 5 dX3_works_136 rfl rfl ?_
        refine gw_bipush X 140 dX3_works_138 rfl gw_cb_6 ?_
        refine gw_icmp_ne X 147 143 dX3_works_140 rfl rfl (fun z => ?_) (fun z => ?_)
        · replace hp := gw_f z hp
          refine gw_iload X 149 5 dX3_works_147 rfl rfl ?_
          cases hp
          exact gw_iret X dX3_works_149 (fun _ h => ⟨rfl, h⟩) (Nat.le_of_ble_eq_true rfl) (Nat.le_of_ble_eq_true rfl)
        · replace hp := gw_t z hp
          refine gw_iconst X 144 dX3_works_143 rfl gw_ci_m1 ?_
          refine gw_goto X 149 dX3_works_144 rfl ?_
          cases hp
          exact gw_iret X dX3_works_149 (fun _ h => ⟨rfl, h⟩) (Nat.le_of_ble_eq_true rfl) (Nat.le_of_ble_eq_true rfl)
set_option maxHeartbeats 4000000 in
theorem mt_X3_works {l : Launch} {D : gw_D} {a : Nat → Nat} {Wr : va_W → Prop} {σ : gw_S} {x1 : Int32} {res : Int32 × gw_S} (hp : fx_X3_works σ x1 = some res) : gw_Ct D l yX3_works cX3_works 7 (some .int) rm_X3_works [.ref (a 0), .int x1] (gw_st (wM D a σ) Wr) (gw_pI res.1 (gw_st (wM D a res.2) Wr)) := by
  refine gw_ct (own := RX3) [(0, .ref (a 0)), (1, .int x1)] (by decide) rfl (Nat.le_of_ble_eq_true rfl) rfl ?_
  intro E X
  unfold fx_X3_works at hp
  refine gw_aload_n X 1 0 dX3_works_0 rfl rfl rfl ?_
  refine gw_iconst X 2 dX3_works_1 rfl gw_ci_0 ?_
  refine gM_p0_0 X 5 q1394 dX3_works_2 rfl ?_
  refine gw_aload_n X 6 0 dX3_works_5 rfl rfl rfl ?_
  refine gw_iload_n X 7 1 dX3_works_6 rfl rfl rfl ?_
  refine gw_i2l X 8 dX3_works_7 rfl ?_
  obtain ⟨σ1, h2, hp⟩ := gw_let_some hp
  rw [← h2]
  clear h2
  refine gw_callVi X 11 [.long (Int32.toInt64 x1)] (mt_X3_isPerson rfl) lk_X3_206 ydv_X3_isPerson gM_cl0 gM_at0 rfl rfl rfl dX3_works_8 rfl rfl rfl ?_
  refine gw_if_neB X 17 14 dX3_works_11 rfl rfl (fun z => ?_) (fun z => ?_)
  · replace hp := gw_t z hp
    refine gw_aload_n X 18 0 dX3_works_17 rfl rfl rfl ?_
    obtain ⟨σ3, h4, hp⟩ := gw_b1_some hp
    refine gw_callVv X 21 [] (mt_X3_laysNow h4) lk_X3_251 ydv_X3_laysNow gM_cl0 gM_at0 rfl rfl rfl dX3_works_18 rfl rfl rfl ?_
    refine gw_aload_n X 22 0 dX3_works_21 rfl rfl rfl ?_
    refine gM_g0_21 X 25 q1415 dX3_works_22 rfl ?_
    refine gw_iload_n X 26 1 dX3_works_25 rfl rfl rfl ?_
    obtain ⟨hc, hp⟩ := gw_ck_some hp
    refine gM_l11 X 27 (Int32.toNatClampNeg x1) hc rfl dX3_works_26 rfl ?_
    refine gw_istore_n X 28 [(2, .int (σ3.1 11 (Int32.toNatClampNeg x1))), (0, .ref (a 0)), (1, .int x1)] dX3_works_27 rfl rfl (by decide) rfl ?_
    refine gw_iload_n X 29 0 dX3_works_28 rfl rfl rfl ?_
    refine gw_iconst X 30 dX3_works_29 rfl gw_ci_m1 ?_
    refine gw_icmp_ne X 35 33 dX3_works_30 rfl rfl (fun z => ?_) (fun z => ?_)
    · replace hp := gw_f z hp
      refine gw_aload_n X 36 1 dX3_works_35 rfl rfl rfl ?_
      refine gw_iload_n X 37 0 dX3_works_36 rfl rfl rfl ?_
      obtain ⟨σ5, h6, hp⟩ := gw_b1_some hp
      refine gw_callVv X 40 [.int (σ3.1 11 (Int32.toNatClampNeg x1))] (mt_X3_laysWork h6) lk_X3_306 ydv_X3_laysWork gM_cl0 gM_at0 rfl rfl rfl dX3_works_37 rfl rfl rfl ?_
      refine gw_aload_n X 41 1 dX3_works_40 rfl rfl rfl ?_
      refine gw_iload_n X 42 0 dX3_works_41 rfl rfl rfl ?_
      refine gw_iconst X 43 dX3_works_42 rfl gw_ci_2 ?_
      obtain ⟨r7, h8, hp⟩ := gw_b1_some hp
      refine gw_callVi X 46 [.int (σ3.1 11 (Int32.toNatClampNeg x1)), .int 2] (mt_X3_of h8) lk_X3_214 ydv_X3_of gM_cl0 gM_at0 rfl rfl rfl dX3_works_43 rfl rfl rfl ?_
      refine gw_istore_n X 47 [(3, .int r7), (2, .int (σ3.1 11 (Int32.toNatClampNeg x1))), (0, .ref (a 0)), (1, .int x1)] dX3_works_46 rfl rfl (by decide) rfl ?_
      refine gw_iconst X 48 dX3_works_47 rfl gw_ci_0 ?_
      refine gw_istore X 50 [(4, .int 0), (3, .int r7), (2, .int (σ3.1 11 (Int32.toNatClampNeg x1))), (0, .ref (a 0)), (1, .int x1)] dX3_works_48 rfl (by decide) rfl ?_
      refine gw_lv [3, 4, 2, 1, 0] rfl ?_
      exact wk_X3_works_L50 X hp
    · replace hp := gw_t z hp
      refine gw_iconst X 34 dX3_works_33 rfl gw_ci_m1 ?_
      cases hp
      exact gw_iret X dX3_works_34 (fun _ h => ⟨rfl, h⟩) (Nat.le_of_ble_eq_true rfl) (Nat.le_of_ble_eq_true rfl)
  · replace hp := gw_f z hp
    refine gw_bipush X 16 dX3_works_14 rfl gw_cb_m2 ?_
    cases hp
    exact gw_iret X dX3_works_16 (fun _ h => ⟨rfl, h⟩) (Nat.le_of_ble_eq_true rfl) (Nat.le_of_ble_eq_true rfl)
abbrev rm_X3_areDeeds : Room := { frames := 1, cells := 0, slots := 0, locals := 25 }
def fx_X3_areDeeds (σ : gw_S) (x1 : Int32) : Bool := (if fx_X3_isCity σ = true then (if fx_X3_in (Int32.toInt64 x1) (0 : Int64) (63 : Int64) = true then true else false) else false)
set_option maxHeartbeats 4000000 in
theorem mt_X3_areDeeds {l : Launch} {D : gw_D} {a : Nat → Nat} {Wr : va_W → Prop} {σ : gw_S} {x1 : Int32} {res : Bool} (hp : fx_X3_areDeeds σ x1 = res) : gw_Ct D l yX3_areDeeds cX3_areDeeds 2 (some .boolean) rm_X3_areDeeds [.ref (a 0), .int x1] (gw_st (wM D a σ) Wr) (gw_pI (gw_b res) (gw_st (wM D a σ) Wr)) := by
  refine gw_ct (own := RX3) [(0, .ref (a 0)), (1, .int x1)] (by decide) rfl (Nat.le_of_ble_eq_true rfl) rfl ?_
  intro E X
  unfold fx_X3_areDeeds at hp
  refine gw_aload_n X 1 0 dX3_areDeeds_0 rfl rfl rfl ?_
  refine gw_callVi X 4 [] (mt_X3_isCity rfl) lk_X3_209 ydv_X3_isCity gM_cl0 gM_at0 rfl rfl rfl dX3_areDeeds_1 rfl rfl rfl ?_
  refine gw_if_eqB X 23 7 dX3_areDeeds_4 rfl rfl (fun z => ?_) (fun z => ?_)
  · replace hp := gw_f z hp
    refine gw_iconst X 24 dX3_areDeeds_23 rfl gw_ci_0 ?_
    cases hp
    exact gw_zret0 X dX3_areDeeds_24 (fun _ h => ⟨rfl, h⟩) (Nat.le_of_ble_eq_true rfl) (Nat.le_of_ble_eq_true rfl)
  · replace hp := gw_t z hp
    refine gw_iload_n X 8 1 dX3_areDeeds_7 rfl rfl rfl ?_
    refine gw_i2l X 9 dX3_areDeeds_8 rfl ?_
    refine gw_lconst X 10 dX3_areDeeds_9 rfl gw_cl_0 ?_
    refine gw_ldc2 X 13 dX3_areDeeds_10 rfl q1843 ?_
    refine gw_callSi X 16 [.long (Int32.toInt64 x1), .long 0, .long 63] (mt_X3_in rfl) lk_X3_64 yd_X3_in rfl rfl rfl dX3_areDeeds_13 rfl rfl rfl ?_
    refine gw_if_eqB X 23 19 dX3_areDeeds_16 rfl rfl (fun z => ?_) (fun z => ?_)
    · replace hp := gw_f z hp
      refine gw_iconst X 24 dX3_areDeeds_23 rfl gw_ci_0 ?_
      cases hp
      exact gw_zret0 X dX3_areDeeds_24 (fun _ h => ⟨rfl, h⟩) (Nat.le_of_ble_eq_true rfl) (Nat.le_of_ble_eq_true rfl)
    · replace hp := gw_t z hp
      refine gw_iconst X 20 dX3_areDeeds_19 rfl gw_ci_1 ?_
      refine gw_goto X 24 dX3_areDeeds_20 rfl ?_
      cases hp
      exact gw_zret1 X dX3_areDeeds_24 (fun _ h => ⟨rfl, h⟩) (Nat.le_of_ble_eq_true rfl) (Nat.le_of_ble_eq_true rfl)
abbrev rm_X3_handsOf : Room := { frames := 1, cells := 0, slots := 0, locals := 23 }
def fx_X3_handsOf_L4 (σ : gw_S) (v1 : Int32) : Nat → Int32 → Int32 → Option (Int32)
  | 0, _, _ => none
  | n + 1, c2, c3 => (if (σ.1 7 1) ≤ c3 then some c2 else (if fx_X3_isBit v1 c3 = true then gw_b1 (fx_X3_handOf σ c3) (fun r1 => fx_X3_handsOf_L4 σ v1 n (c2 ||| r1) (c3 + 1)) else fx_X3_handsOf_L4 σ v1 n (c2 ||| (0 : Int32)) (c3 + 1)))
def fx_X3_handsOf (σ : gw_S) (x1 : Int32) : Option (Int32) := fx_X3_handsOf_L4 σ x1 1000 (0 : Int32) (0 : Int32)
set_option maxHeartbeats 4000000 in
theorem wk_X3_handsOf_L4 {E : gw_E} {l : Launch} {D : gw_D} {a : Nat → Nat} {Wr : va_W → Prop} {σ : gw_S} {res : Int32} (X : gw_X E cX3_handsOf 4 RX3 (some .int) l D rm_X3_handsOf (some (gw_pI res (gw_st (wM D a σ) Wr)))) {v1 : Int32} : ∀ {n : Nat} {c2 : Int32} {c3 : Int32}, fx_X3_handsOf_L4 σ v1 n c2 c3 = some res → gw_W E 4 [(0, .ref (a 0)), (1, .int v1), (2, .int c2), (3, .int c3)] [] (gw_st (wM D a σ) Wr) 0 0 := by
  intro n
  induction n with
  | zero =>
    intro c2 c3 hp
    cases (show none = some res from hp)
  | succ n ih =>
    intro c2 c3 hp
    rw [fx_X3_handsOf_L4] at hp
    refine gw_iload_n X 5 3 dX3_handsOf_4 rfl rfl rfl ?_
    refine gw_aload_n X 6 0 dX3_handsOf_5 rfl rfl rfl ?_
    refine gM_g0_17 X 9 q1411 dX3_handsOf_6 rfl ?_
    refine gw_iconst X 10 dX3_handsOf_9 rfl gw_ci_1 ?_
    refine gM_l7 X 11 1 (gw_in rfl) rfl dX3_handsOf_10 rfl ?_
    refine gw_icmp_ge X 40 14 dX3_handsOf_11 rfl rfl (fun z => ?_) (fun z => ?_)
    · replace hp := gw_t z hp
      refine gw_iload_n X 41 2 dX3_handsOf_40 rfl rfl rfl ?_
      cases hp
      exact gw_iret X dX3_handsOf_41 (fun _ h => ⟨rfl, h⟩) (Nat.le_of_ble_eq_true rfl) (Nat.le_of_ble_eq_true rfl)
    · replace hp := gw_f z hp
      refine gw_iload_n X 15 2 dX3_handsOf_14 rfl rfl rfl ?_
      refine gw_iload_n X 16 1 dX3_handsOf_15 rfl rfl rfl ?_
      refine gw_iload_n X 17 3 dX3_handsOf_16 rfl rfl rfl ?_
      refine gw_callSi X 20 [.int v1, .int c3] (mt_X3_isBit rfl) lk_X3_239 yd_X3_isBit rfl rfl rfl dX3_handsOf_17 rfl rfl rfl ?_
      refine gw_if_eqB X 31 23 dX3_handsOf_20 rfl rfl (fun z => ?_) (fun z => ?_)
      · replace hp := gw_f z hp
        refine gw_iconst X 32 dX3_handsOf_31 rfl gw_ci_0 ?_
        refine gw_ior X 33 dX3_handsOf_32 rfl ?_
        refine gw_istore_n X 34 [(2, .int (c2 ||| (0 : Int32))), (0, .ref (a 0)), (1, .int v1), (3, .int c3)] dX3_handsOf_33 rfl rfl (by decide) rfl ?_
        refine gw_iinc X 37 3 [(3, .int (c3 + 1)), (2, .int (c2 ||| (0 : Int32))), (0, .ref (a 0)), (1, .int v1)] dX3_handsOf_34 rfl rfl gw_ci_1 (by decide) rfl ?_
        refine gw_goto X 4 dX3_handsOf_37 rfl ?_
        refine gw_lv [2, 3, 1, 0] rfl ?_
        exact ih hp
      · replace hp := gw_t z hp
        refine gw_aload_n X 24 0 dX3_handsOf_23 rfl rfl rfl ?_
        refine gw_iload_n X 25 3 dX3_handsOf_24 rfl rfl rfl ?_
        obtain ⟨r1, h2, hp⟩ := gw_b1_some hp
        refine gw_callVi X 28 [.int c3] (mt_X3_handOf h2) lk_X3_254 ydv_X3_handOf gM_cl0 gM_at0 rfl rfl rfl dX3_handsOf_25 rfl rfl rfl ?_
        refine gw_goto X 32 dX3_handsOf_28 rfl ?_
        refine gw_ior X 33 dX3_handsOf_32 rfl ?_
        refine gw_istore_n X 34 [(2, .int (c2 ||| r1)), (0, .ref (a 0)), (1, .int v1), (3, .int c3)] dX3_handsOf_33 rfl rfl (by decide) rfl ?_
        refine gw_iinc X 37 3 [(3, .int (c3 + 1)), (2, .int (c2 ||| r1)), (0, .ref (a 0)), (1, .int v1)] dX3_handsOf_34 rfl rfl gw_ci_1 (by decide) rfl ?_
        refine gw_goto X 4 dX3_handsOf_37 rfl ?_
        refine gw_lv [2, 3, 1, 0] rfl ?_
        exact ih hp
set_option maxHeartbeats 4000000 in
theorem mt_X3_handsOf {l : Launch} {D : gw_D} {a : Nat → Nat} {Wr : va_W → Prop} {σ : gw_S} {x1 : Int32} {res : Int32} (hp : fx_X3_handsOf σ x1 = some res) : gw_Ct D l yX3_handsOf cX3_handsOf 4 (some .int) rm_X3_handsOf [.ref (a 0), .int x1] (gw_st (wM D a σ) Wr) (gw_pI res (gw_st (wM D a σ) Wr)) := by
  refine gw_ct (own := RX3) [(0, .ref (a 0)), (1, .int x1)] (by decide) rfl (Nat.le_of_ble_eq_true rfl) rfl ?_
  intro E X
  unfold fx_X3_handsOf at hp
  refine gw_iconst X 1 dX3_handsOf_0 rfl gw_ci_0 ?_
  refine gw_istore_n X 2 [(2, .int 0), (0, .ref (a 0)), (1, .int x1)] dX3_handsOf_1 rfl rfl (by decide) rfl ?_
  refine gw_iconst X 3 dX3_handsOf_2 rfl gw_ci_0 ?_
  refine gw_istore_n X 4 [(3, .int 0), (2, .int 0), (0, .ref (a 0)), (1, .int x1)] dX3_handsOf_3 rfl rfl (by decide) rfl ?_
  refine gw_lv [2, 3, 1, 0] rfl ?_
  exact wk_X3_handsOf_L4 X hp
abbrev rm_X3_doneBy : Room := { frames := 1, cells := 0, slots := 0, locals := 22 }
def fx_X3_doneBy_L4 (σ : gw_S) (v1 : Int32) : Nat → Int32 → Int32 → Option (Int32)
  | 0, _, _ => none
  | n + 1, c2, c3 => (if (σ.1 7 1) ≤ c3 then some c2 else (if fx_X3_isBit v1 c3 = true then gw_b1 (fx_X3_of σ c3 (1 : Int32)) (fun r1 => fx_X3_doneBy_L4 σ v1 n (c2 ||| r1) (c3 + 1)) else fx_X3_doneBy_L4 σ v1 n (c2 ||| (0 : Int32)) (c3 + 1)))
def fx_X3_doneBy (σ : gw_S) (x1 : Int32) : Option (Int32) := fx_X3_doneBy_L4 σ x1 1000 (0 : Int32) (0 : Int32)
set_option maxHeartbeats 4000000 in
theorem wk_X3_doneBy_L4 {E : gw_E} {l : Launch} {D : gw_D} {a : Nat → Nat} {Wr : va_W → Prop} {σ : gw_S} {res : Int32} (X : gw_X E cX3_doneBy 4 RX3 (some .int) l D rm_X3_doneBy (some (gw_pI res (gw_st (wM D a σ) Wr)))) {v1 : Int32} : ∀ {n : Nat} {c2 : Int32} {c3 : Int32}, fx_X3_doneBy_L4 σ v1 n c2 c3 = some res → gw_W E 4 [(0, .ref (a 0)), (1, .int v1), (2, .int c2), (3, .int c3)] [] (gw_st (wM D a σ) Wr) 0 0 := by
  intro n
  induction n with
  | zero =>
    intro c2 c3 hp
    cases (show none = some res from hp)
  | succ n ih =>
    intro c2 c3 hp
    rw [fx_X3_doneBy_L4] at hp
    refine gw_iload_n X 5 3 dX3_doneBy_4 rfl rfl rfl ?_
    refine gw_aload_n X 6 0 dX3_doneBy_5 rfl rfl rfl ?_
    refine gM_g0_17 X 9 q1411 dX3_doneBy_6 rfl ?_
    refine gw_iconst X 10 dX3_doneBy_9 rfl gw_ci_1 ?_
    refine gM_l7 X 11 1 (gw_in rfl) rfl dX3_doneBy_10 rfl ?_
    refine gw_icmp_ge X 41 14 dX3_doneBy_11 rfl rfl (fun z => ?_) (fun z => ?_)
    · replace hp := gw_t z hp
      refine gw_iload_n X 42 2 dX3_doneBy_41 rfl rfl rfl ?_
      cases hp
      exact gw_iret X dX3_doneBy_42 (fun _ h => ⟨rfl, h⟩) (Nat.le_of_ble_eq_true rfl) (Nat.le_of_ble_eq_true rfl)
    · replace hp := gw_f z hp
      refine gw_iload_n X 15 2 dX3_doneBy_14 rfl rfl rfl ?_
      refine gw_iload_n X 16 1 dX3_doneBy_15 rfl rfl rfl ?_
      refine gw_iload_n X 17 3 dX3_doneBy_16 rfl rfl rfl ?_
      refine gw_callSi X 20 [.int v1, .int c3] (mt_X3_isBit rfl) lk_X3_239 yd_X3_isBit rfl rfl rfl dX3_doneBy_17 rfl rfl rfl ?_
      refine gw_if_eqB X 32 23 dX3_doneBy_20 rfl rfl (fun z => ?_) (fun z => ?_)
      · replace hp := gw_f z hp
        refine gw_iconst X 33 dX3_doneBy_32 rfl gw_ci_0 ?_
        refine gw_ior X 34 dX3_doneBy_33 rfl ?_
        refine gw_istore_n X 35 [(2, .int (c2 ||| (0 : Int32))), (0, .ref (a 0)), (1, .int v1), (3, .int c3)] dX3_doneBy_34 rfl rfl (by decide) rfl ?_
        refine gw_iinc X 38 3 [(3, .int (c3 + 1)), (2, .int (c2 ||| (0 : Int32))), (0, .ref (a 0)), (1, .int v1)] dX3_doneBy_35 rfl rfl gw_ci_1 (by decide) rfl ?_
        refine gw_goto X 4 dX3_doneBy_38 rfl ?_
        refine gw_lv [2, 3, 1, 0] rfl ?_
        exact ih hp
      · replace hp := gw_t z hp
        refine gw_aload_n X 24 0 dX3_doneBy_23 rfl rfl rfl ?_
        refine gw_iload_n X 25 3 dX3_doneBy_24 rfl rfl rfl ?_
        refine gw_iconst X 26 dX3_doneBy_25 rfl gw_ci_1 ?_
        obtain ⟨r1, h2, hp⟩ := gw_b1_some hp
        refine gw_callVi X 29 [.int c3, .int 1] (mt_X3_of h2) lk_X3_214 ydv_X3_of gM_cl0 gM_at0 rfl rfl rfl dX3_doneBy_26 rfl rfl rfl ?_
        refine gw_goto X 33 dX3_doneBy_29 rfl ?_
        refine gw_ior X 34 dX3_doneBy_33 rfl ?_
        refine gw_istore_n X 35 [(2, .int (c2 ||| r1)), (0, .ref (a 0)), (1, .int v1), (3, .int c3)] dX3_doneBy_34 rfl rfl (by decide) rfl ?_
        refine gw_iinc X 38 3 [(3, .int (c3 + 1)), (2, .int (c2 ||| r1)), (0, .ref (a 0)), (1, .int v1)] dX3_doneBy_35 rfl rfl gw_ci_1 (by decide) rfl ?_
        refine gw_goto X 4 dX3_doneBy_38 rfl ?_
        refine gw_lv [2, 3, 1, 0] rfl ?_
        exact ih hp
set_option maxHeartbeats 4000000 in
theorem mt_X3_doneBy {l : Launch} {D : gw_D} {a : Nat → Nat} {Wr : va_W → Prop} {σ : gw_S} {x1 : Int32} {res : Int32} (hp : fx_X3_doneBy σ x1 = some res) : gw_Ct D l yX3_doneBy cX3_doneBy 4 (some .int) rm_X3_doneBy [.ref (a 0), .int x1] (gw_st (wM D a σ) Wr) (gw_pI res (gw_st (wM D a σ) Wr)) := by
  refine gw_ct (own := RX3) [(0, .ref (a 0)), (1, .int x1)] (by decide) rfl (Nat.le_of_ble_eq_true rfl) rfl ?_
  intro E X
  unfold fx_X3_doneBy at hp
  refine gw_iconst X 1 dX3_doneBy_0 rfl gw_ci_0 ?_
  refine gw_istore_n X 2 [(2, .int 0), (0, .ref (a 0)), (1, .int x1)] dX3_doneBy_1 rfl rfl (by decide) rfl ?_
  refine gw_iconst X 3 dX3_doneBy_2 rfl gw_ci_0 ?_
  refine gw_istore_n X 4 [(3, .int 0), (2, .int 0), (0, .ref (a 0)), (1, .int x1)] dX3_doneBy_3 rfl rfl (by decide) rfl ?_
  refine gw_lv [2, 3, 1, 0] rfl ?_
  exact wk_X3_doneBy_L4 X hp
abbrev rm_X3_coversOf : Room := { frames := 5, cells := 0, slots := 0, locals := 111 }
def fx_X3_coversOf_L8 (σ : gw_S) (v1 : Int32) : Nat → Int32 → Int32 → Option (Int32 × gw_S)
  | 0, _, _ => none
  | n + 1, c2, c3 => (if ((1 : Int32) <<< ((σ.1 7 1) &&& 31)) ≤ c3 then some (c2, σ) else (if c2 = (-1 : Int32) then gw_b1 (fx_X3_handsOf σ c3) (fun r3 => gw_b1 (fx_X3_doneBy σ r3) (fun r5 => (if (v1 &&& (r5 ^^^ (-1 : Int32))) = 0 then fx_X3_coversOf_L8 σ v1 n c3 (c3 + 1) else fx_X3_coversOf_L8 σ v1 n c2 (c3 + 1)))) else gw_b1 (fx_X3_sizeOf c3) (fun r7 => gw_b1 (fx_X3_sizeOf c2) (fun r9 => (if r9 ≤ r7 then fx_X3_coversOf_L8 σ v1 n c2 (c3 + 1) else gw_b1 (fx_X3_handsOf σ c3) (fun r11 => gw_b1 (fx_X3_doneBy σ r11) (fun r13 => (if (v1 &&& (r13 ^^^ (-1 : Int32))) = 0 then fx_X3_coversOf_L8 σ v1 n c3 (c3 + 1) else fx_X3_coversOf_L8 σ v1 n c2 (c3 + 1)))))))))
def fx_X3_coversOf (σ : gw_S) (x1 : Int32) : Option (Int32 × gw_S) := gw_b1 (fx_X3_laysNow σ) (fun σ1 => fx_X3_coversOf_L8 σ1 x1 1000 (-1 : Int32) (0 : Int32))
set_option maxHeartbeats 4000000 in
theorem wk_X3_coversOf_L8 {E : gw_E} {l : Launch} {D : gw_D} {a : Nat → Nat} {Wr : va_W → Prop} {σ : gw_S} {res : Int32 × gw_S} (X : gw_X E cX3_coversOf 4 RX3 (some .int) l D rm_X3_coversOf (some (gw_pI res.1 (gw_st (wM D a res.2) Wr)))) {v1 : Int32} : ∀ {n : Nat} {c2 : Int32} {c3 : Int32}, fx_X3_coversOf_L8 σ v1 n c2 c3 = some res → gw_W E 8 [(0, .ref (a 0)), (1, .int v1), (2, .int c2), (3, .int c3)] [] (gw_st (wM D a σ) Wr) 0 0 := by
  intro n
  induction n with
  | zero =>
    intro c2 c3 hp
    cases (show none = some res from hp)
  | succ n ih =>
    intro c2 c3 hp
    rw [fx_X3_coversOf_L8] at hp
    refine gw_iload_n X 9 3 dX3_coversOf_8 rfl rfl rfl ?_
    refine gw_iconst X 10 dX3_coversOf_9 rfl gw_ci_1 ?_
    refine gw_aload_n X 11 0 dX3_coversOf_10 rfl rfl rfl ?_
    refine gM_g0_17 X 14 q1411 dX3_coversOf_11 rfl ?_
    refine gw_iconst X 15 dX3_coversOf_14 rfl gw_ci_1 ?_
    refine gM_l7 X 16 1 (gw_in rfl) rfl dX3_coversOf_15 rfl ?_
    refine gw_ishl X 17 dX3_coversOf_16 rfl ?_
    refine gw_icmp_ge X 60 20 dX3_coversOf_17 rfl rfl (fun z => ?_) (fun z => ?_)
    · replace hp := gw_t z hp
      refine gw_iload_n X 61 2 dX3_coversOf_60 rfl rfl rfl ?_
      cases hp
      exact gw_iret X dX3_coversOf_61 (fun _ h => ⟨rfl, h⟩) (Nat.le_of_ble_eq_true rfl) (Nat.le_of_ble_eq_true rfl)
    · replace hp := gw_f z hp
      refine gw_iload_n X 21 2 dX3_coversOf_20 rfl rfl rfl ?_
      refine gw_iconst X 22 dX3_coversOf_21 rfl gw_ci_m1 ?_
      refine gw_icmp_eq X 36 25 dX3_coversOf_22 rfl rfl (fun z => ?_) (fun z => ?_)
      · replace hp := gw_t z hp
        refine gw_iload_n X 37 1 dX3_coversOf_36 rfl rfl rfl ?_
        refine gw_aload_n X 38 0 dX3_coversOf_37 rfl rfl rfl ?_
        refine gw_aload_n X 39 0 dX3_coversOf_38 rfl rfl rfl ?_
        refine gw_iload_n X 40 3 dX3_coversOf_39 rfl rfl rfl ?_
        obtain ⟨r3, h4, hp⟩ := gw_b1_some hp
        refine gw_callVi X 43 [.int c3] (mt_X3_handsOf h4) lk_X3_311 ydv_X3_handsOf gM_cl0 gM_at0 rfl rfl rfl dX3_coversOf_40 rfl rfl rfl ?_
        obtain ⟨r5, h6, hp⟩ := gw_b1_some hp
        refine gw_callVi X 46 [.int r3] (mt_X3_doneBy h6) lk_X3_314 ydv_X3_doneBy gM_cl0 gM_at0 rfl rfl rfl dX3_coversOf_43 rfl rfl rfl ?_
        refine gw_iconst X 47 dX3_coversOf_46 rfl gw_ci_m1 ?_
        refine gw_ixor X 48 dX3_coversOf_47 rfl ?_
        refine gw_iand X 49 dX3_coversOf_48 rfl ?_
        refine gw_if_ne X 54 52 dX3_coversOf_49 rfl rfl (fun z => ?_) (fun z => ?_)
        · replace hp := gw_f z hp
          refine gw_iinc X 57 3 [(3, .int (c3 + 1)), (0, .ref (a 0)), (1, .int v1), (2, .int c2)] dX3_coversOf_54 rfl rfl gw_ci_1 (by decide) rfl ?_
          refine gw_goto X 8 dX3_coversOf_57 rfl ?_
          refine gw_lv [1, 2, 3, 0] rfl ?_
          exact ih hp
        · replace hp := gw_t z hp
          refine gw_iload_n X 53 3 dX3_coversOf_52 rfl rfl rfl ?_
          refine gw_istore_n X 54 [(2, .int c3), (0, .ref (a 0)), (1, .int v1), (3, .int c3)] dX3_coversOf_53 rfl rfl (by decide) rfl ?_
          refine gw_iinc X 57 3 [(3, .int (c3 + 1)), (2, .int c3), (0, .ref (a 0)), (1, .int v1)] dX3_coversOf_54 rfl rfl gw_ci_1 (by decide) rfl ?_
          refine gw_goto X 8 dX3_coversOf_57 rfl ?_
          refine gw_lv [2, 3, 1, 0] rfl ?_
          exact ih hp
      · replace hp := gw_f z hp
        refine gw_iload_n X 26 3 dX3_coversOf_25 rfl rfl rfl ?_
        obtain ⟨r7, h8, hp⟩ := gw_b1_some hp
        refine gw_callSi X 29 [.int c3] (mt_X3_sizeOf h8) lk_X3_297 yd_X3_sizeOf rfl rfl rfl dX3_coversOf_26 rfl rfl rfl ?_
        refine gw_iload_n X 30 2 dX3_coversOf_29 rfl rfl rfl ?_
        obtain ⟨r9, h10, hp⟩ := gw_b1_some hp
        refine gw_callSi X 33 [.int c2] (mt_X3_sizeOf h10) lk_X3_297 yd_X3_sizeOf rfl rfl rfl dX3_coversOf_30 rfl rfl rfl ?_
        refine gw_icmp_ge X 54 36 dX3_coversOf_33 rfl rfl (fun z => ?_) (fun z => ?_)
        · replace hp := gw_t z hp
          refine gw_iinc X 57 3 [(3, .int (c3 + 1)), (0, .ref (a 0)), (1, .int v1), (2, .int c2)] dX3_coversOf_54 rfl rfl gw_ci_1 (by decide) rfl ?_
          refine gw_goto X 8 dX3_coversOf_57 rfl ?_
          refine gw_lv [1, 2, 3, 0] rfl ?_
          exact ih hp
        · replace hp := gw_f z hp
          refine gw_iload_n X 37 1 dX3_coversOf_36 rfl rfl rfl ?_
          refine gw_aload_n X 38 0 dX3_coversOf_37 rfl rfl rfl ?_
          refine gw_aload_n X 39 0 dX3_coversOf_38 rfl rfl rfl ?_
          refine gw_iload_n X 40 3 dX3_coversOf_39 rfl rfl rfl ?_
          obtain ⟨r11, h12, hp⟩ := gw_b1_some hp
          refine gw_callVi X 43 [.int c3] (mt_X3_handsOf h12) lk_X3_311 ydv_X3_handsOf gM_cl0 gM_at0 rfl rfl rfl dX3_coversOf_40 rfl rfl rfl ?_
          obtain ⟨r13, h14, hp⟩ := gw_b1_some hp
          refine gw_callVi X 46 [.int r11] (mt_X3_doneBy h14) lk_X3_314 ydv_X3_doneBy gM_cl0 gM_at0 rfl rfl rfl dX3_coversOf_43 rfl rfl rfl ?_
          refine gw_iconst X 47 dX3_coversOf_46 rfl gw_ci_m1 ?_
          refine gw_ixor X 48 dX3_coversOf_47 rfl ?_
          refine gw_iand X 49 dX3_coversOf_48 rfl ?_
          refine gw_if_ne X 54 52 dX3_coversOf_49 rfl rfl (fun z => ?_) (fun z => ?_)
          · replace hp := gw_f z hp
            refine gw_iinc X 57 3 [(3, .int (c3 + 1)), (0, .ref (a 0)), (1, .int v1), (2, .int c2)] dX3_coversOf_54 rfl rfl gw_ci_1 (by decide) rfl ?_
            refine gw_goto X 8 dX3_coversOf_57 rfl ?_
            refine gw_lv [1, 2, 3, 0] rfl ?_
            exact ih hp
          · replace hp := gw_t z hp
            refine gw_iload_n X 53 3 dX3_coversOf_52 rfl rfl rfl ?_
            refine gw_istore_n X 54 [(2, .int c3), (0, .ref (a 0)), (1, .int v1), (3, .int c3)] dX3_coversOf_53 rfl rfl (by decide) rfl ?_
            refine gw_iinc X 57 3 [(3, .int (c3 + 1)), (2, .int c3), (0, .ref (a 0)), (1, .int v1)] dX3_coversOf_54 rfl rfl gw_ci_1 (by decide) rfl ?_
            refine gw_goto X 8 dX3_coversOf_57 rfl ?_
            refine gw_lv [2, 3, 1, 0] rfl ?_
            exact ih hp
set_option maxHeartbeats 4000000 in
theorem mt_X3_coversOf {l : Launch} {D : gw_D} {a : Nat → Nat} {Wr : va_W → Prop} {σ : gw_S} {x1 : Int32} {res : Int32 × gw_S} (hp : fx_X3_coversOf σ x1 = some res) : gw_Ct D l yX3_coversOf cX3_coversOf 4 (some .int) rm_X3_coversOf [.ref (a 0), .int x1] (gw_st (wM D a σ) Wr) (gw_pI res.1 (gw_st (wM D a res.2) Wr)) := by
  refine gw_ct (own := RX3) [(0, .ref (a 0)), (1, .int x1)] (by decide) rfl (Nat.le_of_ble_eq_true rfl) rfl ?_
  intro E X
  unfold fx_X3_coversOf at hp
  refine gw_aload_n X 1 0 dX3_coversOf_0 rfl rfl rfl ?_
  obtain ⟨σ1, h2, hp⟩ := gw_b1_some hp
  refine gw_callVv X 4 [] (mt_X3_laysNow h2) lk_X3_251 ydv_X3_laysNow gM_cl0 gM_at0 rfl rfl rfl dX3_coversOf_1 rfl rfl rfl ?_
  refine gw_iconst X 5 dX3_coversOf_4 rfl gw_ci_m1 ?_
  refine gw_istore_n X 6 [(2, .int (-1)), (0, .ref (a 0)), (1, .int x1)] dX3_coversOf_5 rfl rfl (by decide) rfl ?_
  refine gw_iconst X 7 dX3_coversOf_6 rfl gw_ci_0 ?_
  refine gw_istore_n X 8 [(3, .int 0), (2, .int (-1)), (0, .ref (a 0)), (1, .int x1)] dX3_coversOf_7 rfl rfl (by decide) rfl ?_
  refine gw_lv [2, 3, 1, 0] rfl ?_
  exact wk_X3_coversOf_L8 X hp
abbrev rm_X3_cover : Room := { frames := 6, cells := 0, slots := 0, locals := 134 }
def fx_X3_cover (σ : gw_S) (x1 : Int32) : Option (Int32 × gw_S) := gw_let (gw_u σ 0 0 0) (fun σ1 => (if fx_X3_areDeeds σ1 x1 = true then gw_b2 (fx_X3_coversOf σ1 x1) (fun r3 σ4 => (if r3 = (-1 : Int32) then some ((-1), σ4) else gw_b1 (fx_X3_sizeOf r3) (fun r6 => some (r6, σ4)))) else some ((-2), σ1)))
set_option maxHeartbeats 4000000 in
theorem mt_X3_cover {l : Launch} {D : gw_D} {a : Nat → Nat} {Wr : va_W → Prop} {σ : gw_S} {x1 : Int32} {res : Int32 × gw_S} (hp : fx_X3_cover σ x1 = some res) : gw_Ct D l yX3_cover cX3_cover 3 (some .int) rm_X3_cover [.ref (a 0), .int x1] (gw_st (wM D a σ) Wr) (gw_pI res.1 (gw_st (wM D a res.2) Wr)) := by
  refine gw_ct (own := RX3) [(0, .ref (a 0)), (1, .int x1)] (by decide) rfl (Nat.le_of_ble_eq_true rfl) rfl ?_
  intro E X
  unfold fx_X3_cover at hp
  refine gw_aload_n X 1 0 dX3_cover_0 rfl rfl rfl ?_
  refine gw_iconst X 2 dX3_cover_1 rfl gw_ci_0 ?_
  refine gM_p0_0 X 5 q1394 dX3_cover_2 rfl ?_
  refine gw_aload_n X 6 0 dX3_cover_5 rfl rfl rfl ?_
  refine gw_iload_n X 7 1 dX3_cover_6 rfl rfl rfl ?_
  obtain ⟨σ1, h2, hp⟩ := gw_let_some hp
  rw [← h2]
  clear h2
  refine gw_callVi X 10 [.int x1] (mt_X3_areDeeds rfl) lk_X3_317 ydv_X3_areDeeds gM_cl0 gM_at0 rfl rfl rfl dX3_cover_7 rfl rfl rfl ?_
  refine gw_if_neB X 16 13 dX3_cover_10 rfl rfl (fun z => ?_) (fun z => ?_)
  · replace hp := gw_t z hp
    refine gw_aload_n X 17 0 dX3_cover_16 rfl rfl rfl ?_
    refine gw_iload_n X 18 1 dX3_cover_17 rfl rfl rfl ?_
    obtain ⟨r3, σ4, h5, hp⟩ := gw_b2_some hp
    refine gw_callVi X 21 [.int x1] (mt_X3_coversOf h5) lk_X3_320 ydv_X3_coversOf gM_cl0 gM_at0 rfl rfl rfl dX3_cover_18 rfl rfl rfl ?_
    refine gw_istore_n X 22 [(2, .int r3), (0, .ref (a 0)), (1, .int x1)] dX3_cover_21 rfl rfl (by decide) rfl ?_
    refine gw_iload_n X 23 0 dX3_cover_22 rfl rfl rfl ?_
    refine gw_iconst X 24 dX3_cover_23 rfl gw_ci_m1 ?_
    refine gw_icmp_ne X 31 27 dX3_cover_24 rfl rfl (fun z => ?_) (fun z => ?_)
    · replace hp := gw_f z hp
      refine gw_iload_n X 32 0 dX3_cover_31 rfl rfl rfl ?_
      obtain ⟨r6, h7, hp⟩ := gw_b1_some hp
      refine gw_callSi X 35 [.int r3] (mt_X3_sizeOf h7) lk_X3_297 yd_X3_sizeOf rfl rfl rfl dX3_cover_32 rfl rfl rfl ?_
      cases hp
      exact gw_iret X dX3_cover_35 (fun _ h => ⟨rfl, h⟩) (Nat.le_of_ble_eq_true rfl) (Nat.le_of_ble_eq_true rfl)
    · replace hp := gw_t z hp
      refine gw_iconst X 28 dX3_cover_27 rfl gw_ci_m1 ?_
      refine gw_goto X 35 dX3_cover_28 rfl ?_
      cases hp
      exact gw_iret X dX3_cover_35 (fun _ h => ⟨rfl, h⟩) (Nat.le_of_ble_eq_true rfl) (Nat.le_of_ble_eq_true rfl)
  · replace hp := gw_f z hp
    refine gw_bipush X 15 dX3_cover_13 rfl gw_cb_m2 ?_
    cases hp
    exact gw_iret X dX3_cover_15 (fun _ h => ⟨rfl, h⟩) (Nat.le_of_ble_eq_true rfl) (Nat.le_of_ble_eq_true rfl)
abbrev rm_X3_covers : Room := { frames := 6, cells := 0, slots := 0, locals := 134 }
def fx_X3_covers (σ : gw_S) (x1 : Int32) : Option (Int32 × gw_S) := gw_let (gw_u σ 0 0 0) (fun σ1 => (if fx_X3_areDeeds σ1 x1 = true then gw_b2 (fx_X3_coversOf σ1 x1) (fun r3 σ4 => some (r3, σ4)) else some ((-2), σ1)))
set_option maxHeartbeats 4000000 in
theorem mt_X3_covers {l : Launch} {D : gw_D} {a : Nat → Nat} {Wr : va_W → Prop} {σ : gw_S} {x1 : Int32} {res : Int32 × gw_S} (hp : fx_X3_covers σ x1 = some res) : gw_Ct D l yX3_covers cX3_covers 2 (some .int) rm_X3_covers [.ref (a 0), .int x1] (gw_st (wM D a σ) Wr) (gw_pI res.1 (gw_st (wM D a res.2) Wr)) := by
  refine gw_ct (own := RX3) [(0, .ref (a 0)), (1, .int x1)] (by decide) rfl (Nat.le_of_ble_eq_true rfl) rfl ?_
  intro E X
  unfold fx_X3_covers at hp
  refine gw_aload_n X 1 0 dX3_covers_0 rfl rfl rfl ?_
  refine gw_iconst X 2 dX3_covers_1 rfl gw_ci_0 ?_
  refine gM_p0_0 X 5 q1394 dX3_covers_2 rfl ?_
  refine gw_aload_n X 6 0 dX3_covers_5 rfl rfl rfl ?_
  refine gw_iload_n X 7 1 dX3_covers_6 rfl rfl rfl ?_
  obtain ⟨σ1, h2, hp⟩ := gw_let_some hp
  rw [← h2]
  clear h2
  refine gw_callVi X 10 [.int x1] (mt_X3_areDeeds rfl) lk_X3_317 ydv_X3_areDeeds gM_cl0 gM_at0 rfl rfl rfl dX3_covers_7 rfl rfl rfl ?_
  refine gw_if_eqB X 21 13 dX3_covers_10 rfl rfl (fun z => ?_) (fun z => ?_)
  · replace hp := gw_f z hp
    refine gw_bipush X 23 dX3_covers_21 rfl gw_cb_m2 ?_
    cases hp
    exact gw_iret X dX3_covers_23 (fun _ h => ⟨rfl, h⟩) (Nat.le_of_ble_eq_true rfl) (Nat.le_of_ble_eq_true rfl)
  · replace hp := gw_t z hp
    refine gw_aload_n X 14 0 dX3_covers_13 rfl rfl rfl ?_
    refine gw_iload_n X 15 1 dX3_covers_14 rfl rfl rfl ?_
    obtain ⟨r3, σ4, h5, hp⟩ := gw_b2_some hp
    refine gw_callVi X 18 [.int x1] (mt_X3_coversOf h5) lk_X3_320 ydv_X3_coversOf gM_cl0 gM_at0 rfl rfl rfl dX3_covers_15 rfl rfl rfl ?_
    refine gw_goto X 23 dX3_covers_18 rfl ?_
    cases hp
    exact gw_iret X dX3_covers_23 (fun _ h => ⟨rfl, h⟩) (Nat.le_of_ble_eq_true rfl) (Nat.le_of_ble_eq_true rfl)
abbrev rm_X3_worthOf : Room := { frames := 1, cells := 0, slots := 0, locals := 22 }
def fx_X3_worthOf_L4 (σ : gw_S) (v1 : Int32) : Nat → Int32 → Int32 → Option (Int32)
  | 0, _, _ => none
  | n + 1, c2, c3 => (if (σ.1 7 1) ≤ c3 then some c2 else (if fx_X3_isBit v1 c3 = true then gw_b1 (fx_X3_of σ c3 (0 : Int32)) (fun r1 => fx_X3_worthOf_L4 σ v1 n (c2 + r1) (c3 + 1)) else fx_X3_worthOf_L4 σ v1 n (c2 + (0 : Int32)) (c3 + 1)))
def fx_X3_worthOf (σ : gw_S) (x1 : Int32) : Option (Int32) := fx_X3_worthOf_L4 σ x1 1000 (0 : Int32) (0 : Int32)
set_option maxHeartbeats 4000000 in
theorem wk_X3_worthOf_L4 {E : gw_E} {l : Launch} {D : gw_D} {a : Nat → Nat} {Wr : va_W → Prop} {σ : gw_S} {res : Int32} (X : gw_X E cX3_worthOf 4 RX3 (some .int) l D rm_X3_worthOf (some (gw_pI res (gw_st (wM D a σ) Wr)))) {v1 : Int32} : ∀ {n : Nat} {c2 : Int32} {c3 : Int32}, fx_X3_worthOf_L4 σ v1 n c2 c3 = some res → gw_W E 4 [(0, .ref (a 0)), (1, .int v1), (2, .int c2), (3, .int c3)] [] (gw_st (wM D a σ) Wr) 0 0 := by
  intro n
  induction n with
  | zero =>
    intro c2 c3 hp
    cases (show none = some res from hp)
  | succ n ih =>
    intro c2 c3 hp
    rw [fx_X3_worthOf_L4] at hp
    refine gw_iload_n X 5 3 dX3_worthOf_4 rfl rfl rfl ?_
    refine gw_aload_n X 6 0 dX3_worthOf_5 rfl rfl rfl ?_
    refine gM_g0_17 X 9 q1411 dX3_worthOf_6 rfl ?_
    refine gw_iconst X 10 dX3_worthOf_9 rfl gw_ci_1 ?_
    refine gM_l7 X 11 1 (gw_in rfl) rfl dX3_worthOf_10 rfl ?_
    refine gw_icmp_ge X 41 14 dX3_worthOf_11 rfl rfl (fun z => ?_) (fun z => ?_)
    · replace hp := gw_t z hp
      refine gw_iload_n X 42 2 dX3_worthOf_41 rfl rfl rfl ?_
      cases hp
      exact gw_iret X dX3_worthOf_42 (fun _ h => ⟨rfl, h⟩) (Nat.le_of_ble_eq_true rfl) (Nat.le_of_ble_eq_true rfl)
    · replace hp := gw_f z hp
      refine gw_iload_n X 15 2 dX3_worthOf_14 rfl rfl rfl ?_
      refine gw_iload_n X 16 1 dX3_worthOf_15 rfl rfl rfl ?_
      refine gw_iload_n X 17 3 dX3_worthOf_16 rfl rfl rfl ?_
      refine gw_callSi X 20 [.int v1, .int c3] (mt_X3_isBit rfl) lk_X3_239 yd_X3_isBit rfl rfl rfl dX3_worthOf_17 rfl rfl rfl ?_
      refine gw_if_eqB X 32 23 dX3_worthOf_20 rfl rfl (fun z => ?_) (fun z => ?_)
      · replace hp := gw_f z hp
        refine gw_iconst X 33 dX3_worthOf_32 rfl gw_ci_0 ?_
        refine gw_iadd X 34 dX3_worthOf_33 rfl ?_
        refine gw_istore_n X 35 [(2, .int (c2 + (0 : Int32))), (0, .ref (a 0)), (1, .int v1), (3, .int c3)] dX3_worthOf_34 rfl rfl (by decide) rfl ?_
        refine gw_iinc X 38 3 [(3, .int (c3 + 1)), (2, .int (c2 + (0 : Int32))), (0, .ref (a 0)), (1, .int v1)] dX3_worthOf_35 rfl rfl gw_ci_1 (by decide) rfl ?_
        refine gw_goto X 4 dX3_worthOf_38 rfl ?_
        refine gw_lv [2, 3, 1, 0] rfl ?_
        exact ih hp
      · replace hp := gw_t z hp
        refine gw_aload_n X 24 0 dX3_worthOf_23 rfl rfl rfl ?_
        refine gw_iload_n X 25 3 dX3_worthOf_24 rfl rfl rfl ?_
        refine gw_iconst X 26 dX3_worthOf_25 rfl gw_ci_0 ?_
        obtain ⟨r1, h2, hp⟩ := gw_b1_some hp
        refine gw_callVi X 29 [.int c3, .int 0] (mt_X3_of h2) lk_X3_214 ydv_X3_of gM_cl0 gM_at0 rfl rfl rfl dX3_worthOf_26 rfl rfl rfl ?_
        refine gw_goto X 33 dX3_worthOf_29 rfl ?_
        refine gw_iadd X 34 dX3_worthOf_33 rfl ?_
        refine gw_istore_n X 35 [(2, .int (c2 + r1)), (0, .ref (a 0)), (1, .int v1), (3, .int c3)] dX3_worthOf_34 rfl rfl (by decide) rfl ?_
        refine gw_iinc X 38 3 [(3, .int (c3 + 1)), (2, .int (c2 + r1)), (0, .ref (a 0)), (1, .int v1)] dX3_worthOf_35 rfl rfl gw_ci_1 (by decide) rfl ?_
        refine gw_goto X 4 dX3_worthOf_38 rfl ?_
        refine gw_lv [2, 3, 1, 0] rfl ?_
        exact ih hp
set_option maxHeartbeats 4000000 in
theorem mt_X3_worthOf {l : Launch} {D : gw_D} {a : Nat → Nat} {Wr : va_W → Prop} {σ : gw_S} {x1 : Int32} {res : Int32} (hp : fx_X3_worthOf σ x1 = some res) : gw_Ct D l yX3_worthOf cX3_worthOf 4 (some .int) rm_X3_worthOf [.ref (a 0), .int x1] (gw_st (wM D a σ) Wr) (gw_pI res (gw_st (wM D a σ) Wr)) := by
  refine gw_ct (own := RX3) [(0, .ref (a 0)), (1, .int x1)] (by decide) rfl (Nat.le_of_ble_eq_true rfl) rfl ?_
  intro E X
  unfold fx_X3_worthOf at hp
  refine gw_iconst X 1 dX3_worthOf_0 rfl gw_ci_0 ?_
  refine gw_istore_n X 2 [(2, .int 0), (0, .ref (a 0)), (1, .int x1)] dX3_worthOf_1 rfl rfl (by decide) rfl ?_
  refine gw_iconst X 3 dX3_worthOf_2 rfl gw_ci_0 ?_
  refine gw_istore_n X 4 [(3, .int 0), (2, .int 0), (0, .ref (a 0)), (1, .int x1)] dX3_worthOf_3 rfl rfl (by decide) rfl ?_
  refine gw_lv [2, 3, 1, 0] rfl ?_
  exact wk_X3_worthOf_L4 X hp
abbrev rm_X3_boughtOf : Room := { frames := 2, cells := 0, slots := 0, locals := 45 }
def fx_X3_boughtOf_L4 (σ : gw_S) (v1 : Int32) : Nat → Int32 → Int32 → Option (Int32)
  | 0, _, _ => none
  | n + 1, c2, c3 => (if ((1 : Int32) <<< ((σ.1 7 1) &&& 31)) ≤ c3 then some c2 else (if c2 = (-1 : Int32) then gw_b1 (fx_X3_doneBy σ c3) (fun r1 => (if (v1 &&& (r1 ^^^ (-1 : Int32))) = 0 then fx_X3_boughtOf_L4 σ v1 n c3 (c3 + 1) else fx_X3_boughtOf_L4 σ v1 n c2 (c3 + 1))) else gw_b1 (fx_X3_worthOf σ c3) (fun r3 => gw_b1 (fx_X3_worthOf σ c2) (fun r5 => (if r5 ≤ r3 then fx_X3_boughtOf_L4 σ v1 n c2 (c3 + 1) else gw_b1 (fx_X3_doneBy σ c3) (fun r7 => (if (v1 &&& (r7 ^^^ (-1 : Int32))) = 0 then fx_X3_boughtOf_L4 σ v1 n c3 (c3 + 1) else fx_X3_boughtOf_L4 σ v1 n c2 (c3 + 1))))))))
def fx_X3_boughtOf (σ : gw_S) (x1 : Int32) : Option (Int32) := fx_X3_boughtOf_L4 σ x1 1000 (-1 : Int32) (0 : Int32)
set_option maxHeartbeats 4000000 in
theorem wk_X3_boughtOf_L4 {E : gw_E} {l : Launch} {D : gw_D} {a : Nat → Nat} {Wr : va_W → Prop} {σ : gw_S} {res : Int32} (X : gw_X E cX3_boughtOf 4 RX3 (some .int) l D rm_X3_boughtOf (some (gw_pI res (gw_st (wM D a σ) Wr)))) {v1 : Int32} : ∀ {n : Nat} {c2 : Int32} {c3 : Int32}, fx_X3_boughtOf_L4 σ v1 n c2 c3 = some res → gw_W E 4 [(0, .ref (a 0)), (1, .int v1), (2, .int c2), (3, .int c3)] [] (gw_st (wM D a σ) Wr) 0 0 := by
  intro n
  induction n with
  | zero =>
    intro c2 c3 hp
    cases (show none = some res from hp)
  | succ n ih =>
    intro c2 c3 hp
    rw [fx_X3_boughtOf_L4] at hp
    refine gw_iload_n X 5 3 dX3_boughtOf_4 rfl rfl rfl ?_
    refine gw_iconst X 6 dX3_boughtOf_5 rfl gw_ci_1 ?_
    refine gw_aload_n X 7 0 dX3_boughtOf_6 rfl rfl rfl ?_
    refine gM_g0_17 X 10 q1411 dX3_boughtOf_7 rfl ?_
    refine gw_iconst X 11 dX3_boughtOf_10 rfl gw_ci_1 ?_
    refine gM_l7 X 12 1 (gw_in rfl) rfl dX3_boughtOf_11 rfl ?_
    refine gw_ishl X 13 dX3_boughtOf_12 rfl ?_
    refine gw_icmp_ge X 54 16 dX3_boughtOf_13 rfl rfl (fun z => ?_) (fun z => ?_)
    · replace hp := gw_t z hp
      refine gw_iload_n X 55 2 dX3_boughtOf_54 rfl rfl rfl ?_
      cases hp
      exact gw_iret X dX3_boughtOf_55 (fun _ h => ⟨rfl, h⟩) (Nat.le_of_ble_eq_true rfl) (Nat.le_of_ble_eq_true rfl)
    · replace hp := gw_f z hp
      refine gw_iload_n X 17 2 dX3_boughtOf_16 rfl rfl rfl ?_
      refine gw_iconst X 18 dX3_boughtOf_17 rfl gw_ci_m1 ?_
      refine gw_icmp_eq X 34 21 dX3_boughtOf_18 rfl rfl (fun z => ?_) (fun z => ?_)
      · replace hp := gw_t z hp
        refine gw_iload_n X 35 1 dX3_boughtOf_34 rfl rfl rfl ?_
        refine gw_aload_n X 36 0 dX3_boughtOf_35 rfl rfl rfl ?_
        refine gw_iload_n X 37 3 dX3_boughtOf_36 rfl rfl rfl ?_
        obtain ⟨r1, h2, hp⟩ := gw_b1_some hp
        refine gw_callVi X 40 [.int c3] (mt_X3_doneBy h2) lk_X3_314 ydv_X3_doneBy gM_cl0 gM_at0 rfl rfl rfl dX3_boughtOf_37 rfl rfl rfl ?_
        refine gw_iconst X 41 dX3_boughtOf_40 rfl gw_ci_m1 ?_
        refine gw_ixor X 42 dX3_boughtOf_41 rfl ?_
        refine gw_iand X 43 dX3_boughtOf_42 rfl ?_
        refine gw_if_ne X 48 46 dX3_boughtOf_43 rfl rfl (fun z => ?_) (fun z => ?_)
        · replace hp := gw_f z hp
          refine gw_iinc X 51 3 [(3, .int (c3 + 1)), (0, .ref (a 0)), (1, .int v1), (2, .int c2)] dX3_boughtOf_48 rfl rfl gw_ci_1 (by decide) rfl ?_
          refine gw_goto X 4 dX3_boughtOf_51 rfl ?_
          refine gw_lv [1, 2, 3, 0] rfl ?_
          exact ih hp
        · replace hp := gw_t z hp
          refine gw_iload_n X 47 3 dX3_boughtOf_46 rfl rfl rfl ?_
          refine gw_istore_n X 48 [(2, .int c3), (0, .ref (a 0)), (1, .int v1), (3, .int c3)] dX3_boughtOf_47 rfl rfl (by decide) rfl ?_
          refine gw_iinc X 51 3 [(3, .int (c3 + 1)), (2, .int c3), (0, .ref (a 0)), (1, .int v1)] dX3_boughtOf_48 rfl rfl gw_ci_1 (by decide) rfl ?_
          refine gw_goto X 4 dX3_boughtOf_51 rfl ?_
          refine gw_lv [2, 3, 1, 0] rfl ?_
          exact ih hp
      · replace hp := gw_f z hp
        refine gw_aload_n X 22 0 dX3_boughtOf_21 rfl rfl rfl ?_
        refine gw_iload_n X 23 3 dX3_boughtOf_22 rfl rfl rfl ?_
        obtain ⟨r3, h4, hp⟩ := gw_b1_some hp
        refine gw_callVi X 26 [.int c3] (mt_X3_worthOf h4) lk_X3_323 ydv_X3_worthOf gM_cl0 gM_at0 rfl rfl rfl dX3_boughtOf_23 rfl rfl rfl ?_
        refine gw_aload_n X 27 0 dX3_boughtOf_26 rfl rfl rfl ?_
        refine gw_iload_n X 28 2 dX3_boughtOf_27 rfl rfl rfl ?_
        obtain ⟨r5, h6, hp⟩ := gw_b1_some hp
        refine gw_callVi X 31 [.int c2] (mt_X3_worthOf h6) lk_X3_323 ydv_X3_worthOf gM_cl0 gM_at0 rfl rfl rfl dX3_boughtOf_28 rfl rfl rfl ?_
        refine gw_icmp_ge X 48 34 dX3_boughtOf_31 rfl rfl (fun z => ?_) (fun z => ?_)
        · replace hp := gw_t z hp
          refine gw_iinc X 51 3 [(3, .int (c3 + 1)), (0, .ref (a 0)), (1, .int v1), (2, .int c2)] dX3_boughtOf_48 rfl rfl gw_ci_1 (by decide) rfl ?_
          refine gw_goto X 4 dX3_boughtOf_51 rfl ?_
          refine gw_lv [1, 2, 3, 0] rfl ?_
          exact ih hp
        · replace hp := gw_f z hp
          refine gw_iload_n X 35 1 dX3_boughtOf_34 rfl rfl rfl ?_
          refine gw_aload_n X 36 0 dX3_boughtOf_35 rfl rfl rfl ?_
          refine gw_iload_n X 37 3 dX3_boughtOf_36 rfl rfl rfl ?_
          obtain ⟨r7, h8, hp⟩ := gw_b1_some hp
          refine gw_callVi X 40 [.int c3] (mt_X3_doneBy h8) lk_X3_314 ydv_X3_doneBy gM_cl0 gM_at0 rfl rfl rfl dX3_boughtOf_37 rfl rfl rfl ?_
          refine gw_iconst X 41 dX3_boughtOf_40 rfl gw_ci_m1 ?_
          refine gw_ixor X 42 dX3_boughtOf_41 rfl ?_
          refine gw_iand X 43 dX3_boughtOf_42 rfl ?_
          refine gw_if_ne X 48 46 dX3_boughtOf_43 rfl rfl (fun z => ?_) (fun z => ?_)
          · replace hp := gw_f z hp
            refine gw_iinc X 51 3 [(3, .int (c3 + 1)), (0, .ref (a 0)), (1, .int v1), (2, .int c2)] dX3_boughtOf_48 rfl rfl gw_ci_1 (by decide) rfl ?_
            refine gw_goto X 4 dX3_boughtOf_51 rfl ?_
            refine gw_lv [1, 2, 3, 0] rfl ?_
            exact ih hp
          · replace hp := gw_t z hp
            refine gw_iload_n X 47 3 dX3_boughtOf_46 rfl rfl rfl ?_
            refine gw_istore_n X 48 [(2, .int c3), (0, .ref (a 0)), (1, .int v1), (3, .int c3)] dX3_boughtOf_47 rfl rfl (by decide) rfl ?_
            refine gw_iinc X 51 3 [(3, .int (c3 + 1)), (2, .int c3), (0, .ref (a 0)), (1, .int v1)] dX3_boughtOf_48 rfl rfl gw_ci_1 (by decide) rfl ?_
            refine gw_goto X 4 dX3_boughtOf_51 rfl ?_
            refine gw_lv [2, 3, 1, 0] rfl ?_
            exact ih hp
set_option maxHeartbeats 4000000 in
theorem mt_X3_boughtOf {l : Launch} {D : gw_D} {a : Nat → Nat} {Wr : va_W → Prop} {σ : gw_S} {x1 : Int32} {res : Int32} (hp : fx_X3_boughtOf σ x1 = some res) : gw_Ct D l yX3_boughtOf cX3_boughtOf 4 (some .int) rm_X3_boughtOf [.ref (a 0), .int x1] (gw_st (wM D a σ) Wr) (gw_pI res (gw_st (wM D a σ) Wr)) := by
  refine gw_ct (own := RX3) [(0, .ref (a 0)), (1, .int x1)] (by decide) rfl (Nat.le_of_ble_eq_true rfl) rfl ?_
  intro E X
  unfold fx_X3_boughtOf at hp
  refine gw_iconst X 1 dX3_boughtOf_0 rfl gw_ci_m1 ?_
  refine gw_istore_n X 2 [(2, .int (-1)), (0, .ref (a 0)), (1, .int x1)] dX3_boughtOf_1 rfl rfl (by decide) rfl ?_
  refine gw_iconst X 3 dX3_boughtOf_2 rfl gw_ci_0 ?_
  refine gw_istore_n X 4 [(3, .int 0), (2, .int (-1)), (0, .ref (a 0)), (1, .int x1)] dX3_boughtOf_3 rfl rfl (by decide) rfl ?_
  refine gw_lv [2, 3, 1, 0] rfl ?_
  exact wk_X3_boughtOf_L4 X hp
abbrev rm_X3_buy : Room := { frames := 3, cells := 0, slots := 0, locals := 68 }
def fx_X3_buy (σ : gw_S) (x1 : Int32) : Option (Int32 × gw_S) := gw_let (gw_u σ 0 0 0) (fun σ1 => (if fx_X3_areDeeds σ1 x1 = true then gw_b1 (fx_X3_boughtOf σ1 x1) (fun r3 => (if r3 = (-1 : Int32) then some ((-1), σ1) else gw_b1 (fx_X3_worthOf σ1 r3) (fun r5 => some (r5, σ1)))) else some ((-2), σ1)))
set_option maxHeartbeats 4000000 in
theorem mt_X3_buy {l : Launch} {D : gw_D} {a : Nat → Nat} {Wr : va_W → Prop} {σ : gw_S} {x1 : Int32} {res : Int32 × gw_S} (hp : fx_X3_buy σ x1 = some res) : gw_Ct D l yX3_buy cX3_buy 3 (some .int) rm_X3_buy [.ref (a 0), .int x1] (gw_st (wM D a σ) Wr) (gw_pI res.1 (gw_st (wM D a res.2) Wr)) := by
  refine gw_ct (own := RX3) [(0, .ref (a 0)), (1, .int x1)] (by decide) rfl (Nat.le_of_ble_eq_true rfl) rfl ?_
  intro E X
  unfold fx_X3_buy at hp
  refine gw_aload_n X 1 0 dX3_buy_0 rfl rfl rfl ?_
  refine gw_iconst X 2 dX3_buy_1 rfl gw_ci_0 ?_
  refine gM_p0_0 X 5 q1394 dX3_buy_2 rfl ?_
  refine gw_aload_n X 6 0 dX3_buy_5 rfl rfl rfl ?_
  refine gw_iload_n X 7 1 dX3_buy_6 rfl rfl rfl ?_
  obtain ⟨σ1, h2, hp⟩ := gw_let_some hp
  rw [← h2]
  clear h2
  refine gw_callVi X 10 [.int x1] (mt_X3_areDeeds rfl) lk_X3_317 ydv_X3_areDeeds gM_cl0 gM_at0 rfl rfl rfl dX3_buy_7 rfl rfl rfl ?_
  refine gw_if_neB X 16 13 dX3_buy_10 rfl rfl (fun z => ?_) (fun z => ?_)
  · replace hp := gw_t z hp
    refine gw_aload_n X 17 0 dX3_buy_16 rfl rfl rfl ?_
    refine gw_iload_n X 18 1 dX3_buy_17 rfl rfl rfl ?_
    obtain ⟨r3, h4, hp⟩ := gw_b1_some hp
    refine gw_callVi X 21 [.int x1] (mt_X3_boughtOf h4) lk_X3_326 ydv_X3_boughtOf gM_cl0 gM_at0 rfl rfl rfl dX3_buy_18 rfl rfl rfl ?_
    refine gw_istore_n X 22 [(2, .int r3), (0, .ref (a 0)), (1, .int x1)] dX3_buy_21 rfl rfl (by decide) rfl ?_
    refine gw_iload_n X 23 0 dX3_buy_22 rfl rfl rfl ?_
    refine gw_iconst X 24 dX3_buy_23 rfl gw_ci_m1 ?_
    refine gw_icmp_ne X 31 27 dX3_buy_24 rfl rfl (fun z => ?_) (fun z => ?_)
    · replace hp := gw_f z hp
      refine gw_aload_n X 32 1 dX3_buy_31 rfl rfl rfl ?_
      refine gw_iload_n X 33 0 dX3_buy_32 rfl rfl rfl ?_
      obtain ⟨r5, h6, hp⟩ := gw_b1_some hp
      refine gw_callVi X 36 [.int r3] (mt_X3_worthOf h6) lk_X3_323 ydv_X3_worthOf gM_cl0 gM_at0 rfl rfl rfl dX3_buy_33 rfl rfl rfl ?_
      cases hp
      exact gw_iret X dX3_buy_36 (fun _ h => ⟨rfl, h⟩) (Nat.le_of_ble_eq_true rfl) (Nat.le_of_ble_eq_true rfl)
    · replace hp := gw_t z hp
      refine gw_iconst X 28 dX3_buy_27 rfl gw_ci_m1 ?_
      refine gw_goto X 36 dX3_buy_28 rfl ?_
      cases hp
      exact gw_iret X dX3_buy_36 (fun _ h => ⟨rfl, h⟩) (Nat.le_of_ble_eq_true rfl) (Nat.le_of_ble_eq_true rfl)
  · replace hp := gw_f z hp
    refine gw_bipush X 15 dX3_buy_13 rfl gw_cb_m2 ?_
    cases hp
    exact gw_iret X dX3_buy_15 (fun _ h => ⟨rfl, h⟩) (Nat.le_of_ble_eq_true rfl) (Nat.le_of_ble_eq_true rfl)
abbrev rm_X3_bought : Room := { frames := 3, cells := 0, slots := 0, locals := 68 }
def fx_X3_bought (σ : gw_S) (x1 : Int32) : Option (Int32 × gw_S) := gw_let (gw_u σ 0 0 0) (fun σ1 => (if fx_X3_areDeeds σ1 x1 = true then gw_b1 (fx_X3_boughtOf σ1 x1) (fun r3 => some (r3, σ1)) else some ((-2), σ1)))
set_option maxHeartbeats 4000000 in
theorem mt_X3_bought {l : Launch} {D : gw_D} {a : Nat → Nat} {Wr : va_W → Prop} {σ : gw_S} {x1 : Int32} {res : Int32 × gw_S} (hp : fx_X3_bought σ x1 = some res) : gw_Ct D l yX3_bought cX3_bought 2 (some .int) rm_X3_bought [.ref (a 0), .int x1] (gw_st (wM D a σ) Wr) (gw_pI res.1 (gw_st (wM D a res.2) Wr)) := by
  refine gw_ct (own := RX3) [(0, .ref (a 0)), (1, .int x1)] (by decide) rfl (Nat.le_of_ble_eq_true rfl) rfl ?_
  intro E X
  unfold fx_X3_bought at hp
  refine gw_aload_n X 1 0 dX3_bought_0 rfl rfl rfl ?_
  refine gw_iconst X 2 dX3_bought_1 rfl gw_ci_0 ?_
  refine gM_p0_0 X 5 q1394 dX3_bought_2 rfl ?_
  refine gw_aload_n X 6 0 dX3_bought_5 rfl rfl rfl ?_
  refine gw_iload_n X 7 1 dX3_bought_6 rfl rfl rfl ?_
  obtain ⟨σ1, h2, hp⟩ := gw_let_some hp
  rw [← h2]
  clear h2
  refine gw_callVi X 10 [.int x1] (mt_X3_areDeeds rfl) lk_X3_317 ydv_X3_areDeeds gM_cl0 gM_at0 rfl rfl rfl dX3_bought_7 rfl rfl rfl ?_
  refine gw_if_eqB X 21 13 dX3_bought_10 rfl rfl (fun z => ?_) (fun z => ?_)
  · replace hp := gw_f z hp
    refine gw_bipush X 23 dX3_bought_21 rfl gw_cb_m2 ?_
    cases hp
    exact gw_iret X dX3_bought_23 (fun _ h => ⟨rfl, h⟩) (Nat.le_of_ble_eq_true rfl) (Nat.le_of_ble_eq_true rfl)
  · replace hp := gw_t z hp
    refine gw_aload_n X 14 0 dX3_bought_13 rfl rfl rfl ?_
    refine gw_iload_n X 15 1 dX3_bought_14 rfl rfl rfl ?_
    obtain ⟨r3, h4, hp⟩ := gw_b1_some hp
    refine gw_callVi X 18 [.int x1] (mt_X3_boughtOf h4) lk_X3_326 ydv_X3_boughtOf gM_cl0 gM_at0 rfl rfl rfl dX3_bought_15 rfl rfl rfl ?_
    refine gw_goto X 23 dX3_bought_18 rfl ?_
    cases hp
    exact gw_iret X dX3_bought_23 (fun _ h => ⟨rfl, h⟩) (Nat.le_of_ble_eq_true rfl) (Nat.le_of_ble_eq_true rfl)
abbrev rm_X3_hiredOf : Room := { frames := 2, cells := 0, slots := 0, locals := 45 }
def fx_X3_hiredOf_L4 (σ : gw_S) (v1 : Int32) : Nat → Int32 → Int32 → Option (Int32)
  | 0, _, _ => none
  | n + 1, c2, c3 => (if ((1 : Int32) <<< ((σ.1 7 1) &&& 31)) ≤ c3 then some c2 else gw_b1 (fx_X3_worthOf σ c3) (fun r1 => (if v1 < r1 then fx_X3_hiredOf_L4 σ v1 n c2 (c3 + 1) else gw_b1 (fx_X3_doneBy σ c3) (fun r3 => gw_b1 (fx_X3_sizeOf r3) (fun r5 => gw_b1 (fx_X3_doneBy σ c2) (fun r7 => gw_b1 (fx_X3_sizeOf r7) (fun r9 => (if r5 ≤ r9 then fx_X3_hiredOf_L4 σ v1 n c2 (c3 + 1) else fx_X3_hiredOf_L4 σ v1 n c3 (c3 + 1)))))))))
def fx_X3_hiredOf (σ : gw_S) (x1 : Int32) : Option (Int32) := fx_X3_hiredOf_L4 σ x1 1000 (0 : Int32) (0 : Int32)
set_option maxHeartbeats 4000000 in
theorem wk_X3_hiredOf_L4 {E : gw_E} {l : Launch} {D : gw_D} {a : Nat → Nat} {Wr : va_W → Prop} {σ : gw_S} {res : Int32} (X : gw_X E cX3_hiredOf 4 RX3 (some .int) l D rm_X3_hiredOf (some (gw_pI res (gw_st (wM D a σ) Wr)))) {v1 : Int32} : ∀ {n : Nat} {c2 : Int32} {c3 : Int32}, fx_X3_hiredOf_L4 σ v1 n c2 c3 = some res → gw_W E 4 [(0, .ref (a 0)), (1, .int v1), (2, .int c2), (3, .int c3)] [] (gw_st (wM D a σ) Wr) 0 0 := by
  intro n
  induction n with
  | zero =>
    intro c2 c3 hp
    cases (show none = some res from hp)
  | succ n ih =>
    intro c2 c3 hp
    rw [fx_X3_hiredOf_L4] at hp
    refine gw_iload_n X 5 3 dX3_hiredOf_4 rfl rfl rfl ?_
    refine gw_iconst X 6 dX3_hiredOf_5 rfl gw_ci_1 ?_
    refine gw_aload_n X 7 0 dX3_hiredOf_6 rfl rfl rfl ?_
    refine gM_g0_17 X 10 q1411 dX3_hiredOf_7 rfl ?_
    refine gw_iconst X 11 dX3_hiredOf_10 rfl gw_ci_1 ?_
    refine gM_l7 X 12 1 (gw_in rfl) rfl dX3_hiredOf_11 rfl ?_
    refine gw_ishl X 13 dX3_hiredOf_12 rfl ?_
    refine gw_icmp_ge X 52 16 dX3_hiredOf_13 rfl rfl (fun z => ?_) (fun z => ?_)
    · replace hp := gw_t z hp
      refine gw_iload_n X 53 2 dX3_hiredOf_52 rfl rfl rfl ?_
      cases hp
      exact gw_iret X dX3_hiredOf_53 (fun _ h => ⟨rfl, h⟩) (Nat.le_of_ble_eq_true rfl) (Nat.le_of_ble_eq_true rfl)
    · replace hp := gw_f z hp
      refine gw_aload_n X 17 0 dX3_hiredOf_16 rfl rfl rfl ?_
      refine gw_iload_n X 18 3 dX3_hiredOf_17 rfl rfl rfl ?_
      obtain ⟨r1, h2, hp⟩ := gw_b1_some hp
      refine gw_callVi X 21 [.int c3] (mt_X3_worthOf h2) lk_X3_323 ydv_X3_worthOf gM_cl0 gM_at0 rfl rfl rfl dX3_hiredOf_18 rfl rfl rfl ?_
      refine gw_iload_n X 22 1 dX3_hiredOf_21 rfl rfl rfl ?_
      refine gw_icmp_gt X 46 25 dX3_hiredOf_22 rfl rfl (fun z => ?_) (fun z => ?_)
      · replace hp := gw_t z hp
        refine gw_iinc X 49 3 [(3, .int (c3 + 1)), (0, .ref (a 0)), (1, .int v1), (2, .int c2)] dX3_hiredOf_46 rfl rfl gw_ci_1 (by decide) rfl ?_
        refine gw_goto X 4 dX3_hiredOf_49 rfl ?_
        refine gw_lv [1, 2, 3, 0] rfl ?_
        exact ih hp
      · replace hp := gw_f z hp
        refine gw_aload_n X 26 0 dX3_hiredOf_25 rfl rfl rfl ?_
        refine gw_iload_n X 27 3 dX3_hiredOf_26 rfl rfl rfl ?_
        obtain ⟨r3, h4, hp⟩ := gw_b1_some hp
        refine gw_callVi X 30 [.int c3] (mt_X3_doneBy h4) lk_X3_314 ydv_X3_doneBy gM_cl0 gM_at0 rfl rfl rfl dX3_hiredOf_27 rfl rfl rfl ?_
        obtain ⟨r5, h6, hp⟩ := gw_b1_some hp
        refine gw_callSi X 33 [.int r3] (mt_X3_sizeOf h6) lk_X3_297 yd_X3_sizeOf rfl rfl rfl dX3_hiredOf_30 rfl rfl rfl ?_
        refine gw_aload_n X 34 0 dX3_hiredOf_33 rfl rfl rfl ?_
        refine gw_iload_n X 35 2 dX3_hiredOf_34 rfl rfl rfl ?_
        obtain ⟨r7, h8, hp⟩ := gw_b1_some hp
        refine gw_callVi X 38 [.int c2] (mt_X3_doneBy h8) lk_X3_314 ydv_X3_doneBy gM_cl0 gM_at0 rfl rfl rfl dX3_hiredOf_35 rfl rfl rfl ?_
        obtain ⟨r9, h10, hp⟩ := gw_b1_some hp
        refine gw_callSi X 41 [.int r7] (mt_X3_sizeOf h10) lk_X3_297 yd_X3_sizeOf rfl rfl rfl dX3_hiredOf_38 rfl rfl rfl ?_
        refine gw_icmp_le X 46 44 dX3_hiredOf_41 rfl rfl (fun z => ?_) (fun z => ?_)
        · replace hp := gw_t z hp
          refine gw_iinc X 49 3 [(3, .int (c3 + 1)), (0, .ref (a 0)), (1, .int v1), (2, .int c2)] dX3_hiredOf_46 rfl rfl gw_ci_1 (by decide) rfl ?_
          refine gw_goto X 4 dX3_hiredOf_49 rfl ?_
          refine gw_lv [1, 2, 3, 0] rfl ?_
          exact ih hp
        · replace hp := gw_f z hp
          refine gw_iload_n X 45 3 dX3_hiredOf_44 rfl rfl rfl ?_
          refine gw_istore_n X 46 [(2, .int c3), (0, .ref (a 0)), (1, .int v1), (3, .int c3)] dX3_hiredOf_45 rfl rfl (by decide) rfl ?_
          refine gw_iinc X 49 3 [(3, .int (c3 + 1)), (2, .int c3), (0, .ref (a 0)), (1, .int v1)] dX3_hiredOf_46 rfl rfl gw_ci_1 (by decide) rfl ?_
          refine gw_goto X 4 dX3_hiredOf_49 rfl ?_
          refine gw_lv [2, 3, 1, 0] rfl ?_
          exact ih hp
set_option maxHeartbeats 4000000 in
theorem mt_X3_hiredOf {l : Launch} {D : gw_D} {a : Nat → Nat} {Wr : va_W → Prop} {σ : gw_S} {x1 : Int32} {res : Int32} (hp : fx_X3_hiredOf σ x1 = some res) : gw_Ct D l yX3_hiredOf cX3_hiredOf 4 (some .int) rm_X3_hiredOf [.ref (a 0), .int x1] (gw_st (wM D a σ) Wr) (gw_pI res (gw_st (wM D a σ) Wr)) := by
  refine gw_ct (own := RX3) [(0, .ref (a 0)), (1, .int x1)] (by decide) rfl (Nat.le_of_ble_eq_true rfl) rfl ?_
  intro E X
  unfold fx_X3_hiredOf at hp
  refine gw_iconst X 1 dX3_hiredOf_0 rfl gw_ci_0 ?_
  refine gw_istore_n X 2 [(2, .int 0), (0, .ref (a 0)), (1, .int x1)] dX3_hiredOf_1 rfl rfl (by decide) rfl ?_
  refine gw_iconst X 3 dX3_hiredOf_2 rfl gw_ci_0 ?_
  refine gw_istore_n X 4 [(3, .int 0), (2, .int 0), (0, .ref (a 0)), (1, .int x1)] dX3_hiredOf_3 rfl rfl (by decide) rfl ?_
  refine gw_lv [2, 3, 1, 0] rfl ?_
  exact wk_X3_hiredOf_L4 X hp
abbrev rm_X3_deeds : Room := { frames := 3, cells := 0, slots := 0, locals := 68 }
def fx_X3_deeds (σ : gw_S) (x1 : Int32) : Option (Int32 × gw_S) := gw_let (gw_u σ 0 0 0) (fun σ1 => (if fx_X3_isCity σ1 = true then (if fx_X3_in (Int32.toInt64 x1) (0 : Int64) (2000 : Int64) = true then gw_b1 (fx_X3_hiredOf σ1 x1) (fun r3 => gw_b1 (fx_X3_doneBy σ1 r3) (fun r5 => gw_b1 (fx_X3_sizeOf r5) (fun r7 => some (r7, σ1)))) else some ((-2), σ1)) else some ((-2), σ1)))
set_option maxHeartbeats 4000000 in
theorem mt_X3_deeds {l : Launch} {D : gw_D} {a : Nat → Nat} {Wr : va_W → Prop} {σ : gw_S} {x1 : Int32} {res : Int32 × gw_S} (hp : fx_X3_deeds σ x1 = some res) : gw_Ct D l yX3_deeds cX3_deeds 2 (some .int) rm_X3_deeds [.ref (a 0), .int x1] (gw_st (wM D a σ) Wr) (gw_pI res.1 (gw_st (wM D a res.2) Wr)) := by
  refine gw_ct (own := RX3) [(0, .ref (a 0)), (1, .int x1)] (by decide) rfl (Nat.le_of_ble_eq_true rfl) rfl ?_
  intro E X
  unfold fx_X3_deeds at hp
  refine gw_aload_n X 1 0 dX3_deeds_0 rfl rfl rfl ?_
  refine gw_iconst X 2 dX3_deeds_1 rfl gw_ci_0 ?_
  refine gM_p0_0 X 5 q1394 dX3_deeds_2 rfl ?_
  refine gw_aload_n X 6 0 dX3_deeds_5 rfl rfl rfl ?_
  obtain ⟨σ1, h2, hp⟩ := gw_let_some hp
  rw [← h2]
  clear h2
  refine gw_callVi X 9 [] (mt_X3_isCity rfl) lk_X3_209 ydv_X3_isCity gM_cl0 gM_at0 rfl rfl rfl dX3_deeds_6 rfl rfl rfl ?_
  refine gw_if_eqB X 39 12 dX3_deeds_9 rfl rfl (fun z => ?_) (fun z => ?_)
  · replace hp := gw_f z hp
    refine gw_bipush X 41 dX3_deeds_39 rfl gw_cb_m2 ?_
    cases hp
    exact gw_iret X dX3_deeds_41 (fun _ h => ⟨rfl, h⟩) (Nat.le_of_ble_eq_true rfl) (Nat.le_of_ble_eq_true rfl)
  · replace hp := gw_t z hp
    refine gw_iload_n X 13 1 dX3_deeds_12 rfl rfl rfl ?_
    refine gw_i2l X 14 dX3_deeds_13 rfl ?_
    refine gw_lconst X 15 dX3_deeds_14 rfl gw_cl_0 ?_
    refine gw_ldc2 X 18 dX3_deeds_15 rfl q1880 ?_
    refine gw_callSi X 21 [.long (Int32.toInt64 x1), .long 0, .long 2000] (mt_X3_in rfl) lk_X3_64 yd_X3_in rfl rfl rfl dX3_deeds_18 rfl rfl rfl ?_
    refine gw_if_eqB X 39 24 dX3_deeds_21 rfl rfl (fun z => ?_) (fun z => ?_)
    · replace hp := gw_f z hp
      refine gw_bipush X 41 dX3_deeds_39 rfl gw_cb_m2 ?_
      cases hp
      exact gw_iret X dX3_deeds_41 (fun _ h => ⟨rfl, h⟩) (Nat.le_of_ble_eq_true rfl) (Nat.le_of_ble_eq_true rfl)
    · replace hp := gw_t z hp
      refine gw_aload_n X 25 0 dX3_deeds_24 rfl rfl rfl ?_
      refine gw_aload_n X 26 0 dX3_deeds_25 rfl rfl rfl ?_
      refine gw_iload_n X 27 1 dX3_deeds_26 rfl rfl rfl ?_
      obtain ⟨r3, h4, hp⟩ := gw_b1_some hp
      refine gw_callVi X 30 [.int x1] (mt_X3_hiredOf h4) lk_X3_331 ydv_X3_hiredOf gM_cl0 gM_at0 rfl rfl rfl dX3_deeds_27 rfl rfl rfl ?_
      obtain ⟨r5, h6, hp⟩ := gw_b1_some hp
      refine gw_callVi X 33 [.int r3] (mt_X3_doneBy h6) lk_X3_314 ydv_X3_doneBy gM_cl0 gM_at0 rfl rfl rfl dX3_deeds_30 rfl rfl rfl ?_
      obtain ⟨r7, h8, hp⟩ := gw_b1_some hp
      refine gw_callSi X 36 [.int r5] (mt_X3_sizeOf h8) lk_X3_297 yd_X3_sizeOf rfl rfl rfl dX3_deeds_33 rfl rfl rfl ?_
      refine gw_goto X 41 dX3_deeds_36 rfl ?_
      cases hp
      exact gw_iret X dX3_deeds_41 (fun _ h => ⟨rfl, h⟩) (Nat.le_of_ble_eq_true rfl) (Nat.le_of_ble_eq_true rfl)
abbrev rm_X3_hired : Room := { frames := 3, cells := 0, slots := 0, locals := 68 }
def fx_X3_hired (σ : gw_S) (x1 : Int32) : Option (Int32 × gw_S) := gw_let (gw_u σ 0 0 0) (fun σ1 => (if fx_X3_isCity σ1 = true then (if fx_X3_in (Int32.toInt64 x1) (0 : Int64) (2000 : Int64) = true then gw_b1 (fx_X3_hiredOf σ1 x1) (fun r3 => some (r3, σ1)) else some ((-2), σ1)) else some ((-2), σ1)))
set_option maxHeartbeats 4000000 in
theorem mt_X3_hired {l : Launch} {D : gw_D} {a : Nat → Nat} {Wr : va_W → Prop} {σ : gw_S} {x1 : Int32} {res : Int32 × gw_S} (hp : fx_X3_hired σ x1 = some res) : gw_Ct D l yX3_hired cX3_hired 2 (some .int) rm_X3_hired [.ref (a 0), .int x1] (gw_st (wM D a σ) Wr) (gw_pI res.1 (gw_st (wM D a res.2) Wr)) := by
  refine gw_ct (own := RX3) [(0, .ref (a 0)), (1, .int x1)] (by decide) rfl (Nat.le_of_ble_eq_true rfl) rfl ?_
  intro E X
  unfold fx_X3_hired at hp
  refine gw_aload_n X 1 0 dX3_hired_0 rfl rfl rfl ?_
  refine gw_iconst X 2 dX3_hired_1 rfl gw_ci_0 ?_
  refine gM_p0_0 X 5 q1394 dX3_hired_2 rfl ?_
  refine gw_aload_n X 6 0 dX3_hired_5 rfl rfl rfl ?_
  obtain ⟨σ1, h2, hp⟩ := gw_let_some hp
  rw [← h2]
  clear h2
  refine gw_callVi X 9 [] (mt_X3_isCity rfl) lk_X3_209 ydv_X3_isCity gM_cl0 gM_at0 rfl rfl rfl dX3_hired_6 rfl rfl rfl ?_
  refine gw_if_eqB X 32 12 dX3_hired_9 rfl rfl (fun z => ?_) (fun z => ?_)
  · replace hp := gw_f z hp
    refine gw_bipush X 34 dX3_hired_32 rfl gw_cb_m2 ?_
    cases hp
    exact gw_iret X dX3_hired_34 (fun _ h => ⟨rfl, h⟩) (Nat.le_of_ble_eq_true rfl) (Nat.le_of_ble_eq_true rfl)
  · replace hp := gw_t z hp
    refine gw_iload_n X 13 1 dX3_hired_12 rfl rfl rfl ?_
    refine gw_i2l X 14 dX3_hired_13 rfl ?_
    refine gw_lconst X 15 dX3_hired_14 rfl gw_cl_0 ?_
    refine gw_ldc2 X 18 dX3_hired_15 rfl q1880 ?_
    refine gw_callSi X 21 [.long (Int32.toInt64 x1), .long 0, .long 2000] (mt_X3_in rfl) lk_X3_64 yd_X3_in rfl rfl rfl dX3_hired_18 rfl rfl rfl ?_
    refine gw_if_eqB X 32 24 dX3_hired_21 rfl rfl (fun z => ?_) (fun z => ?_)
    · replace hp := gw_f z hp
      refine gw_bipush X 34 dX3_hired_32 rfl gw_cb_m2 ?_
      cases hp
      exact gw_iret X dX3_hired_34 (fun _ h => ⟨rfl, h⟩) (Nat.le_of_ble_eq_true rfl) (Nat.le_of_ble_eq_true rfl)
    · replace hp := gw_t z hp
      refine gw_aload_n X 25 0 dX3_hired_24 rfl rfl rfl ?_
      refine gw_iload_n X 26 1 dX3_hired_25 rfl rfl rfl ?_
      obtain ⟨r3, h4, hp⟩ := gw_b1_some hp
      refine gw_callVi X 29 [.int x1] (mt_X3_hiredOf h4) lk_X3_331 ydv_X3_hiredOf gM_cl0 gM_at0 rfl rfl rfl dX3_hired_26 rfl rfl rfl ?_
      refine gw_goto X 34 dX3_hired_29 rfl ?_
      cases hp
      exact gw_iret X dX3_hired_34 (fun _ h => ⟨rfl, h⟩) (Nat.le_of_ble_eq_true rfl) (Nat.le_of_ble_eq_true rfl)
