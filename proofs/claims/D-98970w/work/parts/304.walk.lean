set_option maxRecDepth 100000
abbrev rm_X3_doer : Room := { frames := 5, cells := 0, slots := 0, locals := 111 }
def fx_X3_doer (σ : gw_S) (x1 : Int32) (x2 : Int32) : Option (Int32 × gw_S) := gw_let (gw_u σ 0 0 0) (fun σ1 => (if fx_X3_isChain σ1 x1 x2 = true then gw_b1 (fx_X3_laysNow σ1) (fun σ3 => gw_b1 (fx_X3_doerOf σ3 x1 x2) (fun r5 => some (r5, σ3))) else some ((-2), σ1)))
set_option maxHeartbeats 4000000 in
theorem mt_X3_doer {l : Launch} {D : gw_D} {a : Nat → Nat} {Wr : va_W → Prop} {σ : gw_S} {x1 : Int32} {x2 : Int32} {res : Int32 × gw_S} (hp : fx_X3_doer σ x1 x2 = some res) : gw_Ct D l yX3_doer cX3_doer 3 (some .int) rm_X3_doer [.ref (a 0), .int x1, .int x2] (gw_st (wM D a σ) Wr) (gw_pI res.1 (gw_st (wM D a res.2) Wr)) := by
  refine gw_ct (own := RX3) [(0, .ref (a 0)), (1, .int x1), (2, .int x2)] (by decide) rfl (Nat.le_of_ble_eq_true rfl) rfl ?_
  intro E X
  unfold fx_X3_doer at hp
  refine gw_aload_n X 1 0 dX3_doer_0 rfl rfl rfl ?_
  refine gw_iconst X 2 dX3_doer_1 rfl gw_ci_0 ?_
  refine gM_p0_0 X 5 q1394 dX3_doer_2 rfl ?_
  refine gw_aload_n X 6 0 dX3_doer_5 rfl rfl rfl ?_
  refine gw_iload_n X 7 1 dX3_doer_6 rfl rfl rfl ?_
  refine gw_iload_n X 8 2 dX3_doer_7 rfl rfl rfl ?_
  obtain ⟨σ1, h2, hp⟩ := gw_let_some hp
  rw [← h2]
  clear h2
  refine gw_callVi X 11 [.int x1, .int x2] (mt_X3_isChain rfl) lk_X3_281 ydv_X3_isChain gM_cl0 gM_at0 rfl rfl rfl dX3_doer_8 rfl rfl rfl ?_
  refine gw_if_neB X 17 14 dX3_doer_11 rfl rfl (fun z => ?_) (fun z => ?_)
  · replace hp := gw_t z hp
    refine gw_aload_n X 18 0 dX3_doer_17 rfl rfl rfl ?_
    obtain ⟨σ3, h4, hp⟩ := gw_b1_some hp
    refine gw_callVv X 21 [] (mt_X3_laysNow h4) lk_X3_251 ydv_X3_laysNow gM_cl0 gM_at0 rfl rfl rfl dX3_doer_18 rfl rfl rfl ?_
    refine gw_aload_n X 22 0 dX3_doer_21 rfl rfl rfl ?_
    refine gw_iload_n X 23 1 dX3_doer_22 rfl rfl rfl ?_
    refine gw_iload_n X 24 2 dX3_doer_23 rfl rfl rfl ?_
    obtain ⟨r5, h6, hp⟩ := gw_b1_some hp
    refine gw_callVi X 27 [.int x1, .int x2] (mt_X3_doerOf h6) lk_X3_284 ydv_X3_doerOf gM_cl0 gM_at0 rfl rfl rfl dX3_doer_24 rfl rfl rfl ?_
    cases hp
    exact gw_iret X dX3_doer_27 (fun _ h => ⟨rfl, h⟩) (Nat.le_of_ble_eq_true rfl) (Nat.le_of_ble_eq_true rfl)
  · replace hp := gw_f z hp
    refine gw_bipush X 16 dX3_doer_14 rfl gw_cb_m2 ?_
    cases hp
    exact gw_iret X dX3_doer_16 (fun _ h => ⟨rfl, h⟩) (Nat.le_of_ble_eq_true rfl) (Nat.le_of_ble_eq_true rfl)
abbrev rm_X3_asked : Room := { frames := 5, cells := 0, slots := 0, locals := 111 }
def fx_X3_asked_L53 {τ : Type} (k : Int32 → Option (τ)) (σ : gw_S) (v1 : Int32) (v3 : Int32) (v4 : Int32) : Nat → Int32 → Int32 → Option (τ)
  | 0, _, _ => none
  | n + 1, c5, c6 => (if c6 = v1 then k c5 else gw_ck c6 8 (fx_X3_asked_L53 k σ v1 v3 v4 n (c5 + 1) (σ.1 11 (Int32.toNatClampNeg c6))))
def fx_X3_asked_L92 (σ : gw_S) (v3 : Int32) : Nat → Int32 → Int32 → Option (Int32 × gw_S)
  | 0, _, _ => none
  | n + 1, c6, c7 => (if c7 ≤ v3 then some (c6, σ) else gw_ck c6 8 (fx_X3_asked_L92 σ v3 n (σ.1 11 (Int32.toNatClampNeg c6)) (c7 + (-1))))
def fx_X3_asked (σ : gw_S) (x1 : Int32) (x2 : Int32) (x3 : Int32) : Option (Int32 × gw_S) := gw_let (gw_u σ 0 0 0) (fun σ1 => (if fx_X3_isChain σ1 x1 x2 = true then gw_b1 (fx_X3_laysNow σ1) (fun σ3 => gw_b1 (fx_X3_doerOf σ3 x1 x2) (fun r5 => (if r5 = (-1 : Int32) then some ((-1), σ3) else (if 0 ≤ x3 then gw_ck r5 8 (fx_X3_asked_L53 (fun (e7 : Int32) => (if x3 < e7 then fx_X3_asked_L92 σ3 x3 1000 r5 (e7 - (1 : Int32)) else some ((-1), σ3))) σ3 x1 x3 r5 1000 (1 : Int32) (σ3.1 11 (Int32.toNatClampNeg r5))) else some ((-1), σ3))))) else some ((-2), σ1)))
set_option maxHeartbeats 4000000 in
theorem wk_X3_asked_L53 {E : gw_E} {l : Launch} {D : gw_D} {a : Nat → Nat} {Wr : va_W → Prop} {σ : gw_S} {τ : Type} {res : τ} {post : Option (Option Value → va_W → Prop)} (X : gw_X E cX3_asked 8 RX3 (some .int) l D rm_X3_asked post) {k : Int32 → Option (τ)} {v1 : Int32} {v3 : Int32} {v4 : Int32} : ∀ {n : Nat} {c5 : Int32} {c6 : Int32}, fx_X3_asked_L53 k σ v1 v3 v4 n c5 c6 = some res → (∀ (c5 : Int32), k c5 = some res → gw_W E 74 [(0, .ref (a 0)), (3, .int v3), (4, .int v4), (5, .int c5)] [] (gw_st (wM D a σ) Wr) 0 0) → gw_W E 53 [(0, .ref (a 0)), (1, .int v1), (3, .int v3), (4, .int v4), (5, .int c5), (6, .int c6)] [] (gw_st (wM D a σ) Wr) 0 0 := by
  intro n
  induction n with
  | zero =>
    intro c5 c6 hp hk
    cases (show none = some res from hp)
  | succ n ih =>
    intro c5 c6 hp hk
    rw [fx_X3_asked_L53] at hp
    refine gw_iload X 55 5 dX3_asked_53 rfl rfl ?_
    refine gw_iload_n X 56 1 dX3_asked_55 rfl rfl rfl ?_
    refine gw_icmp_eq X 74 59 dX3_asked_56 rfl rfl (fun z => ?_) (fun z => ?_)
    · replace hp := gw_t z hp
      refine gw_lv [0, 2, 3, 4] rfl ?_
      exact hk _ hp
    · replace hp := gw_f z hp
      refine gw_iinc X 62 4 [(5, .int (c5 + 1)), (0, .ref (a 0)), (1, .int v1), (3, .int v3), (4, .int v4), (6, .int c6)] dX3_asked_59 rfl rfl gw_ci_1 (by decide) rfl ?_
      refine gw_aload_n X 63 1 dX3_asked_62 rfl rfl rfl ?_
      refine gM_g0_21 X 66 q1415 dX3_asked_63 rfl ?_
      refine gw_iload X 68 5 dX3_asked_66 rfl rfl ?_
      obtain ⟨hc, hp⟩ := gw_ck_some hp
      refine gM_l11 X 69 (Int32.toNatClampNeg c6) hc rfl dX3_asked_68 rfl ?_
      refine gw_istore X 71 [(6, .int (σ.1 11 (Int32.toNatClampNeg c6))), (5, .int (c5 + 1)), (0, .ref (a 0)), (1, .int v1), (3, .int v3), (4, .int v4)] dX3_asked_69 rfl (by decide) rfl ?_
      refine gw_goto X 53 dX3_asked_71 rfl ?_
      refine gw_lv [2, 3, 4, 5, 1, 0] rfl ?_
      exact ih hp hk
set_option maxHeartbeats 4000000 in
theorem wk_X3_asked_L92 {E : gw_E} {l : Launch} {D : gw_D} {a : Nat → Nat} {Wr : va_W → Prop} {σ : gw_S} {res : Int32 × gw_S} (X : gw_X E cX3_asked 8 RX3 (some .int) l D rm_X3_asked (some (gw_pI res.1 (gw_st (wM D a res.2) Wr)))) {v3 : Int32} : ∀ {n : Nat} {c6 : Int32} {c7 : Int32}, fx_X3_asked_L92 σ v3 n c6 c7 = some res → gw_W E 92 [(0, .ref (a 0)), (3, .int v3), (6, .int c6), (7, .int c7)] [] (gw_st (wM D a σ) Wr) 0 0 := by
  intro n
  induction n with
  | zero =>
    intro c6 c7 hp
    cases (show none = some res from hp)
  | succ n ih =>
    intro c6 c7 hp
    rw [fx_X3_asked_L92] at hp
    refine gw_iload X 94 3 dX3_asked_92 rfl rfl ?_
    refine gw_iload_n X 95 1 dX3_asked_94 rfl rfl rfl ?_
    refine gw_icmp_le X 113 98 dX3_asked_95 rfl rfl (fun z => ?_) (fun z => ?_)
    · replace hp := gw_t z hp
      refine gw_iload X 115 2 dX3_asked_113 rfl rfl ?_
      cases hp
      exact gw_iret X dX3_asked_115 (fun _ h => ⟨rfl, h⟩) (Nat.le_of_ble_eq_true rfl) (Nat.le_of_ble_eq_true rfl)
    · replace hp := gw_f z hp
      refine gw_aload_n X 99 0 dX3_asked_98 rfl rfl rfl ?_
      refine gM_g0_21 X 102 q1415 dX3_asked_99 rfl ?_
      refine gw_iload X 104 2 dX3_asked_102 rfl rfl ?_
      obtain ⟨hc, hp⟩ := gw_ck_some hp
      refine gM_l11 X 105 (Int32.toNatClampNeg c6) hc rfl dX3_asked_104 rfl ?_
      refine gw_istore X 107 [(6, .int (σ.1 11 (Int32.toNatClampNeg c6))), (0, .ref (a 0)), (3, .int v3), (7, .int c7)] dX3_asked_105 rfl (by decide) rfl ?_
      refine gw_iinc X 110 3 [(7, .int (c7 + (-1))), (6, .int (σ.1 11 (Int32.toNatClampNeg c6))), (0, .ref (a 0)), (3, .int v3)] dX3_asked_107 rfl rfl gw_ci_m1 (by decide) rfl ?_
      refine gw_goto X 92 dX3_asked_110 rfl ?_
      refine gw_lv [2, 3, 1, 0] rfl ?_
      exact ih hp
set_option maxHeartbeats 4000000 in
theorem mt_X3_asked {l : Launch} {D : gw_D} {a : Nat → Nat} {Wr : va_W → Prop} {σ : gw_S} {x1 : Int32} {x2 : Int32} {x3 : Int32} {res : Int32 × gw_S} (hp : fx_X3_asked σ x1 x2 x3 = some res) : gw_Ct D l yX3_asked cX3_asked 8 (some .int) rm_X3_asked [.ref (a 0), .int x1, .int x2, .int x3] (gw_st (wM D a σ) Wr) (gw_pI res.1 (gw_st (wM D a res.2) Wr)) := by
  refine gw_ct (own := RX3) [(0, .ref (a 0)), (1, .int x1), (2, .int x2), (3, .int x3)] (by decide) rfl (Nat.le_of_ble_eq_true rfl) rfl ?_
  intro E X
  unfold fx_X3_asked at hp
  refine gw_aload_n X 1 0 dX3_asked_0 rfl rfl rfl ?_
  refine gw_iconst X 2 dX3_asked_1 rfl gw_ci_0 ?_
  refine gM_p0_0 X 5 q1394 dX3_asked_2 rfl ?_
  refine gw_aload_n X 6 0 dX3_asked_5 rfl rfl rfl ?_
  refine gw_iload_n X 7 1 dX3_asked_6 rfl rfl rfl ?_
  refine gw_iload_n X 8 2 dX3_asked_7 rfl rfl rfl ?_
  obtain ⟨σ1, h2, hp⟩ := gw_let_some hp
  rw [← h2]
  clear h2
  refine gw_callVi X 11 [.int x1, .int x2] (mt_X3_isChain rfl) lk_X3_281 ydv_X3_isChain gM_cl0 gM_at0 rfl rfl rfl dX3_asked_8 rfl rfl rfl ?_
  refine gw_if_neB X 17 14 dX3_asked_11 rfl rfl (fun z => ?_) (fun z => ?_)
  · replace hp := gw_t z hp
    refine gw_aload_n X 18 0 dX3_asked_17 rfl rfl rfl ?_
    obtain ⟨σ3, h4, hp⟩ := gw_b1_some hp
    refine gw_callVv X 21 [] (mt_X3_laysNow h4) lk_X3_251 ydv_X3_laysNow gM_cl0 gM_at0 rfl rfl rfl dX3_asked_18 rfl rfl rfl ?_
    refine gw_aload_n X 22 0 dX3_asked_21 rfl rfl rfl ?_
    refine gw_iload_n X 23 1 dX3_asked_22 rfl rfl rfl ?_
    refine gw_iload_n X 24 2 dX3_asked_23 rfl rfl rfl ?_
    obtain ⟨r5, h6, hp⟩ := gw_b1_some hp
    refine gw_callVi X 27 [.int x1, .int x2] (mt_X3_doerOf h6) lk_X3_284 ydv_X3_doerOf gM_cl0 gM_at0 rfl rfl rfl dX3_asked_24 rfl rfl rfl ?_
    refine gw_istore X 29 [(4, .int r5), (0, .ref (a 0)), (1, .int x1), (2, .int x2), (3, .int x3)] dX3_asked_27 rfl (by decide) rfl ?_
    refine gw_iload X 31 0 dX3_asked_29 rfl rfl ?_
    refine gw_iconst X 32 dX3_asked_31 rfl gw_ci_m1 ?_
    refine gw_icmp_eq X 39 35 dX3_asked_32 rfl rfl (fun z => ?_) (fun z => ?_)
    · replace hp := gw_t z hp
      refine gw_iconst X 40 dX3_asked_39 rfl gw_ci_m1 ?_
      cases hp
      exact gw_iret X dX3_asked_40 (fun _ h => ⟨rfl, h⟩) (Nat.le_of_ble_eq_true rfl) (Nat.le_of_ble_eq_true rfl)
    · replace hp := gw_f z hp
      refine gw_iload_n X 36 4 dX3_asked_35 rfl rfl rfl ?_
      refine gw_if_ge X 41 39 dX3_asked_36 rfl rfl (fun z => ?_) (fun z => ?_)
      · replace hp := gw_t z hp
        refine gw_iconst X 42 dX3_asked_41 rfl gw_ci_1 ?_
        refine gw_istore X 44 [(5, .int 1), (4, .int r5), (0, .ref (a 0)), (1, .int x1), (2, .int x2), (3, .int x3)] dX3_asked_42 rfl (by decide) rfl ?_
        refine gw_aload_n X 45 2 dX3_asked_44 rfl rfl rfl ?_
        refine gM_g0_21 X 48 q1415 dX3_asked_45 rfl ?_
        refine gw_iload X 50 1 dX3_asked_48 rfl rfl ?_
        obtain ⟨hc, hp⟩ := gw_ck_some hp
        refine gM_l11 X 51 (Int32.toNatClampNeg r5) hc rfl dX3_asked_50 rfl ?_
        refine gw_istore X 53 [(6, .int (σ3.1 11 (Int32.toNatClampNeg r5))), (5, .int 1), (4, .int r5), (0, .ref (a 0)), (1, .int x1), (2, .int x2), (3, .int x3)] dX3_asked_51 rfl (by decide) rfl ?_
        refine gw_lv [3, 4, 6, 2, 1, 0] rfl ?_
        refine wk_X3_asked_L53 X hp ?_
        clear hp
        intro e7 hp
        refine gw_iload_n X 75 1 dX3_asked_74 rfl rfl rfl ?_
        refine gw_iload X 77 3 dX3_asked_75 rfl rfl ?_
        refine gw_icmp_lt X 82 80 dX3_asked_77 rfl rfl (fun z => ?_) (fun z => ?_)
        · replace hp := gw_t z hp
          refine gw_iload X 84 2 dX3_asked_82 rfl rfl ?_
          refine gw_istore X 86 [(6, .int r5), (0, .ref (a 0)), (3, .int x3), (4, .int r5), (5, .int e7)] dX3_asked_84 rfl (by decide) rfl ?_
          refine gw_iload X 88 4 dX3_asked_86 rfl rfl ?_
          refine gw_iconst X 89 dX3_asked_88 rfl gw_ci_1 ?_
          refine gw_isub X 90 dX3_asked_89 rfl ?_
          refine gw_istore X 92 [(7, .int (e7 - (1 : Int32))), (6, .int r5), (0, .ref (a 0)), (3, .int x3), (4, .int r5), (5, .int e7)] dX3_asked_90 rfl (by decide) rfl ?_
          refine gw_lv [2, 3, 1, 0] rfl ?_
          exact wk_X3_asked_L92 X hp
        · replace hp := gw_f z hp
          refine gw_iconst X 81 dX3_asked_80 rfl gw_ci_m1 ?_
          cases hp
          exact gw_iret X dX3_asked_81 (fun _ h => ⟨rfl, h⟩) (Nat.le_of_ble_eq_true rfl) (Nat.le_of_ble_eq_true rfl)
      · replace hp := gw_f z hp
        refine gw_iconst X 40 dX3_asked_39 rfl gw_ci_m1 ?_
        cases hp
        exact gw_iret X dX3_asked_40 (fun _ h => ⟨rfl, h⟩) (Nat.le_of_ble_eq_true rfl) (Nat.le_of_ble_eq_true rfl)
  · replace hp := gw_f z hp
    refine gw_bipush X 16 dX3_asked_14 rfl gw_cb_m2 ?_
    cases hp
    exact gw_iret X dX3_asked_16 (fun _ h => ⟨rfl, h⟩) (Nat.le_of_ble_eq_true rfl) (Nat.le_of_ble_eq_true rfl)
abbrev rm_X3_can : Room := { frames := 5, cells := 0, slots := 0, locals := 111 }
def fx_X3_can_L25 (σ : gw_S) (v1 : Int32) : Nat → Int32 → Int32 → Option (Int32 × gw_S)
  | 0, _, _ => none
  | n + 1, c2, c3 => (if (6 : Int32) ≤ c3 then some (c2, σ) else gw_b1 (fx_X3_of σ v1 (2 : Int32)) (fun r5 => (if fx_X3_isBit r5 c3 = true then gw_b1 (fx_X3_doerOf σ v1 c3) (fun r7 => (if r7 = (-1 : Int32) then fx_X3_can_L25 σ v1 n (c2 ||| (0 : Int32)) (c3 + 1) else fx_X3_can_L25 σ v1 n (c2 ||| ((1 : Int32) <<< (c3 &&& 31))) (c3 + 1))) else fx_X3_can_L25 σ v1 n (c2 ||| (0 : Int32)) (c3 + 1))))
def fx_X3_can (σ : gw_S) (x1 : Int32) : Option (Int32 × gw_S) := gw_let (gw_u σ 0 0 0) (fun σ1 => (if fx_X3_isPerson σ1 (Int32.toInt64 x1) = true then gw_b1 (fx_X3_laysNow σ1) (fun σ3 => fx_X3_can_L25 σ3 x1 1000 (0 : Int32) (0 : Int32)) else some ((-2), σ1)))
set_option maxHeartbeats 4000000 in
theorem wk_X3_can_L25 {E : gw_E} {l : Launch} {D : gw_D} {a : Nat → Nat} {Wr : va_W → Prop} {σ : gw_S} {res : Int32 × gw_S} (X : gw_X E cX3_can 4 RX3 (some .int) l D rm_X3_can (some (gw_pI res.1 (gw_st (wM D a res.2) Wr)))) {v1 : Int32} : ∀ {n : Nat} {c2 : Int32} {c3 : Int32}, fx_X3_can_L25 σ v1 n c2 c3 = some res → gw_W E 25 [(0, .ref (a 0)), (1, .int v1), (2, .int c2), (3, .int c3)] [] (gw_st (wM D a σ) Wr) 0 0 := by
  intro n
  induction n with
  | zero =>
    intro c2 c3 hp
    cases (show none = some res from hp)
  | succ n ih =>
    intro c2 c3 hp
    rw [fx_X3_can_L25] at hp
    refine gw_iload_n X 26 3 dX3_can_25 rfl rfl rfl ?_
    refine gw_bipush X 28 dX3_can_26 rfl gw_cb_6 ?_
    refine gw_icmp_ge X 70 31 dX3_can_28 rfl rfl (fun z => ?_) (fun z => ?_)
    · replace hp := gw_t z hp
      refine gw_iload_n X 71 2 dX3_can_70 rfl rfl rfl ?_
      cases hp
      exact gw_iret X dX3_can_71 (fun _ h => ⟨rfl, h⟩) (Nat.le_of_ble_eq_true rfl) (Nat.le_of_ble_eq_true rfl)
    · replace hp := gw_f z hp
      refine gw_iload_n X 32 2 dX3_can_31 rfl rfl rfl ?_
      refine gw_aload_n X 33 0 dX3_can_32 rfl rfl rfl ?_
      refine gw_iload_n X 34 1 dX3_can_33 rfl rfl rfl ?_
      refine gw_iconst X 35 dX3_can_34 rfl gw_ci_2 ?_
      obtain ⟨r5, h6, hp⟩ := gw_b1_some hp
      refine gw_callVi X 38 [.int v1, .int 2] (mt_X3_of h6) lk_X3_214 ydv_X3_of gM_cl0 gM_at0 rfl rfl rfl dX3_can_35 rfl rfl rfl ?_
      refine gw_iload_n X 39 3 dX3_can_38 rfl rfl rfl ?_
      refine gw_callSi X 42 [.int r5, .int c3] (mt_X3_isBit rfl) lk_X3_239 yd_X3_isBit rfl rfl rfl dX3_can_39 rfl rfl rfl ?_
      refine gw_if_eqB X 61 45 dX3_can_42 rfl rfl (fun z => ?_) (fun z => ?_)
      · replace hp := gw_f z hp
        refine gw_iconst X 62 dX3_can_61 rfl gw_ci_0 ?_
        refine gw_ior X 63 dX3_can_62 rfl ?_
        refine gw_istore_n X 64 [(2, .int (c2 ||| (0 : Int32))), (0, .ref (a 0)), (1, .int v1), (3, .int c3)] dX3_can_63 rfl rfl (by decide) rfl ?_
        refine gw_iinc X 67 3 [(3, .int (c3 + 1)), (2, .int (c2 ||| (0 : Int32))), (0, .ref (a 0)), (1, .int v1)] dX3_can_64 rfl rfl gw_ci_1 (by decide) rfl ?_
        refine gw_goto X 25 dX3_can_67 rfl ?_
        refine gw_lv [2, 3, 1, 0] rfl ?_
        exact ih hp
      · replace hp := gw_t z hp
        refine gw_aload_n X 46 0 dX3_can_45 rfl rfl rfl ?_
        refine gw_iload_n X 47 1 dX3_can_46 rfl rfl rfl ?_
        refine gw_iload_n X 48 3 dX3_can_47 rfl rfl rfl ?_
        obtain ⟨r7, h8, hp⟩ := gw_b1_some hp
        refine gw_callVi X 51 [.int v1, .int c3] (mt_X3_doerOf h8) lk_X3_284 ydv_X3_doerOf gM_cl0 gM_at0 rfl rfl rfl dX3_can_48 rfl rfl rfl ?_
        refine gw_iconst X 52 dX3_can_51 rfl gw_ci_m1 ?_
        refine gw_icmp_eq X 61 55 dX3_can_52 rfl rfl (fun z => ?_) (fun z => ?_)
        · replace hp := gw_t z hp
          refine gw_iconst X 62 dX3_can_61 rfl gw_ci_0 ?_
          refine gw_ior X 63 dX3_can_62 rfl ?_
          refine gw_istore_n X 64 [(2, .int (c2 ||| (0 : Int32))), (0, .ref (a 0)), (1, .int v1), (3, .int c3)] dX3_can_63 rfl rfl (by decide) rfl ?_
          refine gw_iinc X 67 3 [(3, .int (c3 + 1)), (2, .int (c2 ||| (0 : Int32))), (0, .ref (a 0)), (1, .int v1)] dX3_can_64 rfl rfl gw_ci_1 (by decide) rfl ?_
          refine gw_goto X 25 dX3_can_67 rfl ?_
          refine gw_lv [2, 3, 1, 0] rfl ?_
          exact ih hp
        · replace hp := gw_f z hp
          refine gw_iconst X 56 dX3_can_55 rfl gw_ci_1 ?_
          refine gw_iload_n X 57 3 dX3_can_56 rfl rfl rfl ?_
          refine gw_ishl X 58 dX3_can_57 rfl ?_
          refine gw_goto X 62 dX3_can_58 rfl ?_
          refine gw_ior X 63 dX3_can_62 rfl ?_
          refine gw_istore_n X 64 [(2, .int (c2 ||| ((1 : Int32) <<< (c3 &&& 31)))), (0, .ref (a 0)), (1, .int v1), (3, .int c3)] dX3_can_63 rfl rfl (by decide) rfl ?_
          refine gw_iinc X 67 3 [(3, .int (c3 + 1)), (2, .int (c2 ||| ((1 : Int32) <<< (c3 &&& 31)))), (0, .ref (a 0)), (1, .int v1)] dX3_can_64 rfl rfl gw_ci_1 (by decide) rfl ?_
          refine gw_goto X 25 dX3_can_67 rfl ?_
          refine gw_lv [2, 3, 1, 0] rfl ?_
          exact ih hp
set_option maxHeartbeats 4000000 in
theorem mt_X3_can {l : Launch} {D : gw_D} {a : Nat → Nat} {Wr : va_W → Prop} {σ : gw_S} {x1 : Int32} {res : Int32 × gw_S} (hp : fx_X3_can σ x1 = some res) : gw_Ct D l yX3_can cX3_can 4 (some .int) rm_X3_can [.ref (a 0), .int x1] (gw_st (wM D a σ) Wr) (gw_pI res.1 (gw_st (wM D a res.2) Wr)) := by
  refine gw_ct (own := RX3) [(0, .ref (a 0)), (1, .int x1)] (by decide) rfl (Nat.le_of_ble_eq_true rfl) rfl ?_
  intro E X
  unfold fx_X3_can at hp
  refine gw_aload_n X 1 0 dX3_can_0 rfl rfl rfl ?_
  refine gw_iconst X 2 dX3_can_1 rfl gw_ci_0 ?_
  refine gM_p0_0 X 5 q1394 dX3_can_2 rfl ?_
  refine gw_aload_n X 6 0 dX3_can_5 rfl rfl rfl ?_
  refine gw_iload_n X 7 1 dX3_can_6 rfl rfl rfl ?_
  refine gw_i2l X 8 dX3_can_7 rfl ?_
  obtain ⟨σ1, h2, hp⟩ := gw_let_some hp
  rw [← h2]
  clear h2
  refine gw_callVi X 11 [.long (Int32.toInt64 x1)] (mt_X3_isPerson rfl) lk_X3_206 ydv_X3_isPerson gM_cl0 gM_at0 rfl rfl rfl dX3_can_8 rfl rfl rfl ?_
  refine gw_if_neB X 17 14 dX3_can_11 rfl rfl (fun z => ?_) (fun z => ?_)
  · replace hp := gw_t z hp
    refine gw_aload_n X 18 0 dX3_can_17 rfl rfl rfl ?_
    obtain ⟨σ3, h4, hp⟩ := gw_b1_some hp
    refine gw_callVv X 21 [] (mt_X3_laysNow h4) lk_X3_251 ydv_X3_laysNow gM_cl0 gM_at0 rfl rfl rfl dX3_can_18 rfl rfl rfl ?_
    refine gw_iconst X 22 dX3_can_21 rfl gw_ci_0 ?_
    refine gw_istore_n X 23 [(2, .int 0), (0, .ref (a 0)), (1, .int x1)] dX3_can_22 rfl rfl (by decide) rfl ?_
    refine gw_iconst X 24 dX3_can_23 rfl gw_ci_0 ?_
    refine gw_istore_n X 25 [(3, .int 0), (2, .int 0), (0, .ref (a 0)), (1, .int x1)] dX3_can_24 rfl rfl (by decide) rfl ?_
    refine gw_lv [2, 3, 1, 0] rfl ?_
    exact wk_X3_can_L25 X hp
  · replace hp := gw_f z hp
    refine gw_bipush X 16 dX3_can_14 rfl gw_cb_m2 ?_
    cases hp
    exact gw_iret X dX3_can_16 (fun _ h => ⟨rfl, h⟩) (Nat.le_of_ble_eq_true rfl) (Nat.le_of_ble_eq_true rfl)
abbrev rm_X3_whyOf : Room := { frames := 1, cells := 0, slots := 0, locals := 22 }
def fx_X3_whyOf (σ : gw_S) (x1 : Int32) (x2 : Int32) (x3 : Int32) : Option (Int32) := gw_ck x2 8 ((if (σ.1 11 (Int32.toNatClampNeg x2)) = x1 then (if fx_X3_isBit (σ.1 0 24) x2 = true then some 2 else (if x3 = (-1 : Int32) then some 0 else gw_b1 (fx_X3_of σ x2 (1 : Int32)) (fun r1 => (if fx_X3_isBit r1 x3 = true then some 0 else some 3)))) else some 1))
set_option maxHeartbeats 4000000 in
theorem mt_X3_whyOf {l : Launch} {D : gw_D} {a : Nat → Nat} {Wr : va_W → Prop} {σ : gw_S} {x1 : Int32} {x2 : Int32} {x3 : Int32} {res : Int32} (hp : fx_X3_whyOf σ x1 x2 x3 = some res) : gw_Ct D l yX3_whyOf cX3_whyOf 4 (some .int) rm_X3_whyOf [.ref (a 0), .int x1, .int x2, .int x3] (gw_st (wM D a σ) Wr) (gw_pI res (gw_st (wM D a σ) Wr)) := by
  refine gw_ct (own := RX3) [(0, .ref (a 0)), (1, .int x1), (2, .int x2), (3, .int x3)] (by decide) rfl (Nat.le_of_ble_eq_true rfl) rfl ?_
  intro E X
  unfold fx_X3_whyOf at hp
  refine gw_aload_n X 1 0 dX3_whyOf_0 rfl rfl rfl ?_
  refine gM_g0_21 X 4 q1415 dX3_whyOf_1 rfl ?_
  refine gw_iload_n X 5 2 dX3_whyOf_4 rfl rfl rfl ?_
  obtain ⟨hc, hp⟩ := gw_ck_some hp
  refine gM_l11 X 6 (Int32.toNatClampNeg x2) hc rfl dX3_whyOf_5 rfl ?_
  refine gw_iload_n X 7 1 dX3_whyOf_6 rfl rfl rfl ?_
  refine gw_icmp_eq X 12 10 dX3_whyOf_7 rfl rfl (fun z => ?_) (fun z => ?_)
  · replace hp := gw_t z hp
    refine gw_aload_n X 13 0 dX3_whyOf_12 rfl rfl rfl ?_
    refine gM_g0_24 X 16 q1418 dX3_whyOf_13 rfl ?_
    refine gw_iload_n X 17 2 dX3_whyOf_16 rfl rfl rfl ?_
    refine gw_callSi X 20 [.int (σ.1 0 24), .int x2] (mt_X3_isBit rfl) lk_X3_239 yd_X3_isBit rfl rfl rfl dX3_whyOf_17 rfl rfl rfl ?_
    refine gw_if_eqB X 25 23 dX3_whyOf_20 rfl rfl (fun z => ?_) (fun z => ?_)
    · replace hp := gw_f z hp
      refine gw_iload_n X 26 3 dX3_whyOf_25 rfl rfl rfl ?_
      refine gw_iconst X 27 dX3_whyOf_26 rfl gw_ci_m1 ?_
      refine gw_icmp_eq X 47 30 dX3_whyOf_27 rfl rfl (fun z => ?_) (fun z => ?_)
      · replace hp := gw_t z hp
        refine gw_iconst X 48 dX3_whyOf_47 rfl gw_ci_0 ?_
        cases hp
        exact gw_iret X dX3_whyOf_48 (fun _ h => ⟨rfl, h⟩) (Nat.le_of_ble_eq_true rfl) (Nat.le_of_ble_eq_true rfl)
      · replace hp := gw_f z hp
        refine gw_aload_n X 31 0 dX3_whyOf_30 rfl rfl rfl ?_
        refine gw_iload_n X 32 2 dX3_whyOf_31 rfl rfl rfl ?_
        refine gw_iconst X 33 dX3_whyOf_32 rfl gw_ci_1 ?_
        obtain ⟨r1, h2, hp⟩ := gw_b1_some hp
        refine gw_callVi X 36 [.int x2, .int 1] (mt_X3_of h2) lk_X3_214 ydv_X3_of gM_cl0 gM_at0 rfl rfl rfl dX3_whyOf_33 rfl rfl rfl ?_
        refine gw_iload_n X 37 3 dX3_whyOf_36 rfl rfl rfl ?_
        refine gw_callSi X 40 [.int r1, .int x3] (mt_X3_isBit rfl) lk_X3_239 yd_X3_isBit rfl rfl rfl dX3_whyOf_37 rfl rfl rfl ?_
        refine gw_if_neB X 47 43 dX3_whyOf_40 rfl rfl (fun z => ?_) (fun z => ?_)
        · replace hp := gw_t z hp
          refine gw_iconst X 48 dX3_whyOf_47 rfl gw_ci_0 ?_
          cases hp
          exact gw_iret X dX3_whyOf_48 (fun _ h => ⟨rfl, h⟩) (Nat.le_of_ble_eq_true rfl) (Nat.le_of_ble_eq_true rfl)
        · replace hp := gw_f z hp
          refine gw_iconst X 44 dX3_whyOf_43 rfl gw_ci_3 ?_
          refine gw_goto X 48 dX3_whyOf_44 rfl ?_
          cases hp
          exact gw_iret X dX3_whyOf_48 (fun _ h => ⟨rfl, h⟩) (Nat.le_of_ble_eq_true rfl) (Nat.le_of_ble_eq_true rfl)
    · replace hp := gw_t z hp
      refine gw_iconst X 24 dX3_whyOf_23 rfl gw_ci_2 ?_
      cases hp
      exact gw_iret X dX3_whyOf_24 (fun _ h => ⟨rfl, h⟩) (Nat.le_of_ble_eq_true rfl) (Nat.le_of_ble_eq_true rfl)
  · replace hp := gw_f z hp
    refine gw_iconst X 11 dX3_whyOf_10 rfl gw_ci_1 ?_
    cases hp
    exact gw_iret X dX3_whyOf_11 (fun _ h => ⟨rfl, h⟩) (Nat.le_of_ble_eq_true rfl) (Nat.le_of_ble_eq_true rfl)
abbrev rm_X3_why : Room := { frames := 5, cells := 0, slots := 0, locals := 111 }
def fx_X3_why (σ : gw_S) (x1 : Int32) (x2 : Int32) (x3 : Int32) : Option (Int32 × gw_S) := gw_let (gw_u σ 0 0 0) (fun σ1 => (if fx_X3_arePeople σ1 x1 x2 = true then (if fx_X3_isDeed (Int32.toInt64 x3) = true then gw_b1 (fx_X3_laysNow σ1) (fun σ3 => gw_b1 (fx_X3_whyOf σ3 x1 x2 x3) (fun r5 => some (r5, σ3))) else some ((-2), σ1)) else some ((-2), σ1)))
set_option maxHeartbeats 4000000 in
theorem mt_X3_why {l : Launch} {D : gw_D} {a : Nat → Nat} {Wr : va_W → Prop} {σ : gw_S} {x1 : Int32} {x2 : Int32} {x3 : Int32} {res : Int32 × gw_S} (hp : fx_X3_why σ x1 x2 x3 = some res) : gw_Ct D l yX3_why cX3_why 4 (some .int) rm_X3_why [.ref (a 0), .int x1, .int x2, .int x3] (gw_st (wM D a σ) Wr) (gw_pI res.1 (gw_st (wM D a res.2) Wr)) := by
  refine gw_ct (own := RX3) [(0, .ref (a 0)), (1, .int x1), (2, .int x2), (3, .int x3)] (by decide) rfl (Nat.le_of_ble_eq_true rfl) rfl ?_
  intro E X
  unfold fx_X3_why at hp
  refine gw_aload_n X 1 0 dX3_why_0 rfl rfl rfl ?_
  refine gw_iconst X 2 dX3_why_1 rfl gw_ci_0 ?_
  refine gM_p0_0 X 5 q1394 dX3_why_2 rfl ?_
  refine gw_aload_n X 6 0 dX3_why_5 rfl rfl rfl ?_
  refine gw_iload_n X 7 1 dX3_why_6 rfl rfl rfl ?_
  refine gw_iload_n X 8 2 dX3_why_7 rfl rfl rfl ?_
  obtain ⟨σ1, h2, hp⟩ := gw_let_some hp
  rw [← h2]
  clear h2
  refine gw_callVi X 11 [.int x1, .int x2] (mt_X3_arePeople rfl) lk_X3_266 ydv_X3_arePeople gM_cl0 gM_at0 rfl rfl rfl dX3_why_8 rfl rfl rfl ?_
  refine gw_if_eqB X 22 14 dX3_why_11 rfl rfl (fun z => ?_) (fun z => ?_)
  · replace hp := gw_f z hp
    refine gw_bipush X 24 dX3_why_22 rfl gw_cb_m2 ?_
    cases hp
    exact gw_iret X dX3_why_24 (fun _ h => ⟨rfl, h⟩) (Nat.le_of_ble_eq_true rfl) (Nat.le_of_ble_eq_true rfl)
  · replace hp := gw_t z hp
    refine gw_iload_n X 15 3 dX3_why_14 rfl rfl rfl ?_
    refine gw_i2l X 16 dX3_why_15 rfl ?_
    refine gw_callSi X 19 [.long (Int32.toInt64 x3)] (mt_X3_isDeed rfl) lk_X3_278 yd_X3_isDeed rfl rfl rfl dX3_why_16 rfl rfl rfl ?_
    refine gw_if_neB X 25 22 dX3_why_19 rfl rfl (fun z => ?_) (fun z => ?_)
    · replace hp := gw_t z hp
      refine gw_aload_n X 26 0 dX3_why_25 rfl rfl rfl ?_
      obtain ⟨σ3, h4, hp⟩ := gw_b1_some hp
      refine gw_callVv X 29 [] (mt_X3_laysNow h4) lk_X3_251 ydv_X3_laysNow gM_cl0 gM_at0 rfl rfl rfl dX3_why_26 rfl rfl rfl ?_
      refine gw_aload_n X 30 0 dX3_why_29 rfl rfl rfl ?_
      refine gw_iload_n X 31 1 dX3_why_30 rfl rfl rfl ?_
      refine gw_iload_n X 32 2 dX3_why_31 rfl rfl rfl ?_
      refine gw_iload_n X 33 3 dX3_why_32 rfl rfl rfl ?_
      obtain ⟨r5, h6, hp⟩ := gw_b1_some hp
      refine gw_callVi X 36 [.int x1, .int x2, .int x3] (mt_X3_whyOf h6) lk_X3_287 ydv_X3_whyOf gM_cl0 gM_at0 rfl rfl rfl dX3_why_33 rfl rfl rfl ?_
      cases hp
      exact gw_iret X dX3_why_36 (fun _ h => ⟨rfl, h⟩) (Nat.le_of_ble_eq_true rfl) (Nat.le_of_ble_eq_true rfl)
    · replace hp := gw_f z hp
      refine gw_bipush X 24 dX3_why_22 rfl gw_cb_m2 ?_
      cases hp
      exact gw_iret X dX3_why_24 (fun _ h => ⟨rfl, h⟩) (Nat.le_of_ble_eq_true rfl) (Nat.le_of_ble_eq_true rfl)
abbrev rm_X3_isFull : Room := { frames := 0, cells := 0, slots := 0, locals := 0 }
def fx_X3_isFull (σ : gw_S)  : Bool := (if (σ.1 7 2) = (40 : Int32) then true else false)
set_option maxHeartbeats 4000000 in
theorem mt_X3_isFull {l : Launch} {D : gw_D} {a : Nat → Nat} {Wr : va_W → Prop} {σ : gw_S}  {res : Bool} (hp : fx_X3_isFull σ  = res) : gw_Ct D l yX3_isFull cX3_isFull 1 (some .boolean) rm_X3_isFull [.ref (a 0)] (gw_st (wM D a σ) Wr) (gw_pI (gw_b res) (gw_st (wM D a σ) Wr)) := by
  refine gw_ct (own := RX3) [(0, .ref (a 0))] (by decide) rfl (Nat.le_of_ble_eq_true rfl) rfl ?_
  intro E X
  unfold fx_X3_isFull at hp
  refine gw_aload_n X 1 0 dX3_isFull_0 rfl rfl rfl ?_
  refine gM_g0_17 X 4 q1411 dX3_isFull_1 rfl ?_
  refine gw_iconst X 5 dX3_isFull_4 rfl gw_ci_2 ?_
  refine gM_l7 X 6 2 (gw_in rfl) rfl dX3_isFull_5 rfl ?_
  refine gw_bipush X 8 dX3_isFull_6 rfl gw_cb_40 ?_
  refine gw_icmp_ne X 15 11 dX3_isFull_8 rfl rfl (fun z => ?_) (fun z => ?_)
  · replace hp := gw_f z hp
    refine gw_iconst X 16 dX3_isFull_15 rfl gw_ci_0 ?_
    cases hp
    exact gw_zret0 X dX3_isFull_16 (fun _ h => ⟨rfl, h⟩) (Nat.le_of_ble_eq_true rfl) (Nat.le_of_ble_eq_true rfl)
  · replace hp := gw_t z hp
    refine gw_iconst X 12 dX3_isFull_11 rfl gw_ci_1 ?_
    refine gw_goto X 16 dX3_isFull_12 rfl ?_
    cases hp
    exact gw_zret1 X dX3_isFull_16 (fun _ h => ⟨rfl, h⟩) (Nat.le_of_ble_eq_true rfl) (Nat.le_of_ble_eq_true rfl)
abbrev rm_X3_acts : Room := { frames := 0, cells := 0, slots := 0, locals := 0 }
def fx_X3_acts (σ : gw_S) (x1 : Int32) (x2 : Int32) (x3 : Int32) (x4 : Int32) (x5 : Int32) : Option (gw_S) := gw_ck ((5 : Int32) * (σ.1 7 2)) 1000 (gw_let (gw_u σ 9 (Int32.toNatClampNeg ((5 : Int32) * (σ.1 7 2))) x1) (fun σ1 => gw_ck (((5 : Int32) * (σ.1 7 2)) + (1 : Int32)) 1000 (gw_let (gw_u σ1 9 (Int32.toNatClampNeg (((5 : Int32) * (σ.1 7 2)) + (1 : Int32))) x2) (fun σ3 => gw_ck (((5 : Int32) * (σ.1 7 2)) + (2 : Int32)) 1000 (gw_let (gw_u σ3 9 (Int32.toNatClampNeg (((5 : Int32) * (σ.1 7 2)) + (2 : Int32))) x3) (fun σ5 => gw_ck (((5 : Int32) * (σ.1 7 2)) + (3 : Int32)) 1000 (gw_let (gw_u σ5 9 (Int32.toNatClampNeg (((5 : Int32) * (σ.1 7 2)) + (3 : Int32))) x4) (fun σ7 => gw_ck (((5 : Int32) * (σ.1 7 2)) + (4 : Int32)) 1000 (gw_let (gw_u σ7 9 (Int32.toNatClampNeg (((5 : Int32) * (σ.1 7 2)) + (4 : Int32))) x5) (fun σ9 => some (gw_u σ9 7 2 ((σ9.1 7 2) + (1 : Int32)))))))))))))
set_option maxHeartbeats 4000000 in
theorem mt_X3_acts {l : Launch} {D : gw_D} {a : Nat → Nat} {Wr : va_W → Prop} {σ : gw_S} {x1 : Int32} {x2 : Int32} {x3 : Int32} {x4 : Int32} {x5 : Int32} {res : gw_S} (hp : fx_X3_acts σ x1 x2 x3 x4 x5 = some res) : gw_Ct D l yX3_acts cX3_acts 7 none rm_X3_acts [.ref (a 0), .int x1, .int x2, .int x3, .int x4, .int x5] (gw_st (wM D a σ) Wr) (gw_pV (gw_st (wM D a res) Wr)) := by
  refine gw_ct (own := RX3) [(0, .ref (a 0)), (1, .int x1), (2, .int x2), (3, .int x3), (4, .int x4), (5, .int x5)] (by decide) rfl (Nat.le_of_ble_eq_true rfl) rfl ?_
  intro E X
  unfold fx_X3_acts at hp
  refine gw_iconst X 1 dX3_acts_0 rfl gw_ci_5 ?_
  refine gw_aload_n X 2 0 dX3_acts_1 rfl rfl rfl ?_
  refine gM_g0_17 X 5 q1411 dX3_acts_2 rfl ?_
  refine gw_iconst X 6 dX3_acts_5 rfl gw_ci_2 ?_
  refine gM_l7 X 7 2 (gw_in rfl) rfl dX3_acts_6 rfl ?_
  refine gw_imul X 8 dX3_acts_7 rfl ?_
  refine gw_istore X 10 [(6, .int ((5 : Int32) * (σ.1 7 2))), (0, .ref (a 0)), (1, .int x1), (2, .int x2), (3, .int x3), (4, .int x4), (5, .int x5)] dX3_acts_8 rfl (by decide) rfl ?_
  refine gw_aload_n X 11 1 dX3_acts_10 rfl rfl rfl ?_
  refine gM_g0_19 X 14 q1413 dX3_acts_11 rfl ?_
  refine gw_iload X 16 0 dX3_acts_14 rfl rfl ?_
  refine gw_iload_n X 17 2 dX3_acts_16 rfl rfl rfl ?_
  obtain ⟨hc, hp⟩ := gw_ck_some hp
  refine gM_s9 X 18 (Int32.toNatClampNeg ((5 : Int32) * (σ.1 7 2))) hc rfl dX3_acts_17 rfl ?_
  refine gw_aload_n X 19 1 dX3_acts_18 rfl rfl rfl ?_
  obtain ⟨σ1, h2, hp⟩ := gw_let_some hp
  rw [← h2]
  clear h2
  refine gM_g0_19 X 22 q1413 dX3_acts_19 rfl ?_
  refine gw_iload X 24 0 dX3_acts_22 rfl rfl ?_
  refine gw_iconst X 25 dX3_acts_24 rfl gw_ci_1 ?_
  refine gw_iadd X 26 dX3_acts_25 rfl ?_
  refine gw_iload_n X 27 3 dX3_acts_26 rfl rfl rfl ?_
  obtain ⟨hc, hp⟩ := gw_ck_some hp
  refine gM_s9 X 28 (Int32.toNatClampNeg (((5 : Int32) * (σ.1 7 2)) + (1 : Int32))) hc rfl dX3_acts_27 rfl ?_
  refine gw_aload_n X 29 1 dX3_acts_28 rfl rfl rfl ?_
  obtain ⟨σ3, h4, hp⟩ := gw_let_some hp
  rw [← h4]
  clear h4
  refine gM_g0_19 X 32 q1413 dX3_acts_29 rfl ?_
  refine gw_iload X 34 0 dX3_acts_32 rfl rfl ?_
  refine gw_iconst X 35 dX3_acts_34 rfl gw_ci_2 ?_
  refine gw_iadd X 36 dX3_acts_35 rfl ?_
  refine gw_iload_n X 37 4 dX3_acts_36 rfl rfl rfl ?_
  obtain ⟨hc, hp⟩ := gw_ck_some hp
  refine gM_s9 X 38 (Int32.toNatClampNeg (((5 : Int32) * (σ.1 7 2)) + (2 : Int32))) hc rfl dX3_acts_37 rfl ?_
  refine gw_aload_n X 39 1 dX3_acts_38 rfl rfl rfl ?_
  obtain ⟨σ5, h6, hp⟩ := gw_let_some hp
  rw [← h6]
  clear h6
  refine gM_g0_19 X 42 q1413 dX3_acts_39 rfl ?_
  refine gw_iload X 44 0 dX3_acts_42 rfl rfl ?_
  refine gw_iconst X 45 dX3_acts_44 rfl gw_ci_3 ?_
  refine gw_iadd X 46 dX3_acts_45 rfl ?_
  refine gw_iload X 48 5 dX3_acts_46 rfl rfl ?_
  obtain ⟨hc, hp⟩ := gw_ck_some hp
  refine gM_s9 X 49 (Int32.toNatClampNeg (((5 : Int32) * (σ.1 7 2)) + (3 : Int32))) hc rfl dX3_acts_48 rfl ?_
  refine gw_aload_n X 50 1 dX3_acts_49 rfl rfl rfl ?_
  obtain ⟨σ7, h8, hp⟩ := gw_let_some hp
  rw [← h8]
  clear h8
  refine gM_g0_19 X 53 q1413 dX3_acts_50 rfl ?_
  refine gw_iload X 55 0 dX3_acts_53 rfl rfl ?_
  refine gw_iconst X 56 dX3_acts_55 rfl gw_ci_4 ?_
  refine gw_iadd X 57 dX3_acts_56 rfl ?_
  refine gw_iload X 59 6 dX3_acts_57 rfl rfl ?_
  obtain ⟨hc, hp⟩ := gw_ck_some hp
  refine gM_s9 X 60 (Int32.toNatClampNeg (((5 : Int32) * (σ.1 7 2)) + (4 : Int32))) hc rfl dX3_acts_59 rfl ?_
  refine gw_aload_n X 61 1 dX3_acts_60 rfl rfl rfl ?_
  obtain ⟨σ9, h10, hp⟩ := gw_let_some hp
  rw [← h10]
  clear h10
  refine gM_g0_17 X 64 q1411 dX3_acts_61 rfl ?_
  refine gw_iconst X 65 dX3_acts_64 rfl gw_ci_2 ?_
  refine gw_dup2 X 66 dX3_acts_65 rfl rfl rfl ?_
  refine gM_l7 X 67 2 (gw_in rfl) rfl dX3_acts_66 rfl ?_
  refine gw_iconst X 68 dX3_acts_67 rfl gw_ci_1 ?_
  refine gw_iadd X 69 dX3_acts_68 rfl ?_
  refine gM_s7 X 70 2 (gw_in rfl) rfl dX3_acts_69 rfl ?_
  cases hp
  exact gw_vret X dX3_acts_70 (fun _ h => ⟨rfl, h⟩) (Nat.le_of_ble_eq_true rfl) (Nat.le_of_ble_eq_true rfl)
abbrev rm_X3_ask : Room := { frames := 5, cells := 0, slots := 0, locals := 111 }
def fx_X3_ask (σ : gw_S) (x1 : Int32) (x2 : Int32) (x3 : Int32) : Option (Int32 × gw_S) := gw_let (gw_u σ 0 0 0) (fun σ1 => (if fx_X3_arePeople σ1 x1 x2 = true then (if fx_X3_isDeed (Int32.toInt64 x3) = true then gw_b1 (fx_X3_laysNow σ1) (fun σ3 => gw_b1 (fx_X3_whyOf σ3 x1 x2 x3) (fun r5 => (if r5 = 0 then (if fx_X3_isFull σ3 = true then some ((-5), σ3) else gw_b1 (fx_X3_acts σ3 (0 : Int32) x1 x2 x3 (0 : Int32)) (fun σ7 => gw_b1 (fx_X3_readable σ7 x2) (fun r9 => gw_ck x2 8 (some ((r9 - (σ7.1 12 (Int32.toNatClampNeg x2))) - (1 : Int32), σ7))))) else some ((-5), σ3)))) else some ((-2), σ1)) else some ((-2), σ1)))
set_option maxHeartbeats 4000000 in
theorem mt_X3_ask {l : Launch} {D : gw_D} {a : Nat → Nat} {Wr : va_W → Prop} {σ : gw_S} {x1 : Int32} {x2 : Int32} {x3 : Int32} {res : Int32 × gw_S} (hp : fx_X3_ask σ x1 x2 x3 = some res) : gw_Ct D l yX3_ask cX3_ask 4 (some .int) rm_X3_ask [.ref (a 0), .int x1, .int x2, .int x3] (gw_st (wM D a σ) Wr) (gw_pI res.1 (gw_st (wM D a res.2) Wr)) := by
  refine gw_ct (own := RX3) [(0, .ref (a 0)), (1, .int x1), (2, .int x2), (3, .int x3)] (by decide) rfl (Nat.le_of_ble_eq_true rfl) rfl ?_
  intro E X
  unfold fx_X3_ask at hp
  refine gw_aload_n X 1 0 dX3_ask_0 rfl rfl rfl ?_
  refine gw_iconst X 2 dX3_ask_1 rfl gw_ci_0 ?_
  refine gM_p0_0 X 5 q1394 dX3_ask_2 rfl ?_
  refine gw_aload_n X 6 0 dX3_ask_5 rfl rfl rfl ?_
  refine gw_iload_n X 7 1 dX3_ask_6 rfl rfl rfl ?_
  refine gw_iload_n X 8 2 dX3_ask_7 rfl rfl rfl ?_
  obtain ⟨σ1, h2, hp⟩ := gw_let_some hp
  rw [← h2]
  clear h2
  refine gw_callVi X 11 [.int x1, .int x2] (mt_X3_arePeople rfl) lk_X3_266 ydv_X3_arePeople gM_cl0 gM_at0 rfl rfl rfl dX3_ask_8 rfl rfl rfl ?_
  refine gw_if_eqB X 22 14 dX3_ask_11 rfl rfl (fun z => ?_) (fun z => ?_)
  · replace hp := gw_f z hp
    refine gw_bipush X 24 dX3_ask_22 rfl gw_cb_m2 ?_
    cases hp
    exact gw_iret X dX3_ask_24 (fun _ h => ⟨rfl, h⟩) (Nat.le_of_ble_eq_true rfl) (Nat.le_of_ble_eq_true rfl)
  · replace hp := gw_t z hp
    refine gw_iload_n X 15 3 dX3_ask_14 rfl rfl rfl ?_
    refine gw_i2l X 16 dX3_ask_15 rfl ?_
    refine gw_callSi X 19 [.long (Int32.toInt64 x3)] (mt_X3_isDeed rfl) lk_X3_278 yd_X3_isDeed rfl rfl rfl dX3_ask_16 rfl rfl rfl ?_
    refine gw_if_neB X 25 22 dX3_ask_19 rfl rfl (fun z => ?_) (fun z => ?_)
    · replace hp := gw_t z hp
      refine gw_aload_n X 26 0 dX3_ask_25 rfl rfl rfl ?_
      obtain ⟨σ3, h4, hp⟩ := gw_b1_some hp
      refine gw_callVv X 29 [] (mt_X3_laysNow h4) lk_X3_251 ydv_X3_laysNow gM_cl0 gM_at0 rfl rfl rfl dX3_ask_26 rfl rfl rfl ?_
      refine gw_aload_n X 30 0 dX3_ask_29 rfl rfl rfl ?_
      refine gw_iload_n X 31 1 dX3_ask_30 rfl rfl rfl ?_
      refine gw_iload_n X 32 2 dX3_ask_31 rfl rfl rfl ?_
      refine gw_iload_n X 33 3 dX3_ask_32 rfl rfl rfl ?_
      obtain ⟨r5, h6, hp⟩ := gw_b1_some hp
      refine gw_callVi X 36 [.int x1, .int x2, .int x3] (mt_X3_whyOf h6) lk_X3_287 ydv_X3_whyOf gM_cl0 gM_at0 rfl rfl rfl dX3_ask_33 rfl rfl rfl ?_
      refine gw_if_ne X 46 39 dX3_ask_36 rfl rfl (fun z => ?_) (fun z => ?_)
      · replace hp := gw_f z hp
        refine gw_bipush X 48 dX3_ask_46 rfl gw_cb_m5 ?_
        cases hp
        exact gw_iret X dX3_ask_48 (fun _ h => ⟨rfl, h⟩) (Nat.le_of_ble_eq_true rfl) (Nat.le_of_ble_eq_true rfl)
      · replace hp := gw_t z hp
        refine gw_aload_n X 40 0 dX3_ask_39 rfl rfl rfl ?_
        refine gw_callVi X 43 [] (mt_X3_isFull rfl) lk_X3_291 ydv_X3_isFull gM_cl0 gM_at0 rfl rfl rfl dX3_ask_40 rfl rfl rfl ?_
        refine gw_if_eqB X 49 46 dX3_ask_43 rfl rfl (fun z => ?_) (fun z => ?_)
        · replace hp := gw_f z hp
          refine gw_aload_n X 50 0 dX3_ask_49 rfl rfl rfl ?_
          refine gw_iconst X 51 dX3_ask_50 rfl gw_ci_0 ?_
          refine gw_iload_n X 52 1 dX3_ask_51 rfl rfl rfl ?_
          refine gw_iload_n X 53 2 dX3_ask_52 rfl rfl rfl ?_
          refine gw_iload_n X 54 3 dX3_ask_53 rfl rfl rfl ?_
          refine gw_iconst X 55 dX3_ask_54 rfl gw_ci_0 ?_
          obtain ⟨σ7, h8, hp⟩ := gw_b1_some hp
          refine gw_callVv X 58 [.int 0, .int x1, .int x2, .int x3, .int 0] (mt_X3_acts h8) lk_X3_294 ydv_X3_acts gM_cl0 gM_at0 rfl rfl rfl dX3_ask_55 rfl rfl rfl ?_
          refine gw_aload_n X 59 0 dX3_ask_58 rfl rfl rfl ?_
          refine gw_iload_n X 60 2 dX3_ask_59 rfl rfl rfl ?_
          obtain ⟨r9, h10, hp⟩ := gw_b1_some hp
          refine gw_callVi X 63 [.int x2] (mt_X3_readable h10) lk_X3_236 ydv_X3_readable gM_cl0 gM_at0 rfl rfl rfl dX3_ask_60 rfl rfl rfl ?_
          refine gw_aload_n X 64 0 dX3_ask_63 rfl rfl rfl ?_
          refine gM_g0_22 X 67 q1416 dX3_ask_64 rfl ?_
          refine gw_iload_n X 68 2 dX3_ask_67 rfl rfl rfl ?_
          obtain ⟨hc, hp⟩ := gw_ck_some hp
          refine gM_l12 X 69 (Int32.toNatClampNeg x2) hc rfl dX3_ask_68 rfl ?_
          refine gw_isub X 70 dX3_ask_69 rfl ?_
          refine gw_iconst X 71 dX3_ask_70 rfl gw_ci_1 ?_
          refine gw_isub X 72 dX3_ask_71 rfl ?_
          cases hp
          exact gw_iret X dX3_ask_72 (fun _ h => ⟨rfl, h⟩) (Nat.le_of_ble_eq_true rfl) (Nat.le_of_ble_eq_true rfl)
        · replace hp := gw_t z hp
          refine gw_bipush X 48 dX3_ask_46 rfl gw_cb_m5 ?_
          cases hp
          exact gw_iret X dX3_ask_48 (fun _ h => ⟨rfl, h⟩) (Nat.le_of_ble_eq_true rfl) (Nat.le_of_ble_eq_true rfl)
    · replace hp := gw_f z hp
      refine gw_bipush X 24 dX3_ask_22 rfl gw_cb_m2 ?_
      cases hp
      exact gw_iret X dX3_ask_24 (fun _ h => ⟨rfl, h⟩) (Nat.le_of_ble_eq_true rfl) (Nat.le_of_ble_eq_true rfl)
abbrev rm_X3_give : Room := { frames := 5, cells := 0, slots := 0, locals := 111 }
def fx_X3_give (σ : gw_S) (x1 : Int32) (x2 : Int32) (x3 : Int32) (x4 : Int32) : Option (Int32 × gw_S) := gw_let (gw_u σ 0 0 0) (fun σ1 => (if fx_X3_arePeople σ1 x1 x2 = true then (if fx_X3_arePeople σ1 x3 x4 = true then gw_b1 (fx_X3_laysNow σ1) (fun σ3 => gw_b1 (fx_X3_whyOf σ3 x1 x2 (-1 : Int32)) (fun r5 => (if r5 = 0 then gw_ck x3 8 ((if (σ3.1 11 (Int32.toNatClampNeg x3)) = x2 then (if fx_X3_isFull σ3 = true then some ((-5), σ3) else gw_b1 (fx_X3_acts σ3 (1 : Int32) x1 x2 x3 x4) (fun σ7 => some (0, σ7))) else some ((-5), σ3))) else some ((-5), σ3)))) else some ((-2), σ1)) else some ((-2), σ1)))
set_option maxHeartbeats 4000000 in
theorem mt_X3_give {l : Launch} {D : gw_D} {a : Nat → Nat} {Wr : va_W → Prop} {σ : gw_S} {x1 : Int32} {x2 : Int32} {x3 : Int32} {x4 : Int32} {res : Int32 × gw_S} (hp : fx_X3_give σ x1 x2 x3 x4 = some res) : gw_Ct D l yX3_give cX3_give 5 (some .int) rm_X3_give [.ref (a 0), .int x1, .int x2, .int x3, .int x4] (gw_st (wM D a σ) Wr) (gw_pI res.1 (gw_st (wM D a res.2) Wr)) := by
  refine gw_ct (own := RX3) [(0, .ref (a 0)), (1, .int x1), (2, .int x2), (3, .int x3), (4, .int x4)] (by decide) rfl (Nat.le_of_ble_eq_true rfl) rfl ?_
  intro E X
  unfold fx_X3_give at hp
  refine gw_aload_n X 1 0 dX3_give_0 rfl rfl rfl ?_
  refine gw_iconst X 2 dX3_give_1 rfl gw_ci_0 ?_
  refine gM_p0_0 X 5 q1394 dX3_give_2 rfl ?_
  refine gw_aload_n X 6 0 dX3_give_5 rfl rfl rfl ?_
  refine gw_iload_n X 7 1 dX3_give_6 rfl rfl rfl ?_
  refine gw_iload_n X 8 2 dX3_give_7 rfl rfl rfl ?_
  obtain ⟨σ1, h2, hp⟩ := gw_let_some hp
  rw [← h2]
  clear h2
  refine gw_callVi X 11 [.int x1, .int x2] (mt_X3_arePeople rfl) lk_X3_266 ydv_X3_arePeople gM_cl0 gM_at0 rfl rfl rfl dX3_give_8 rfl rfl rfl ?_
  refine gw_if_eqB X 24 14 dX3_give_11 rfl rfl (fun z => ?_) (fun z => ?_)
  · replace hp := gw_f z hp
    refine gw_bipush X 26 dX3_give_24 rfl gw_cb_m2 ?_
    cases hp
    exact gw_iret X dX3_give_26 (fun _ h => ⟨rfl, h⟩) (Nat.le_of_ble_eq_true rfl) (Nat.le_of_ble_eq_true rfl)
  · replace hp := gw_t z hp
    refine gw_aload_n X 15 0 dX3_give_14 rfl rfl rfl ?_
    refine gw_iload_n X 16 3 dX3_give_15 rfl rfl rfl ?_
    refine gw_iload X 18 4 dX3_give_16 rfl rfl ?_
    refine gw_callVi X 21 [.int x3, .int x4] (mt_X3_arePeople rfl) lk_X3_266 ydv_X3_arePeople gM_cl0 gM_at0 rfl rfl rfl dX3_give_18 rfl rfl rfl ?_
    refine gw_if_neB X 27 24 dX3_give_21 rfl rfl (fun z => ?_) (fun z => ?_)
    · replace hp := gw_t z hp
      refine gw_aload_n X 28 0 dX3_give_27 rfl rfl rfl ?_
      obtain ⟨σ3, h4, hp⟩ := gw_b1_some hp
      refine gw_callVv X 31 [] (mt_X3_laysNow h4) lk_X3_251 ydv_X3_laysNow gM_cl0 gM_at0 rfl rfl rfl dX3_give_28 rfl rfl rfl ?_
      refine gw_aload_n X 32 0 dX3_give_31 rfl rfl rfl ?_
      refine gw_iload_n X 33 1 dX3_give_32 rfl rfl rfl ?_
      refine gw_iload_n X 34 2 dX3_give_33 rfl rfl rfl ?_
      refine gw_iconst X 35 dX3_give_34 rfl gw_ci_m1 ?_
      obtain ⟨r5, h6, hp⟩ := gw_b1_some hp
      refine gw_callVi X 38 [.int x1, .int x2, .int (-1)] (mt_X3_whyOf h6) lk_X3_287 ydv_X3_whyOf gM_cl0 gM_at0 rfl rfl rfl dX3_give_35 rfl rfl rfl ?_
      refine gw_if_ne X 58 41 dX3_give_38 rfl rfl (fun z => ?_) (fun z => ?_)
      · replace hp := gw_f z hp
        refine gw_bipush X 60 dX3_give_58 rfl gw_cb_m5 ?_
        cases hp
        exact gw_iret X dX3_give_60 (fun _ h => ⟨rfl, h⟩) (Nat.le_of_ble_eq_true rfl) (Nat.le_of_ble_eq_true rfl)
      · replace hp := gw_t z hp
        refine gw_aload_n X 42 0 dX3_give_41 rfl rfl rfl ?_
        refine gM_g0_21 X 45 q1415 dX3_give_42 rfl ?_
        refine gw_iload_n X 46 3 dX3_give_45 rfl rfl rfl ?_
        obtain ⟨hc, hp⟩ := gw_ck_some hp
        refine gM_l11 X 47 (Int32.toNatClampNeg x3) hc rfl dX3_give_46 rfl ?_
        refine gw_iload_n X 48 2 dX3_give_47 rfl rfl rfl ?_
        refine gw_icmp_ne X 58 51 dX3_give_48 rfl rfl (fun z => ?_) (fun z => ?_)
        · replace hp := gw_f z hp
          refine gw_bipush X 60 dX3_give_58 rfl gw_cb_m5 ?_
          cases hp
          exact gw_iret X dX3_give_60 (fun _ h => ⟨rfl, h⟩) (Nat.le_of_ble_eq_true rfl) (Nat.le_of_ble_eq_true rfl)
        · replace hp := gw_t z hp
          refine gw_aload_n X 52 0 dX3_give_51 rfl rfl rfl ?_
          refine gw_callVi X 55 [] (mt_X3_isFull rfl) lk_X3_291 ydv_X3_isFull gM_cl0 gM_at0 rfl rfl rfl dX3_give_52 rfl rfl rfl ?_
          refine gw_if_eqB X 61 58 dX3_give_55 rfl rfl (fun z => ?_) (fun z => ?_)
          · replace hp := gw_f z hp
            refine gw_aload_n X 62 0 dX3_give_61 rfl rfl rfl ?_
            refine gw_iconst X 63 dX3_give_62 rfl gw_ci_1 ?_
            refine gw_iload_n X 64 1 dX3_give_63 rfl rfl rfl ?_
            refine gw_iload_n X 65 2 dX3_give_64 rfl rfl rfl ?_
            refine gw_iload_n X 66 3 dX3_give_65 rfl rfl rfl ?_
            refine gw_iload X 68 4 dX3_give_66 rfl rfl ?_
            obtain ⟨σ7, h8, hp⟩ := gw_b1_some hp
            refine gw_callVv X 71 [.int 1, .int x1, .int x2, .int x3, .int x4] (mt_X3_acts h8) lk_X3_294 ydv_X3_acts gM_cl0 gM_at0 rfl rfl rfl dX3_give_68 rfl rfl rfl ?_
            refine gw_iconst X 72 dX3_give_71 rfl gw_ci_0 ?_
            cases hp
            exact gw_iret X dX3_give_72 (fun _ h => ⟨rfl, h⟩) (Nat.le_of_ble_eq_true rfl) (Nat.le_of_ble_eq_true rfl)
          · replace hp := gw_t z hp
            refine gw_bipush X 60 dX3_give_58 rfl gw_cb_m5 ?_
            cases hp
            exact gw_iret X dX3_give_60 (fun _ h => ⟨rfl, h⟩) (Nat.le_of_ble_eq_true rfl) (Nat.le_of_ble_eq_true rfl)
    · replace hp := gw_f z hp
      refine gw_bipush X 26 dX3_give_24 rfl gw_cb_m2 ?_
      cases hp
      exact gw_iret X dX3_give_26 (fun _ h => ⟨rfl, h⟩) (Nat.le_of_ble_eq_true rfl) (Nat.le_of_ble_eq_true rfl)
abbrev rm_X3_swap : Room := { frames := 5, cells := 0, slots := 0, locals := 111 }
def fx_X3_swap (σ : gw_S) (x1 : Int32) (x2 : Int32) : Option (Int32 × gw_S) := gw_let (gw_u σ 0 0 0) (fun σ1 => (if fx_X3_arePeople σ1 x1 x2 = true then (if x1 = x2 then some ((-2), σ1) else gw_b1 (fx_X3_laysNow σ1) (fun σ3 => gw_ck x1 8 ((if (σ3.1 11 (Int32.toNatClampNeg x1)) = (-1 : Int32) then some ((-5), σ3) else gw_ck x2 8 ((if (σ3.1 11 (Int32.toNatClampNeg x2)) = (-1 : Int32) then some ((-5), σ3) else gw_ck x1 8 (gw_ck x2 8 ((if (σ3.1 11 (Int32.toNatClampNeg x1)) = (σ3.1 11 (Int32.toNatClampNeg x2)) then some ((-5), σ3) else (if fx_X3_isFull σ3 = true then some ((-5), σ3) else gw_b1 (fx_X3_acts σ3 (2 : Int32) x1 x2 (0 : Int32) (0 : Int32)) (fun σ5 => some (0, σ5)))))))))))) else some ((-2), σ1)))
set_option maxHeartbeats 4000000 in
theorem mt_X3_swap {l : Launch} {D : gw_D} {a : Nat → Nat} {Wr : va_W → Prop} {σ : gw_S} {x1 : Int32} {x2 : Int32} {res : Int32 × gw_S} (hp : fx_X3_swap σ x1 x2 = some res) : gw_Ct D l yX3_swap cX3_swap 3 (some .int) rm_X3_swap [.ref (a 0), .int x1, .int x2] (gw_st (wM D a σ) Wr) (gw_pI res.1 (gw_st (wM D a res.2) Wr)) := by
  refine gw_ct (own := RX3) [(0, .ref (a 0)), (1, .int x1), (2, .int x2)] (by decide) rfl (Nat.le_of_ble_eq_true rfl) rfl ?_
  intro E X
  unfold fx_X3_swap at hp
  refine gw_aload_n X 1 0 dX3_swap_0 rfl rfl rfl ?_
  refine gw_iconst X 2 dX3_swap_1 rfl gw_ci_0 ?_
  refine gM_p0_0 X 5 q1394 dX3_swap_2 rfl ?_
  refine gw_aload_n X 6 0 dX3_swap_5 rfl rfl rfl ?_
  refine gw_iload_n X 7 1 dX3_swap_6 rfl rfl rfl ?_
  refine gw_iload_n X 8 2 dX3_swap_7 rfl rfl rfl ?_
  obtain ⟨σ1, h2, hp⟩ := gw_let_some hp
  rw [← h2]
  clear h2
  refine gw_callVi X 11 [.int x1, .int x2] (mt_X3_arePeople rfl) lk_X3_266 ydv_X3_arePeople gM_cl0 gM_at0 rfl rfl rfl dX3_swap_8 rfl rfl rfl ?_
  refine gw_if_eqB X 19 14 dX3_swap_11 rfl rfl (fun z => ?_) (fun z => ?_)
  · replace hp := gw_f z hp
    refine gw_bipush X 21 dX3_swap_19 rfl gw_cb_m2 ?_
    cases hp
    exact gw_iret X dX3_swap_21 (fun _ h => ⟨rfl, h⟩) (Nat.le_of_ble_eq_true rfl) (Nat.le_of_ble_eq_true rfl)
  · replace hp := gw_t z hp
    refine gw_iload_n X 15 1 dX3_swap_14 rfl rfl rfl ?_
    refine gw_iload_n X 16 2 dX3_swap_15 rfl rfl rfl ?_
    refine gw_icmp_ne X 22 19 dX3_swap_16 rfl rfl (fun z => ?_) (fun z => ?_)
    · replace hp := gw_f z hp
      refine gw_aload_n X 23 0 dX3_swap_22 rfl rfl rfl ?_
      obtain ⟨σ3, h4, hp⟩ := gw_b1_some hp
      refine gw_callVv X 26 [] (mt_X3_laysNow h4) lk_X3_251 ydv_X3_laysNow gM_cl0 gM_at0 rfl rfl rfl dX3_swap_23 rfl rfl rfl ?_
      refine gw_aload_n X 27 0 dX3_swap_26 rfl rfl rfl ?_
      refine gM_g0_21 X 30 q1415 dX3_swap_27 rfl ?_
      refine gw_iload_n X 31 1 dX3_swap_30 rfl rfl rfl ?_
      obtain ⟨hc, hp⟩ := gw_ck_some hp
      refine gM_l11 X 32 (Int32.toNatClampNeg x1) hc rfl dX3_swap_31 rfl ?_
      refine gw_iconst X 33 dX3_swap_32 rfl gw_ci_m1 ?_
      refine gw_icmp_eq X 68 36 dX3_swap_33 rfl rfl (fun z => ?_) (fun z => ?_)
      · replace hp := gw_t z hp
        refine gw_bipush X 70 dX3_swap_68 rfl gw_cb_m5 ?_
        cases hp
        exact gw_iret X dX3_swap_70 (fun _ h => ⟨rfl, h⟩) (Nat.le_of_ble_eq_true rfl) (Nat.le_of_ble_eq_true rfl)
      · replace hp := gw_f z hp
        refine gw_aload_n X 37 0 dX3_swap_36 rfl rfl rfl ?_
        refine gM_g0_21 X 40 q1415 dX3_swap_37 rfl ?_
        refine gw_iload_n X 41 2 dX3_swap_40 rfl rfl rfl ?_
        obtain ⟨hc, hp⟩ := gw_ck_some hp
        refine gM_l11 X 42 (Int32.toNatClampNeg x2) hc rfl dX3_swap_41 rfl ?_
        refine gw_iconst X 43 dX3_swap_42 rfl gw_ci_m1 ?_
        refine gw_icmp_eq X 68 46 dX3_swap_43 rfl rfl (fun z => ?_) (fun z => ?_)
        · replace hp := gw_t z hp
          refine gw_bipush X 70 dX3_swap_68 rfl gw_cb_m5 ?_
          cases hp
          exact gw_iret X dX3_swap_70 (fun _ h => ⟨rfl, h⟩) (Nat.le_of_ble_eq_true rfl) (Nat.le_of_ble_eq_true rfl)
        · replace hp := gw_f z hp
          refine gw_aload_n X 47 0 dX3_swap_46 rfl rfl rfl ?_
          refine gM_g0_21 X 50 q1415 dX3_swap_47 rfl ?_
          refine gw_iload_n X 51 1 dX3_swap_50 rfl rfl rfl ?_
          obtain ⟨hc, hp⟩ := gw_ck_some hp
          refine gM_l11 X 52 (Int32.toNatClampNeg x1) hc rfl dX3_swap_51 rfl ?_
          refine gw_aload_n X 53 0 dX3_swap_52 rfl rfl rfl ?_
          refine gM_g0_21 X 56 q1415 dX3_swap_53 rfl ?_
          refine gw_iload_n X 57 2 dX3_swap_56 rfl rfl rfl ?_
          obtain ⟨hc, hp⟩ := gw_ck_some hp
          refine gM_l11 X 58 (Int32.toNatClampNeg x2) hc rfl dX3_swap_57 rfl ?_
          refine gw_icmp_eq X 68 61 dX3_swap_58 rfl rfl (fun z => ?_) (fun z => ?_)
          · replace hp := gw_t z hp
            refine gw_bipush X 70 dX3_swap_68 rfl gw_cb_m5 ?_
            cases hp
            exact gw_iret X dX3_swap_70 (fun _ h => ⟨rfl, h⟩) (Nat.le_of_ble_eq_true rfl) (Nat.le_of_ble_eq_true rfl)
          · replace hp := gw_f z hp
            refine gw_aload_n X 62 0 dX3_swap_61 rfl rfl rfl ?_
            refine gw_callVi X 65 [] (mt_X3_isFull rfl) lk_X3_291 ydv_X3_isFull gM_cl0 gM_at0 rfl rfl rfl dX3_swap_62 rfl rfl rfl ?_
            refine gw_if_eqB X 71 68 dX3_swap_65 rfl rfl (fun z => ?_) (fun z => ?_)
            · replace hp := gw_f z hp
              refine gw_aload_n X 72 0 dX3_swap_71 rfl rfl rfl ?_
              refine gw_iconst X 73 dX3_swap_72 rfl gw_ci_2 ?_
              refine gw_iload_n X 74 1 dX3_swap_73 rfl rfl rfl ?_
              refine gw_iload_n X 75 2 dX3_swap_74 rfl rfl rfl ?_
              refine gw_iconst X 76 dX3_swap_75 rfl gw_ci_0 ?_
              refine gw_iconst X 77 dX3_swap_76 rfl gw_ci_0 ?_
              obtain ⟨σ5, h6, hp⟩ := gw_b1_some hp
              refine gw_callVv X 80 [.int 2, .int x1, .int x2, .int 0, .int 0] (mt_X3_acts h6) lk_X3_294 ydv_X3_acts gM_cl0 gM_at0 rfl rfl rfl dX3_swap_77 rfl rfl rfl ?_
              refine gw_iconst X 81 dX3_swap_80 rfl gw_ci_0 ?_
              cases hp
              exact gw_iret X dX3_swap_81 (fun _ h => ⟨rfl, h⟩) (Nat.le_of_ble_eq_true rfl) (Nat.le_of_ble_eq_true rfl)
            · replace hp := gw_t z hp
              refine gw_bipush X 70 dX3_swap_68 rfl gw_cb_m5 ?_
              cases hp
              exact gw_iret X dX3_swap_70 (fun _ h => ⟨rfl, h⟩) (Nat.le_of_ble_eq_true rfl) (Nat.le_of_ble_eq_true rfl)
    · replace hp := gw_t z hp
      refine gw_bipush X 21 dX3_swap_19 rfl gw_cb_m2 ?_
      cases hp
      exact gw_iret X dX3_swap_21 (fun _ h => ⟨rfl, h⟩) (Nat.le_of_ble_eq_true rfl) (Nat.le_of_ble_eq_true rfl)
abbrev rm_X3_steal : Room := { frames := 5, cells := 0, slots := 0, locals := 111 }
def fx_X3_steal (σ : gw_S) (x1 : Int32) (x2 : Int32) : Option (Int32 × gw_S) := gw_let (gw_u σ 0 0 0) (fun σ1 => (if fx_X3_arePeople σ1 x1 x2 = true then gw_b1 (fx_X3_laysNow σ1) (fun σ3 => gw_ck x2 8 ((if (σ3.1 11 (Int32.toNatClampNeg x2)) = (-1 : Int32) then some ((-5), σ3) else gw_ck x2 8 ((if (σ3.1 11 (Int32.toNatClampNeg x2)) = x1 then some ((-5), σ3) else (if fx_X3_isBit (σ3.1 0 25) x2 = true then some ((-5), σ3) else (if fx_X3_isFull σ3 = true then some ((-5), σ3) else gw_b1 (fx_X3_acts σ3 (3 : Int32) x1 x2 (0 : Int32) (0 : Int32)) (fun σ5 => gw_ck x2 8 (some (σ5.1 11 (Int32.toNatClampNeg x2), σ5)))))))))) else some ((-2), σ1)))
set_option maxHeartbeats 4000000 in
theorem mt_X3_steal {l : Launch} {D : gw_D} {a : Nat → Nat} {Wr : va_W → Prop} {σ : gw_S} {x1 : Int32} {x2 : Int32} {res : Int32 × gw_S} (hp : fx_X3_steal σ x1 x2 = some res) : gw_Ct D l yX3_steal cX3_steal 3 (some .int) rm_X3_steal [.ref (a 0), .int x1, .int x2] (gw_st (wM D a σ) Wr) (gw_pI res.1 (gw_st (wM D a res.2) Wr)) := by
  refine gw_ct (own := RX3) [(0, .ref (a 0)), (1, .int x1), (2, .int x2)] (by decide) rfl (Nat.le_of_ble_eq_true rfl) rfl ?_
  intro E X
  unfold fx_X3_steal at hp
  refine gw_aload_n X 1 0 dX3_steal_0 rfl rfl rfl ?_
  refine gw_iconst X 2 dX3_steal_1 rfl gw_ci_0 ?_
  refine gM_p0_0 X 5 q1394 dX3_steal_2 rfl ?_
  refine gw_aload_n X 6 0 dX3_steal_5 rfl rfl rfl ?_
  refine gw_iload_n X 7 1 dX3_steal_6 rfl rfl rfl ?_
  refine gw_iload_n X 8 2 dX3_steal_7 rfl rfl rfl ?_
  obtain ⟨σ1, h2, hp⟩ := gw_let_some hp
  rw [← h2]
  clear h2
  refine gw_callVi X 11 [.int x1, .int x2] (mt_X3_arePeople rfl) lk_X3_266 ydv_X3_arePeople gM_cl0 gM_at0 rfl rfl rfl dX3_steal_8 rfl rfl rfl ?_
  refine gw_if_neB X 17 14 dX3_steal_11 rfl rfl (fun z => ?_) (fun z => ?_)
  · replace hp := gw_t z hp
    refine gw_aload_n X 18 0 dX3_steal_17 rfl rfl rfl ?_
    obtain ⟨σ3, h4, hp⟩ := gw_b1_some hp
    refine gw_callVv X 21 [] (mt_X3_laysNow h4) lk_X3_251 ydv_X3_laysNow gM_cl0 gM_at0 rfl rfl rfl dX3_steal_18 rfl rfl rfl ?_
    refine gw_aload_n X 22 0 dX3_steal_21 rfl rfl rfl ?_
    refine gM_g0_21 X 25 q1415 dX3_steal_22 rfl ?_
    refine gw_iload_n X 26 2 dX3_steal_25 rfl rfl rfl ?_
    obtain ⟨hc, hp⟩ := gw_ck_some hp
    refine gM_l11 X 27 (Int32.toNatClampNeg x2) hc rfl dX3_steal_26 rfl ?_
    refine gw_iconst X 28 dX3_steal_27 rfl gw_ci_m1 ?_
    refine gw_icmp_eq X 59 31 dX3_steal_28 rfl rfl (fun z => ?_) (fun z => ?_)
    · replace hp := gw_t z hp
      refine gw_bipush X 61 dX3_steal_59 rfl gw_cb_m5 ?_
      cases hp
      exact gw_iret X dX3_steal_61 (fun _ h => ⟨rfl, h⟩) (Nat.le_of_ble_eq_true rfl) (Nat.le_of_ble_eq_true rfl)
    · replace hp := gw_f z hp
      refine gw_aload_n X 32 0 dX3_steal_31 rfl rfl rfl ?_
      refine gM_g0_21 X 35 q1415 dX3_steal_32 rfl ?_
      refine gw_iload_n X 36 2 dX3_steal_35 rfl rfl rfl ?_
      obtain ⟨hc, hp⟩ := gw_ck_some hp
      refine gM_l11 X 37 (Int32.toNatClampNeg x2) hc rfl dX3_steal_36 rfl ?_
      refine gw_iload_n X 38 1 dX3_steal_37 rfl rfl rfl ?_
      refine gw_icmp_eq X 59 41 dX3_steal_38 rfl rfl (fun z => ?_) (fun z => ?_)
      · replace hp := gw_t z hp
        refine gw_bipush X 61 dX3_steal_59 rfl gw_cb_m5 ?_
        cases hp
        exact gw_iret X dX3_steal_61 (fun _ h => ⟨rfl, h⟩) (Nat.le_of_ble_eq_true rfl) (Nat.le_of_ble_eq_true rfl)
      · replace hp := gw_f z hp
        refine gw_aload_n X 42 0 dX3_steal_41 rfl rfl rfl ?_
        refine gM_g0_25 X 45 q1419 dX3_steal_42 rfl ?_
        refine gw_iload_n X 46 2 dX3_steal_45 rfl rfl rfl ?_
        refine gw_callSi X 49 [.int (σ3.1 0 25), .int x2] (mt_X3_isBit rfl) lk_X3_239 yd_X3_isBit rfl rfl rfl dX3_steal_46 rfl rfl rfl ?_
        refine gw_if_neB X 59 52 dX3_steal_49 rfl rfl (fun z => ?_) (fun z => ?_)
        · replace hp := gw_t z hp
          refine gw_bipush X 61 dX3_steal_59 rfl gw_cb_m5 ?_
          cases hp
          exact gw_iret X dX3_steal_61 (fun _ h => ⟨rfl, h⟩) (Nat.le_of_ble_eq_true rfl) (Nat.le_of_ble_eq_true rfl)
        · replace hp := gw_f z hp
          refine gw_aload_n X 53 0 dX3_steal_52 rfl rfl rfl ?_
          refine gw_callVi X 56 [] (mt_X3_isFull rfl) lk_X3_291 ydv_X3_isFull gM_cl0 gM_at0 rfl rfl rfl dX3_steal_53 rfl rfl rfl ?_
          refine gw_if_eqB X 62 59 dX3_steal_56 rfl rfl (fun z => ?_) (fun z => ?_)
          · replace hp := gw_f z hp
            refine gw_aload_n X 63 0 dX3_steal_62 rfl rfl rfl ?_
            refine gw_iconst X 64 dX3_steal_63 rfl gw_ci_3 ?_
            refine gw_iload_n X 65 1 dX3_steal_64 rfl rfl rfl ?_
            refine gw_iload_n X 66 2 dX3_steal_65 rfl rfl rfl ?_
            refine gw_iconst X 67 dX3_steal_66 rfl gw_ci_0 ?_
            refine gw_iconst X 68 dX3_steal_67 rfl gw_ci_0 ?_
            obtain ⟨σ5, h6, hp⟩ := gw_b1_some hp
            refine gw_callVv X 71 [.int 3, .int x1, .int x2, .int 0, .int 0] (mt_X3_acts h6) lk_X3_294 ydv_X3_acts gM_cl0 gM_at0 rfl rfl rfl dX3_steal_68 rfl rfl rfl ?_
            refine gw_aload_n X 72 0 dX3_steal_71 rfl rfl rfl ?_
            refine gM_g0_21 X 75 q1415 dX3_steal_72 rfl ?_
            refine gw_iload_n X 76 2 dX3_steal_75 rfl rfl rfl ?_
            obtain ⟨hc, hp⟩ := gw_ck_some hp
            refine gM_l11 X 77 (Int32.toNatClampNeg x2) hc rfl dX3_steal_76 rfl ?_
            cases hp
            exact gw_iret X dX3_steal_77 (fun _ h => ⟨rfl, h⟩) (Nat.le_of_ble_eq_true rfl) (Nat.le_of_ble_eq_true rfl)
          · replace hp := gw_t z hp
            refine gw_bipush X 61 dX3_steal_59 rfl gw_cb_m5 ?_
            cases hp
            exact gw_iret X dX3_steal_61 (fun _ h => ⟨rfl, h⟩) (Nat.le_of_ble_eq_true rfl) (Nat.le_of_ble_eq_true rfl)
  · replace hp := gw_f z hp
    refine gw_bipush X 16 dX3_steal_14 rfl gw_cb_m2 ?_
    cases hp
    exact gw_iret X dX3_steal_16 (fun _ h => ⟨rfl, h⟩) (Nat.le_of_ble_eq_true rfl) (Nat.le_of_ble_eq_true rfl)
abbrev rm_X3_day : Room := { frames := 5, cells := 0, slots := 0, locals := 111 }
def fx_X3_day (σ : gw_S)  : Option (Int32 × gw_S) := gw_let (gw_u σ 0 0 0) (fun σ1 => (if fx_X3_isCity σ1 = true then gw_b1 (fx_X3_laysNow σ1) (fun σ3 => (if fx_X3_isFull σ3 = true then some ((-5), σ3) else gw_b1 (fx_X3_acts σ3 (4 : Int32) (0 : Int32) (0 : Int32) (0 : Int32) (0 : Int32)) (fun σ5 => some (σ5.1 0 26, σ5)))) else some ((-2), σ1)))
set_option maxHeartbeats 4000000 in
theorem mt_X3_day {l : Launch} {D : gw_D} {a : Nat → Nat} {Wr : va_W → Prop} {σ : gw_S}  {res : Int32 × gw_S} (hp : fx_X3_day σ  = some res) : gw_Ct D l yX3_day cX3_day 1 (some .int) rm_X3_day [.ref (a 0)] (gw_st (wM D a σ) Wr) (gw_pI res.1 (gw_st (wM D a res.2) Wr)) := by
  refine gw_ct (own := RX3) [(0, .ref (a 0))] (by decide) rfl (Nat.le_of_ble_eq_true rfl) rfl ?_
  intro E X
  unfold fx_X3_day at hp
  refine gw_aload_n X 1 0 dX3_day_0 rfl rfl rfl ?_
  refine gw_iconst X 2 dX3_day_1 rfl gw_ci_0 ?_
  refine gM_p0_0 X 5 q1394 dX3_day_2 rfl ?_
  refine gw_aload_n X 6 0 dX3_day_5 rfl rfl rfl ?_
  obtain ⟨σ1, h2, hp⟩ := gw_let_some hp
  rw [← h2]
  clear h2
  refine gw_callVi X 9 [] (mt_X3_isCity rfl) lk_X3_209 ydv_X3_isCity gM_cl0 gM_at0 rfl rfl rfl dX3_day_6 rfl rfl rfl ?_
  refine gw_if_neB X 15 12 dX3_day_9 rfl rfl (fun z => ?_) (fun z => ?_)
  · replace hp := gw_t z hp
    refine gw_aload_n X 16 0 dX3_day_15 rfl rfl rfl ?_
    obtain ⟨σ3, h4, hp⟩ := gw_b1_some hp
    refine gw_callVv X 19 [] (mt_X3_laysNow h4) lk_X3_251 ydv_X3_laysNow gM_cl0 gM_at0 rfl rfl rfl dX3_day_16 rfl rfl rfl ?_
    refine gw_aload_n X 20 0 dX3_day_19 rfl rfl rfl ?_
    refine gw_callVi X 23 [] (mt_X3_isFull rfl) lk_X3_291 ydv_X3_isFull gM_cl0 gM_at0 rfl rfl rfl dX3_day_20 rfl rfl rfl ?_
    refine gw_if_eqB X 29 26 dX3_day_23 rfl rfl (fun z => ?_) (fun z => ?_)
    · replace hp := gw_f z hp
      refine gw_aload_n X 30 0 dX3_day_29 rfl rfl rfl ?_
      refine gw_iconst X 31 dX3_day_30 rfl gw_ci_4 ?_
      refine gw_iconst X 32 dX3_day_31 rfl gw_ci_0 ?_
      refine gw_iconst X 33 dX3_day_32 rfl gw_ci_0 ?_
      refine gw_iconst X 34 dX3_day_33 rfl gw_ci_0 ?_
      refine gw_iconst X 35 dX3_day_34 rfl gw_ci_0 ?_
      obtain ⟨σ5, h6, hp⟩ := gw_b1_some hp
      refine gw_callVv X 38 [.int 4, .int 0, .int 0, .int 0, .int 0] (mt_X3_acts h6) lk_X3_294 ydv_X3_acts gM_cl0 gM_at0 rfl rfl rfl dX3_day_35 rfl rfl rfl ?_
      refine gw_aload_n X 39 0 dX3_day_38 rfl rfl rfl ?_
      refine gM_g0_26 X 42 q1420 dX3_day_39 rfl ?_
      cases hp
      exact gw_iret X dX3_day_42 (fun _ h => ⟨rfl, h⟩) (Nat.le_of_ble_eq_true rfl) (Nat.le_of_ble_eq_true rfl)
    · replace hp := gw_t z hp
      refine gw_bipush X 28 dX3_day_26 rfl gw_cb_m5 ?_
      cases hp
      exact gw_iret X dX3_day_28 (fun _ h => ⟨rfl, h⟩) (Nat.le_of_ble_eq_true rfl) (Nat.le_of_ble_eq_true rfl)
  · replace hp := gw_f z hp
    refine gw_bipush X 14 dX3_day_12 rfl gw_cb_m2 ?_
    cases hp
    exact gw_iret X dX3_day_14 (fun _ h => ⟨rfl, h⟩) (Nat.le_of_ble_eq_true rfl) (Nat.le_of_ble_eq_true rfl)
abbrev rm_X3_undo : Room := { frames := 1, cells := 0, slots := 0, locals := 20 }
def fx_X3_undo (σ : gw_S)  : Option (Int32 × gw_S) := gw_let (gw_u σ 0 0 0) (fun σ1 => (if fx_X3_isCity σ1 = true then (if (σ1.1 7 2) = 0 then some ((-5), σ1) else gw_let (gw_u σ1 7 2 ((σ1.1 7 2) - (1 : Int32))) (fun σ3 => some (σ3.1 7 2, σ3))) else some ((-2), σ1)))
set_option maxHeartbeats 4000000 in
theorem mt_X3_undo {l : Launch} {D : gw_D} {a : Nat → Nat} {Wr : va_W → Prop} {σ : gw_S}  {res : Int32 × gw_S} (hp : fx_X3_undo σ  = some res) : gw_Ct D l yX3_undo cX3_undo 1 (some .int) rm_X3_undo [.ref (a 0)] (gw_st (wM D a σ) Wr) (gw_pI res.1 (gw_st (wM D a res.2) Wr)) := by
  refine gw_ct (own := RX3) [(0, .ref (a 0))] (by decide) rfl (Nat.le_of_ble_eq_true rfl) rfl ?_
  intro E X
  unfold fx_X3_undo at hp
  refine gw_aload_n X 1 0 dX3_undo_0 rfl rfl rfl ?_
  refine gw_iconst X 2 dX3_undo_1 rfl gw_ci_0 ?_
  refine gM_p0_0 X 5 q1394 dX3_undo_2 rfl ?_
  refine gw_aload_n X 6 0 dX3_undo_5 rfl rfl rfl ?_
  obtain ⟨σ1, h2, hp⟩ := gw_let_some hp
  rw [← h2]
  clear h2
  refine gw_callVi X 9 [] (mt_X3_isCity rfl) lk_X3_209 ydv_X3_isCity gM_cl0 gM_at0 rfl rfl rfl dX3_undo_6 rfl rfl rfl ?_
  refine gw_if_neB X 15 12 dX3_undo_9 rfl rfl (fun z => ?_) (fun z => ?_)
  · replace hp := gw_t z hp
    refine gw_aload_n X 16 0 dX3_undo_15 rfl rfl rfl ?_
    refine gM_g0_17 X 19 q1411 dX3_undo_16 rfl ?_
    refine gw_iconst X 20 dX3_undo_19 rfl gw_ci_2 ?_
    refine gM_l7 X 21 2 (gw_in rfl) rfl dX3_undo_20 rfl ?_
    refine gw_if_ne X 27 24 dX3_undo_21 rfl rfl (fun z => ?_) (fun z => ?_)
    · replace hp := gw_f z hp
      refine gw_aload_n X 28 0 dX3_undo_27 rfl rfl rfl ?_
      refine gM_g0_17 X 31 q1411 dX3_undo_28 rfl ?_
      refine gw_iconst X 32 dX3_undo_31 rfl gw_ci_2 ?_
      refine gw_dup2 X 33 dX3_undo_32 rfl rfl rfl ?_
      refine gM_l7 X 34 2 (gw_in rfl) rfl dX3_undo_33 rfl ?_
      refine gw_iconst X 35 dX3_undo_34 rfl gw_ci_1 ?_
      refine gw_isub X 36 dX3_undo_35 rfl ?_
      refine gM_s7 X 37 2 (gw_in rfl) rfl dX3_undo_36 rfl ?_
      refine gw_aload_n X 38 0 dX3_undo_37 rfl rfl rfl ?_
      obtain ⟨σ3, h4, hp⟩ := gw_let_some hp
      rw [← h4]
      clear h4
      refine gM_g0_17 X 41 q1411 dX3_undo_38 rfl ?_
      refine gw_iconst X 42 dX3_undo_41 rfl gw_ci_2 ?_
      refine gM_l7 X 43 2 (gw_in rfl) rfl dX3_undo_42 rfl ?_
      cases hp
      exact gw_iret X dX3_undo_43 (fun _ h => ⟨rfl, h⟩) (Nat.le_of_ble_eq_true rfl) (Nat.le_of_ble_eq_true rfl)
    · replace hp := gw_t z hp
      refine gw_bipush X 26 dX3_undo_24 rfl gw_cb_m5 ?_
      cases hp
      exact gw_iret X dX3_undo_26 (fun _ h => ⟨rfl, h⟩) (Nat.le_of_ble_eq_true rfl) (Nat.le_of_ble_eq_true rfl)
  · replace hp := gw_f z hp
    refine gw_bipush X 14 dX3_undo_12 rfl gw_cb_m2 ?_
    cases hp
    exact gw_iret X dX3_undo_14 (fun _ h => ⟨rfl, h⟩) (Nat.le_of_ble_eq_true rfl) (Nat.le_of_ble_eq_true rfl)
abbrev rm_X3_anew : Room := { frames := 1, cells := 0, slots := 0, locals := 20 }
def fx_X3_anew (σ : gw_S)  : Option (Int32 × gw_S) := gw_let (gw_u σ 0 0 0) (fun σ1 => (if fx_X3_isCity σ1 = true then some (σ1.1 7 2, gw_u σ1 7 2 0) else some ((-2), σ1)))
set_option maxHeartbeats 4000000 in
theorem mt_X3_anew {l : Launch} {D : gw_D} {a : Nat → Nat} {Wr : va_W → Prop} {σ : gw_S}  {res : Int32 × gw_S} (hp : fx_X3_anew σ  = some res) : gw_Ct D l yX3_anew cX3_anew 2 (some .int) rm_X3_anew [.ref (a 0)] (gw_st (wM D a σ) Wr) (gw_pI res.1 (gw_st (wM D a res.2) Wr)) := by
  refine gw_ct (own := RX3) [(0, .ref (a 0))] (by decide) rfl (Nat.le_of_ble_eq_true rfl) rfl ?_
  intro E X
  unfold fx_X3_anew at hp
  refine gw_aload_n X 1 0 dX3_anew_0 rfl rfl rfl ?_
  refine gw_iconst X 2 dX3_anew_1 rfl gw_ci_0 ?_
  refine gM_p0_0 X 5 q1394 dX3_anew_2 rfl ?_
  refine gw_aload_n X 6 0 dX3_anew_5 rfl rfl rfl ?_
  obtain ⟨σ1, h2, hp⟩ := gw_let_some hp
  rw [← h2]
  clear h2
  refine gw_callVi X 9 [] (mt_X3_isCity rfl) lk_X3_209 ydv_X3_isCity gM_cl0 gM_at0 rfl rfl rfl dX3_anew_6 rfl rfl rfl ?_
  refine gw_if_neB X 15 12 dX3_anew_9 rfl rfl (fun z => ?_) (fun z => ?_)
  · replace hp := gw_t z hp
    refine gw_aload_n X 16 0 dX3_anew_15 rfl rfl rfl ?_
    refine gM_g0_17 X 19 q1411 dX3_anew_16 rfl ?_
    refine gw_iconst X 20 dX3_anew_19 rfl gw_ci_2 ?_
    refine gM_l7 X 21 2 (gw_in rfl) rfl dX3_anew_20 rfl ?_
    refine gw_istore_n X 22 [(1, .int (σ1.1 7 2)), (0, .ref (a 0))] dX3_anew_21 rfl rfl (by decide) rfl ?_
    refine gw_aload_n X 23 1 dX3_anew_22 rfl rfl rfl ?_
    refine gM_g0_17 X 26 q1411 dX3_anew_23 rfl ?_
    refine gw_iconst X 27 dX3_anew_26 rfl gw_ci_2 ?_
    refine gw_iconst X 28 dX3_anew_27 rfl gw_ci_0 ?_
    refine gM_s7 X 29 2 (gw_in rfl) rfl dX3_anew_28 rfl ?_
    refine gw_iload_n X 30 0 dX3_anew_29 rfl rfl rfl ?_
    cases hp
    exact gw_iret X dX3_anew_30 (fun _ h => ⟨rfl, h⟩) (Nat.le_of_ble_eq_true rfl) (Nat.le_of_ble_eq_true rfl)
  · replace hp := gw_f z hp
    refine gw_bipush X 14 dX3_anew_12 rfl gw_cb_m2 ?_
    cases hp
    exact gw_iret X dX3_anew_14 (fun _ h => ⟨rfl, h⟩) (Nat.le_of_ble_eq_true rfl) (Nat.le_of_ble_eq_true rfl)
abbrev rm_X3_now : Room := { frames := 5, cells := 0, slots := 0, locals := 111 }
def fx_X3_now (σ : gw_S) (x1 : Int32) : Option (Int32 × gw_S) := gw_let (gw_u σ 0 0 0) (fun σ1 => (if fx_X3_isCity σ1 = true then (if fx_X3_in (Int32.toInt64 x1) (0 : Int64) (3 : Int64) = true then gw_b1 (fx_X3_laysNow σ1) (fun σ3 => (if x1 = 0 then some (σ3.1 0 26, σ3) else (if x1 = (1 : Int32) then some (σ3.1 0 24, σ3) else (if x1 = (2 : Int32) then some (σ3.1 0 25, σ3) else some (σ3.1 0 27, σ3))))) else some ((-2), σ1)) else some ((-2), σ1)))
set_option maxHeartbeats 4000000 in
theorem mt_X3_now {l : Launch} {D : gw_D} {a : Nat → Nat} {Wr : va_W → Prop} {σ : gw_S} {x1 : Int32} {res : Int32 × gw_S} (hp : fx_X3_now σ x1 = some res) : gw_Ct D l yX3_now cX3_now 2 (some .int) rm_X3_now [.ref (a 0), .int x1] (gw_st (wM D a σ) Wr) (gw_pI res.1 (gw_st (wM D a res.2) Wr)) := by
  refine gw_ct (own := RX3) [(0, .ref (a 0)), (1, .int x1)] (by decide) rfl (Nat.le_of_ble_eq_true rfl) rfl ?_
  intro E X
  unfold fx_X3_now at hp
  refine gw_aload_n X 1 0 dX3_now_0 rfl rfl rfl ?_
  refine gw_iconst X 2 dX3_now_1 rfl gw_ci_0 ?_
  refine gM_p0_0 X 5 q1394 dX3_now_2 rfl ?_
  refine gw_aload_n X 6 0 dX3_now_5 rfl rfl rfl ?_
  obtain ⟨σ1, h2, hp⟩ := gw_let_some hp
  rw [← h2]
  clear h2
  refine gw_callVi X 9 [] (mt_X3_isCity rfl) lk_X3_209 ydv_X3_isCity gM_cl0 gM_at0 rfl rfl rfl dX3_now_6 rfl rfl rfl ?_
  refine gw_if_eqB X 24 12 dX3_now_9 rfl rfl (fun z => ?_) (fun z => ?_)
  · replace hp := gw_f z hp
    refine gw_bipush X 26 dX3_now_24 rfl gw_cb_m2 ?_
    cases hp
    exact gw_iret X dX3_now_26 (fun _ h => ⟨rfl, h⟩) (Nat.le_of_ble_eq_true rfl) (Nat.le_of_ble_eq_true rfl)
  · replace hp := gw_t z hp
    refine gw_iload_n X 13 1 dX3_now_12 rfl rfl rfl ?_
    refine gw_i2l X 14 dX3_now_13 rfl ?_
    refine gw_lconst X 15 dX3_now_14 rfl gw_cl_0 ?_
    refine gw_ldc2 X 18 dX3_now_15 rfl q1496 ?_
    refine gw_callSi X 21 [.long (Int32.toInt64 x1), .long 0, .long 3] (mt_X3_in rfl) lk_X3_64 yd_X3_in rfl rfl rfl dX3_now_18 rfl rfl rfl ?_
    refine gw_if_neB X 27 24 dX3_now_21 rfl rfl (fun z => ?_) (fun z => ?_)
    · replace hp := gw_t z hp
      refine gw_aload_n X 28 0 dX3_now_27 rfl rfl rfl ?_
      obtain ⟨σ3, h4, hp⟩ := gw_b1_some hp
      refine gw_callVv X 31 [] (mt_X3_laysNow h4) lk_X3_251 ydv_X3_laysNow gM_cl0 gM_at0 rfl rfl rfl dX3_now_28 rfl rfl rfl ?_
      refine gw_iload_n X 32 1 dX3_now_31 rfl rfl rfl ?_
      refine gw_if_ne X 42 35 dX3_now_32 rfl rfl (fun z => ?_) (fun z => ?_)
      · replace hp := gw_f z hp
        refine gw_iload_n X 43 1 dX3_now_42 rfl rfl rfl ?_
        refine gw_iconst X 44 dX3_now_43 rfl gw_ci_1 ?_
        refine gw_icmp_ne X 54 47 dX3_now_44 rfl rfl (fun z => ?_) (fun z => ?_)
        · replace hp := gw_f z hp
          refine gw_iload_n X 55 1 dX3_now_54 rfl rfl rfl ?_
          refine gw_iconst X 56 dX3_now_55 rfl gw_ci_2 ?_
          refine gw_icmp_ne X 66 59 dX3_now_56 rfl rfl (fun z => ?_) (fun z => ?_)
          · replace hp := gw_f z hp
            refine gw_aload_n X 67 0 dX3_now_66 rfl rfl rfl ?_
            refine gM_g0_27 X 70 q1421 dX3_now_67 rfl ?_
            cases hp
            exact gw_iret X dX3_now_70 (fun _ h => ⟨rfl, h⟩) (Nat.le_of_ble_eq_true rfl) (Nat.le_of_ble_eq_true rfl)
          · replace hp := gw_t z hp
            refine gw_aload_n X 60 0 dX3_now_59 rfl rfl rfl ?_
            refine gM_g0_25 X 63 q1419 dX3_now_60 rfl ?_
            refine gw_goto X 70 dX3_now_63 rfl ?_
            cases hp
            exact gw_iret X dX3_now_70 (fun _ h => ⟨rfl, h⟩) (Nat.le_of_ble_eq_true rfl) (Nat.le_of_ble_eq_true rfl)
        · replace hp := gw_t z hp
          refine gw_aload_n X 48 0 dX3_now_47 rfl rfl rfl ?_
          refine gM_g0_24 X 51 q1418 dX3_now_48 rfl ?_
          refine gw_goto X 70 dX3_now_51 rfl ?_
          cases hp
          exact gw_iret X dX3_now_70 (fun _ h => ⟨rfl, h⟩) (Nat.le_of_ble_eq_true rfl) (Nat.le_of_ble_eq_true rfl)
      · replace hp := gw_t z hp
        refine gw_aload_n X 36 0 dX3_now_35 rfl rfl rfl ?_
        refine gM_g0_26 X 39 q1420 dX3_now_36 rfl ?_
        refine gw_goto X 70 dX3_now_39 rfl ?_
        cases hp
        exact gw_iret X dX3_now_70 (fun _ h => ⟨rfl, h⟩) (Nat.le_of_ble_eq_true rfl) (Nat.le_of_ble_eq_true rfl)
    · replace hp := gw_f z hp
      refine gw_bipush X 26 dX3_now_24 rfl gw_cb_m2 ?_
      cases hp
      exact gw_iret X dX3_now_26 (fun _ h => ⟨rfl, h⟩) (Nat.le_of_ble_eq_true rfl) (Nat.le_of_ble_eq_true rfl)
abbrev rm_X3_sizeOf : Room := { frames := 0, cells := 0, slots := 0, locals := 0 }
def fx_X3_sizeOf_L4  : Nat → Int32 → Int32 → Option (Int32)
  | 0, _, _ => none
  | n + 1, c1, c2 => (if c2 = 0 then some c1 else fx_X3_sizeOf_L4  n (c1 + 1) (c2 &&& (c2 - (1 : Int32))))
def fx_X3_sizeOf (x0 : Int32) : Option (Int32) := fx_X3_sizeOf_L4  1000 (0 : Int32) x0
set_option maxHeartbeats 4000000 in
theorem wk_X3_sizeOf_L4 {E : gw_E} {l : Launch} {D : gw_D} {Ws : va_W → Prop} {res : Int32} (X : gw_X E cX3_sizeOf 3 RX3 (some .int) l D rm_X3_sizeOf (some (gw_pI res Ws)))  : ∀ {n : Nat} {c1 : Int32} {c2 : Int32}, fx_X3_sizeOf_L4  n c1 c2 = some res → gw_W E 4 [(1, .int c1), (2, .int c2)] [] Ws 0 0 := by
  intro n
  induction n with
  | zero =>
    intro c1 c2 hp
    cases (show none = some res from hp)
  | succ n ih =>
    intro c1 c2 hp
    rw [fx_X3_sizeOf_L4] at hp
    refine gw_iload_n X 5 1 dX3_sizeOf_4 rfl rfl rfl ?_
    refine gw_if_eq X 20 8 dX3_sizeOf_5 rfl rfl (fun z => ?_) (fun z => ?_)
    · replace hp := gw_t z hp
      refine gw_iload_n X 21 0 dX3_sizeOf_20 rfl rfl rfl ?_
      cases hp
      exact gw_iret X dX3_sizeOf_21 (fun _ h => ⟨rfl, h⟩) (Nat.le_of_ble_eq_true rfl) (Nat.le_of_ble_eq_true rfl)
    · replace hp := gw_f z hp
      refine gw_iinc X 11 0 [(1, .int (c1 + 1)), (2, .int c2)] dX3_sizeOf_8 rfl rfl gw_ci_1 (by decide) rfl ?_
      refine gw_iload_n X 12 1 dX3_sizeOf_11 rfl rfl rfl ?_
      refine gw_iload_n X 13 1 dX3_sizeOf_12 rfl rfl rfl ?_
      refine gw_iconst X 14 dX3_sizeOf_13 rfl gw_ci_1 ?_
      refine gw_isub X 15 dX3_sizeOf_14 rfl ?_
      refine gw_iand X 16 dX3_sizeOf_15 rfl ?_
      refine gw_istore_n X 17 [(2, .int (c2 &&& (c2 - (1 : Int32)))), (1, .int (c1 + 1))] dX3_sizeOf_16 rfl rfl (by decide) rfl ?_
      refine gw_goto X 4 dX3_sizeOf_17 rfl ?_
      refine gw_lv [1, 0] rfl ?_
      exact ih hp
set_option maxHeartbeats 4000000 in
theorem mt_X3_sizeOf {l : Launch} {D : gw_D} {Ws : va_W → Prop} {x0 : Int32} {res : Int32} (hp : fx_X3_sizeOf x0 = some res) : gw_Ct D l yX3_sizeOf cX3_sizeOf 3 (some .int) rm_X3_sizeOf [.int x0] Ws (gw_pI res Ws) := by
  refine gw_ct (own := RX3) [(0, .int x0)] (by decide) rfl (Nat.le_of_ble_eq_true rfl) rfl ?_
  intro E X
  unfold fx_X3_sizeOf at hp
  refine gw_iconst X 1 dX3_sizeOf_0 rfl gw_ci_0 ?_
  refine gw_istore_n X 2 [(1, .int 0), (0, .int x0)] dX3_sizeOf_1 rfl rfl (by decide) rfl ?_
  refine gw_iload_n X 3 1 dX3_sizeOf_2 rfl rfl rfl ?_
  refine gw_istore_n X 4 [(2, .int x0), (1, .int 0), (0, .int x0)] dX3_sizeOf_3 rfl rfl (by decide) rfl ?_
  refine gw_lv [1, 0] rfl ?_
  exact wk_X3_sizeOf_L4 X hp
abbrev rm_X3_areEven : Room := { frames := 1, cells := 0, slots := 0, locals := 23 }
def fx_X3_areEven_L2 (σ : gw_S)  : Nat → Int32 → Option (Bool)
  | 0, _ => none
  | n + 1, c1 => (if (σ.1 7 1) ≤ c1 then some true else gw_b1 (fx_X3_handOf σ c1) (fun r1 => gw_b1 (fx_X3_sizeOf r1) (fun r3 => (if r3 = (1 : Int32) then fx_X3_areEven_L2 σ n (c1 + 1) else some false))))
def fx_X3_areEven (σ : gw_S)  : Option (Bool) := fx_X3_areEven_L2 σ 1000 (0 : Int32)
set_option maxHeartbeats 4000000 in
theorem wk_X3_areEven_L2 {E : gw_E} {l : Launch} {D : gw_D} {a : Nat → Nat} {Wr : va_W → Prop} {σ : gw_S} {res : Bool} (X : gw_X E cX3_areEven 2 RX3 (some .boolean) l D rm_X3_areEven (some (gw_pI (gw_b res) (gw_st (wM D a σ) Wr))))  : ∀ {n : Nat} {c1 : Int32}, fx_X3_areEven_L2 σ n c1 = some res → gw_W E 2 [(0, .ref (a 0)), (1, .int c1)] [] (gw_st (wM D a σ) Wr) 0 0 := by
  intro n
  induction n with
  | zero =>
    intro c1 hp
    cases (show none = some res from hp)
  | succ n ih =>
    intro c1 hp
    rw [fx_X3_areEven_L2] at hp
    refine gw_iload_n X 3 1 dX3_areEven_2 rfl rfl rfl ?_
    refine gw_aload_n X 4 0 dX3_areEven_3 rfl rfl rfl ?_
    refine gM_g0_17 X 7 q1411 dX3_areEven_4 rfl ?_
    refine gw_iconst X 8 dX3_areEven_7 rfl gw_ci_1 ?_
    refine gM_l7 X 9 1 (gw_in rfl) rfl dX3_areEven_8 rfl ?_
    refine gw_icmp_ge X 32 12 dX3_areEven_9 rfl rfl (fun z => ?_) (fun z => ?_)
    · replace hp := gw_t z hp
      refine gw_iconst X 33 dX3_areEven_32 rfl gw_ci_1 ?_
      cases hp
      exact gw_zret1 X dX3_areEven_33 (fun _ h => ⟨rfl, h⟩) (Nat.le_of_ble_eq_true rfl) (Nat.le_of_ble_eq_true rfl)
    · replace hp := gw_f z hp
      refine gw_aload_n X 13 0 dX3_areEven_12 rfl rfl rfl ?_
      refine gw_iload_n X 14 1 dX3_areEven_13 rfl rfl rfl ?_
      obtain ⟨r1, h2, hp⟩ := gw_b1_some hp
      refine gw_callVi X 17 [.int c1] (mt_X3_handOf h2) lk_X3_254 ydv_X3_handOf gM_cl0 gM_at0 rfl rfl rfl dX3_areEven_14 rfl rfl rfl ?_
      obtain ⟨r3, h4, hp⟩ := gw_b1_some hp
      refine gw_callSi X 20 [.int r1] (mt_X3_sizeOf h4) lk_X3_297 yd_X3_sizeOf rfl rfl rfl dX3_areEven_17 rfl rfl rfl ?_
      refine gw_iconst X 21 dX3_areEven_20 rfl gw_ci_1 ?_
      refine gw_icmp_eq X 26 24 dX3_areEven_21 rfl rfl (fun z => ?_) (fun z => ?_)
      · replace hp := gw_t z hp
        refine gw_iinc X 29 1 [(1, .int (c1 + 1)), (0, .ref (a 0))] dX3_areEven_26 rfl rfl gw_ci_1 (by decide) rfl ?_
        refine gw_goto X 2 dX3_areEven_29 rfl ?_
        refine gw_lv [1, 0] rfl ?_
        exact ih hp
      · replace hp := gw_f z hp
        refine gw_iconst X 25 dX3_areEven_24 rfl gw_ci_0 ?_
        cases hp
        exact gw_zret0 X dX3_areEven_25 (fun _ h => ⟨rfl, h⟩) (Nat.le_of_ble_eq_true rfl) (Nat.le_of_ble_eq_true rfl)
set_option maxHeartbeats 4000000 in
theorem mt_X3_areEven {l : Launch} {D : gw_D} {a : Nat → Nat} {Wr : va_W → Prop} {σ : gw_S}  {res : Bool} (hp : fx_X3_areEven σ  = some res) : gw_Ct D l yX3_areEven cX3_areEven 2 (some .boolean) rm_X3_areEven [.ref (a 0)] (gw_st (wM D a σ) Wr) (gw_pI (gw_b res) (gw_st (wM D a σ) Wr)) := by
  refine gw_ct (own := RX3) [(0, .ref (a 0))] (by decide) rfl (Nat.le_of_ble_eq_true rfl) rfl ?_
  intro E X
  unfold fx_X3_areEven at hp
  refine gw_iconst X 1 dX3_areEven_0 rfl gw_ci_0 ?_
  refine gw_istore_n X 2 [(1, .int 0), (0, .ref (a 0))] dX3_areEven_1 rfl rfl (by decide) rfl ?_
  refine gw_lv [1, 0] rfl ?_
  exact wk_X3_areEven_L2 X hp
abbrev rm_X3_own : Room := { frames := 5, cells := 0, slots := 0, locals := 111 }
def fx_X3_own (σ : gw_S)  : Option (Int32 × gw_S) := gw_let (gw_u σ 0 0 0) (fun σ1 => (if fx_X3_isCity σ1 = true then gw_b1 (fx_X3_laysNow σ1) (fun σ3 => gw_b1 (fx_X3_areEven σ3) (fun r5 => (if r5 = true then gw_b1 (fx_X3_ringsNow σ3) (fun r7 => some ((σ3.1 7 1) - r7, σ3)) else some ((-1), σ3)))) else some ((-2), σ1)))
set_option maxHeartbeats 4000000 in
theorem mt_X3_own {l : Launch} {D : gw_D} {a : Nat → Nat} {Wr : va_W → Prop} {σ : gw_S}  {res : Int32 × gw_S} (hp : fx_X3_own σ  = some res) : gw_Ct D l yX3_own cX3_own 1 (some .int) rm_X3_own [.ref (a 0)] (gw_st (wM D a σ) Wr) (gw_pI res.1 (gw_st (wM D a res.2) Wr)) := by
  refine gw_ct (own := RX3) [(0, .ref (a 0))] (by decide) rfl (Nat.le_of_ble_eq_true rfl) rfl ?_
  intro E X
  unfold fx_X3_own at hp
  refine gw_aload_n X 1 0 dX3_own_0 rfl rfl rfl ?_
  refine gw_iconst X 2 dX3_own_1 rfl gw_ci_0 ?_
  refine gM_p0_0 X 5 q1394 dX3_own_2 rfl ?_
  refine gw_aload_n X 6 0 dX3_own_5 rfl rfl rfl ?_
  obtain ⟨σ1, h2, hp⟩ := gw_let_some hp
  rw [← h2]
  clear h2
  refine gw_callVi X 9 [] (mt_X3_isCity rfl) lk_X3_209 ydv_X3_isCity gM_cl0 gM_at0 rfl rfl rfl dX3_own_6 rfl rfl rfl ?_
  refine gw_if_neB X 15 12 dX3_own_9 rfl rfl (fun z => ?_) (fun z => ?_)
  · replace hp := gw_t z hp
    refine gw_aload_n X 16 0 dX3_own_15 rfl rfl rfl ?_
    obtain ⟨σ3, h4, hp⟩ := gw_b1_some hp
    refine gw_callVv X 19 [] (mt_X3_laysNow h4) lk_X3_251 ydv_X3_laysNow gM_cl0 gM_at0 rfl rfl rfl dX3_own_16 rfl rfl rfl ?_
    refine gw_aload_n X 20 0 dX3_own_19 rfl rfl rfl ?_
    obtain ⟨r5, h6, hp⟩ := gw_b1_some hp
    refine gw_callVi X 23 [] (mt_X3_areEven h6) lk_X3_300 ydv_X3_areEven gM_cl0 gM_at0 rfl rfl rfl dX3_own_20 rfl rfl rfl ?_
    refine gw_if_eqB X 40 26 dX3_own_23 rfl rfl (fun z => ?_) (fun z => ?_)
    · replace hp := gw_f z hp
      refine gw_iconst X 41 dX3_own_40 rfl gw_ci_m1 ?_
      cases hp
      exact gw_iret X dX3_own_41 (fun _ h => ⟨rfl, h⟩) (Nat.le_of_ble_eq_true rfl) (Nat.le_of_ble_eq_true rfl)
    · replace hp := gw_t z hp
      refine gw_aload_n X 27 0 dX3_own_26 rfl rfl rfl ?_
      refine gM_g0_17 X 30 q1411 dX3_own_27 rfl ?_
      refine gw_iconst X 31 dX3_own_30 rfl gw_ci_1 ?_
      refine gM_l7 X 32 1 (gw_in rfl) rfl dX3_own_31 rfl ?_
      refine gw_aload_n X 33 0 dX3_own_32 rfl rfl rfl ?_
      obtain ⟨r7, h8, hp⟩ := gw_b1_some hp
      refine gw_callVi X 36 [] (mt_X3_ringsNow h8) lk_X3_275 ydv_X3_ringsNow gM_cl0 gM_at0 rfl rfl rfl dX3_own_33 rfl rfl rfl ?_
      refine gw_isub X 37 dX3_own_36 rfl ?_
      refine gw_goto X 41 dX3_own_37 rfl ?_
      cases hp
      exact gw_iret X dX3_own_41 (fun _ h => ⟨rfl, h⟩) (Nat.le_of_ble_eq_true rfl) (Nat.le_of_ble_eq_true rfl)
  · replace hp := gw_f z hp
    refine gw_bipush X 14 dX3_own_12 rfl gw_cb_m2 ?_
    cases hp
    exact gw_iret X dX3_own_14 (fun _ h => ⟨rfl, h⟩) (Nat.le_of_ble_eq_true rfl) (Nat.le_of_ble_eq_true rfl)
abbrev rm_X3_first : Room := { frames := 5, cells := 0, slots := 0, locals := 111 }
def fx_X3_first_L54 (k : Option (Int32 × gw_S)) (σ : gw_S) (v1 : Int32) (v2 : Int32) : Nat → Int32 → Option (Int32 × gw_S)
  | 0, _ => none
  | n + 1, c3 => (if (σ.1 7 1) ≤ c3 then k else gw_b1 (fx_X3_timeOf σ v2 c3) (fun r7 => (if r7 = (-1 : Int32) then fx_X3_first_L54 k σ v1 v2 n (c3 + 1) else (if v1 = 0 then some (v2, σ) else some (c3, σ)))))
def fx_X3_first_L40 (σ : gw_S) (v1 : Int32) : Nat → Int32 → Option (Int32 × gw_S)
  | 0, _ => none
  | n + 1, c2 => (if (σ.1 7 1) ≤ c2 then some ((-1), σ) else fx_X3_first_L54 (fx_X3_first_L40 σ v1 n (c2 + 1)) σ v1 c2 1000 (c2 + (1 : Int32)))
def fx_X3_first (σ : gw_S) (x1 : Int32) : Option (Int32 × gw_S) := gw_let (gw_u σ 0 0 0) (fun σ1 => (if fx_X3_isCity σ1 = true then (if fx_X3_in (Int32.toInt64 x1) (0 : Int64) (1 : Int64) = true then gw_b1 (fx_X3_laysNow σ1) (fun σ3 => gw_b1 (fx_X3_areEven σ3) (fun r5 => (if r5 = true then fx_X3_first_L40 σ3 x1 1000 (0 : Int32) else some ((-1), σ3)))) else some ((-2), σ1)) else some ((-2), σ1)))
set_option maxHeartbeats 4000000 in
theorem wk_X3_first_L54 {E : gw_E} {l : Launch} {D : gw_D} {a : Nat → Nat} {Wr : va_W → Prop} {σ : gw_S} {res : Int32 × gw_S} (X : gw_X E cX3_first 4 RX3 (some .int) l D rm_X3_first (some (gw_pI res.1 (gw_st (wM D a res.2) Wr)))) {k : Option (Int32 × gw_S)} {v1 : Int32} {v2 : Int32} : ∀ {n : Nat} {c3 : Int32}, fx_X3_first_L54 k σ v1 v2 n c3 = some res → (k  = some res → gw_W E 90 [(0, .ref (a 0)), (1, .int v1), (2, .int v2)] [] (gw_st (wM D a σ) Wr) 0 0) → gw_W E 54 [(0, .ref (a 0)), (1, .int v1), (2, .int v2), (3, .int c3)] [] (gw_st (wM D a σ) Wr) 0 0 := by
  intro n
  induction n with
  | zero =>
    intro c3 hp hk
    cases (show none = some res from hp)
  | succ n ih =>
    intro c3 hp hk
    rw [fx_X3_first_L54] at hp
    refine gw_iload_n X 55 3 dX3_first_54 rfl rfl rfl ?_
    refine gw_aload_n X 56 0 dX3_first_55 rfl rfl rfl ?_
    refine gM_g0_17 X 59 q1411 dX3_first_56 rfl ?_
    refine gw_iconst X 60 dX3_first_59 rfl gw_ci_1 ?_
    refine gM_l7 X 61 1 (gw_in rfl) rfl dX3_first_60 rfl ?_
    refine gw_icmp_ge X 90 64 dX3_first_61 rfl rfl (fun z => ?_) (fun z => ?_)
    · replace hp := gw_t z hp
      refine gw_lv [0, 1, 2] rfl ?_
      exact hk  hp
    · replace hp := gw_f z hp
      refine gw_aload_n X 65 0 dX3_first_64 rfl rfl rfl ?_
      refine gw_iload_n X 66 2 dX3_first_65 rfl rfl rfl ?_
      refine gw_iload_n X 67 3 dX3_first_66 rfl rfl rfl ?_
      obtain ⟨r7, h8, hp⟩ := gw_b1_some hp
      refine gw_callVi X 70 [.int v2, .int c3] (mt_X3_timeOf h8) lk_X3_269 ydv_X3_timeOf gM_cl0 gM_at0 rfl rfl rfl dX3_first_67 rfl rfl rfl ?_
      refine gw_iconst X 71 dX3_first_70 rfl gw_ci_m1 ?_
      refine gw_icmp_eq X 84 74 dX3_first_71 rfl rfl (fun z => ?_) (fun z => ?_)
      · replace hp := gw_t z hp
        refine gw_iinc X 87 3 [(3, .int (c3 + 1)), (0, .ref (a 0)), (1, .int v1), (2, .int v2)] dX3_first_84 rfl rfl gw_ci_1 (by decide) rfl ?_
        refine gw_goto X 54 dX3_first_87 rfl ?_
        refine gw_lv [1, 2, 3, 0] rfl ?_
        exact ih hp hk
      · replace hp := gw_f z hp
        refine gw_iload_n X 75 1 dX3_first_74 rfl rfl rfl ?_
        refine gw_if_ne X 82 78 dX3_first_75 rfl rfl (fun z => ?_) (fun z => ?_)
        · replace hp := gw_f z hp
          refine gw_iload_n X 83 3 dX3_first_82 rfl rfl rfl ?_
          cases hp
          exact gw_iret X dX3_first_83 (fun _ h => ⟨rfl, h⟩) (Nat.le_of_ble_eq_true rfl) (Nat.le_of_ble_eq_true rfl)
        · replace hp := gw_t z hp
          refine gw_iload_n X 79 2 dX3_first_78 rfl rfl rfl ?_
          refine gw_goto X 83 dX3_first_79 rfl ?_
          cases hp
          exact gw_iret X dX3_first_83 (fun _ h => ⟨rfl, h⟩) (Nat.le_of_ble_eq_true rfl) (Nat.le_of_ble_eq_true rfl)
set_option maxHeartbeats 4000000 in
theorem wk_X3_first_L40 {E : gw_E} {l : Launch} {D : gw_D} {a : Nat → Nat} {Wr : va_W → Prop} {σ : gw_S} {res : Int32 × gw_S} (X : gw_X E cX3_first 4 RX3 (some .int) l D rm_X3_first (some (gw_pI res.1 (gw_st (wM D a res.2) Wr)))) {v1 : Int32} : ∀ {n : Nat} {c2 : Int32}, fx_X3_first_L40 σ v1 n c2 = some res → gw_W E 40 [(0, .ref (a 0)), (1, .int v1), (2, .int c2)] [] (gw_st (wM D a σ) Wr) 0 0 := by
  intro n
  induction n with
  | zero =>
    intro c2 hp
    cases (show none = some res from hp)
  | succ n ih =>
    intro c2 hp
    rw [fx_X3_first_L40] at hp
    refine gw_iload_n X 41 2 dX3_first_40 rfl rfl rfl ?_
    refine gw_aload_n X 42 0 dX3_first_41 rfl rfl rfl ?_
    refine gM_g0_17 X 45 q1411 dX3_first_42 rfl ?_
    refine gw_iconst X 46 dX3_first_45 rfl gw_ci_1 ?_
    refine gM_l7 X 47 1 (gw_in rfl) rfl dX3_first_46 rfl ?_
    refine gw_icmp_ge X 96 50 dX3_first_47 rfl rfl (fun z => ?_) (fun z => ?_)
    · replace hp := gw_t z hp
      refine gw_iconst X 97 dX3_first_96 rfl gw_ci_m1 ?_
      cases hp
      exact gw_iret X dX3_first_97 (fun _ h => ⟨rfl, h⟩) (Nat.le_of_ble_eq_true rfl) (Nat.le_of_ble_eq_true rfl)
    · replace hp := gw_f z hp
      refine gw_iload_n X 51 2 dX3_first_50 rfl rfl rfl ?_
      refine gw_iconst X 52 dX3_first_51 rfl gw_ci_1 ?_
      refine gw_iadd X 53 dX3_first_52 rfl ?_
      refine gw_istore_n X 54 [(3, .int (c2 + (1 : Int32))), (0, .ref (a 0)), (1, .int v1), (2, .int c2)] dX3_first_53 rfl rfl (by decide) rfl ?_
      refine gw_lv [1, 2, 3, 0] rfl ?_
      refine wk_X3_first_L54 X hp ?_
      clear hp
      intro  hp
      refine gw_iinc X 93 2 [(2, .int (c2 + 1)), (0, .ref (a 0)), (1, .int v1)] dX3_first_90 rfl rfl gw_ci_1 (by decide) rfl ?_
      refine gw_goto X 40 dX3_first_93 rfl ?_
      refine gw_lv [1, 2, 0] rfl ?_
      exact ih hp
set_option maxHeartbeats 4000000 in
theorem mt_X3_first {l : Launch} {D : gw_D} {a : Nat → Nat} {Wr : va_W → Prop} {σ : gw_S} {x1 : Int32} {res : Int32 × gw_S} (hp : fx_X3_first σ x1 = some res) : gw_Ct D l yX3_first cX3_first 4 (some .int) rm_X3_first [.ref (a 0), .int x1] (gw_st (wM D a σ) Wr) (gw_pI res.1 (gw_st (wM D a res.2) Wr)) := by
  refine gw_ct (own := RX3) [(0, .ref (a 0)), (1, .int x1)] (by decide) rfl (Nat.le_of_ble_eq_true rfl) rfl ?_
  intro E X
  unfold fx_X3_first at hp
  refine gw_aload_n X 1 0 dX3_first_0 rfl rfl rfl ?_
  refine gw_iconst X 2 dX3_first_1 rfl gw_ci_0 ?_
  refine gM_p0_0 X 5 q1394 dX3_first_2 rfl ?_
  refine gw_aload_n X 6 0 dX3_first_5 rfl rfl rfl ?_
  obtain ⟨σ1, h2, hp⟩ := gw_let_some hp
  rw [← h2]
  clear h2
  refine gw_callVi X 9 [] (mt_X3_isCity rfl) lk_X3_209 ydv_X3_isCity gM_cl0 gM_at0 rfl rfl rfl dX3_first_6 rfl rfl rfl ?_
  refine gw_if_eqB X 22 12 dX3_first_9 rfl rfl (fun z => ?_) (fun z => ?_)
  · replace hp := gw_f z hp
    refine gw_bipush X 24 dX3_first_22 rfl gw_cb_m2 ?_
    cases hp
    exact gw_iret X dX3_first_24 (fun _ h => ⟨rfl, h⟩) (Nat.le_of_ble_eq_true rfl) (Nat.le_of_ble_eq_true rfl)
  · replace hp := gw_t z hp
    refine gw_iload_n X 13 1 dX3_first_12 rfl rfl rfl ?_
    refine gw_i2l X 14 dX3_first_13 rfl ?_
    refine gw_lconst X 15 dX3_first_14 rfl gw_cl_0 ?_
    refine gw_lconst X 16 dX3_first_15 rfl gw_cl_1 ?_
    refine gw_callSi X 19 [.long (Int32.toInt64 x1), .long 0, .long 1] (mt_X3_in rfl) lk_X3_64 yd_X3_in rfl rfl rfl dX3_first_16 rfl rfl rfl ?_
    refine gw_if_neB X 25 22 dX3_first_19 rfl rfl (fun z => ?_) (fun z => ?_)
    · replace hp := gw_t z hp
      refine gw_aload_n X 26 0 dX3_first_25 rfl rfl rfl ?_
      obtain ⟨σ3, h4, hp⟩ := gw_b1_some hp
      refine gw_callVv X 29 [] (mt_X3_laysNow h4) lk_X3_251 ydv_X3_laysNow gM_cl0 gM_at0 rfl rfl rfl dX3_first_26 rfl rfl rfl ?_
      refine gw_aload_n X 30 0 dX3_first_29 rfl rfl rfl ?_
      obtain ⟨r5, h6, hp⟩ := gw_b1_some hp
      refine gw_callVi X 33 [] (mt_X3_areEven h6) lk_X3_300 ydv_X3_areEven gM_cl0 gM_at0 rfl rfl rfl dX3_first_30 rfl rfl rfl ?_
      refine gw_if_neB X 38 36 dX3_first_33 rfl rfl (fun z => ?_) (fun z => ?_)
      · replace hp := gw_t z hp
        refine gw_iconst X 39 dX3_first_38 rfl gw_ci_0 ?_
        refine gw_istore_n X 40 [(2, .int 0), (0, .ref (a 0)), (1, .int x1)] dX3_first_39 rfl rfl (by decide) rfl ?_
        refine gw_lv [1, 2, 0] rfl ?_
        exact wk_X3_first_L40 X hp
      · replace hp := gw_f z hp
        refine gw_iconst X 37 dX3_first_36 rfl gw_ci_m1 ?_
        cases hp
        exact gw_iret X dX3_first_37 (fun _ h => ⟨rfl, h⟩) (Nat.le_of_ble_eq_true rfl) (Nat.le_of_ble_eq_true rfl)
    · replace hp := gw_f z hp
      refine gw_bipush X 24 dX3_first_22 rfl gw_cb_m2 ?_
      cases hp
      exact gw_iret X dX3_first_24 (fun _ h => ⟨rfl, h⟩) (Nat.le_of_ble_eq_true rfl) (Nat.le_of_ble_eq_true rfl)
abbrev rm_X3_mayDo : Room := { frames := 1, cells := 0, slots := 0, locals := 22 }
def fx_X3_mayDo (σ : gw_S) (x1 : Int32) (x2 : Int32) (x3 : Int32) : Option (Int32) := gw_ck x1 8 ((if (σ.1 11 (Int32.toNatClampNeg x1)) = x2 then (if fx_X3_isBit (σ.1 0 24) x1 = true then some 0 else gw_b1 (fx_X3_of σ x1 (1 : Int32)) (fun r1 => some (r1 &&& x3))) else some 0))
set_option maxHeartbeats 4000000 in
theorem mt_X3_mayDo {l : Launch} {D : gw_D} {a : Nat → Nat} {Wr : va_W → Prop} {σ : gw_S} {x1 : Int32} {x2 : Int32} {x3 : Int32} {res : Int32} (hp : fx_X3_mayDo σ x1 x2 x3 = some res) : gw_Ct D l yX3_mayDo cX3_mayDo 4 (some .int) rm_X3_mayDo [.ref (a 0), .int x1, .int x2, .int x3] (gw_st (wM D a σ) Wr) (gw_pI res (gw_st (wM D a σ) Wr)) := by
  refine gw_ct (own := RX3) [(0, .ref (a 0)), (1, .int x1), (2, .int x2), (3, .int x3)] (by decide) rfl (Nat.le_of_ble_eq_true rfl) rfl ?_
  intro E X
  unfold fx_X3_mayDo at hp
  refine gw_aload_n X 1 0 dX3_mayDo_0 rfl rfl rfl ?_
  refine gM_g0_21 X 4 q1415 dX3_mayDo_1 rfl ?_
  refine gw_iload_n X 5 1 dX3_mayDo_4 rfl rfl rfl ?_
  obtain ⟨hc, hp⟩ := gw_ck_some hp
  refine gM_l11 X 6 (Int32.toNatClampNeg x1) hc rfl dX3_mayDo_5 rfl ?_
  refine gw_iload_n X 7 2 dX3_mayDo_6 rfl rfl rfl ?_
  refine gw_icmp_ne X 32 10 dX3_mayDo_7 rfl rfl (fun z => ?_) (fun z => ?_)
  · replace hp := gw_f z hp
    refine gw_iconst X 33 dX3_mayDo_32 rfl gw_ci_0 ?_
    cases hp
    exact gw_iret X dX3_mayDo_33 (fun _ h => ⟨rfl, h⟩) (Nat.le_of_ble_eq_true rfl) (Nat.le_of_ble_eq_true rfl)
  · replace hp := gw_t z hp
    refine gw_aload_n X 11 0 dX3_mayDo_10 rfl rfl rfl ?_
    refine gM_g0_24 X 14 q1418 dX3_mayDo_11 rfl ?_
    refine gw_iload_n X 15 1 dX3_mayDo_14 rfl rfl rfl ?_
    refine gw_callSi X 18 [.int (σ.1 0 24), .int x1] (mt_X3_isBit rfl) lk_X3_239 yd_X3_isBit rfl rfl rfl dX3_mayDo_15 rfl rfl rfl ?_
    refine gw_if_neB X 32 21 dX3_mayDo_18 rfl rfl (fun z => ?_) (fun z => ?_)
    · replace hp := gw_t z hp
      refine gw_iconst X 33 dX3_mayDo_32 rfl gw_ci_0 ?_
      cases hp
      exact gw_iret X dX3_mayDo_33 (fun _ h => ⟨rfl, h⟩) (Nat.le_of_ble_eq_true rfl) (Nat.le_of_ble_eq_true rfl)
    · replace hp := gw_f z hp
      refine gw_aload_n X 22 0 dX3_mayDo_21 rfl rfl rfl ?_
      refine gw_iload_n X 23 1 dX3_mayDo_22 rfl rfl rfl ?_
      refine gw_iconst X 24 dX3_mayDo_23 rfl gw_ci_1 ?_
      obtain ⟨r1, h2, hp⟩ := gw_b1_some hp
      refine gw_callVi X 27 [.int x1, .int 1] (mt_X3_of h2) lk_X3_214 ydv_X3_of gM_cl0 gM_at0 rfl rfl rfl dX3_mayDo_24 rfl rfl rfl ?_
      refine gw_iload_n X 28 3 dX3_mayDo_27 rfl rfl rfl ?_
      refine gw_iand X 29 dX3_mayDo_28 rfl ?_
      refine gw_goto X 33 dX3_mayDo_29 rfl ?_
      cases hp
      exact gw_iret X dX3_mayDo_33 (fun _ h => ⟨rfl, h⟩) (Nat.le_of_ble_eq_true rfl) (Nat.le_of_ble_eq_true rfl)
