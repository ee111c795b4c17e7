set_option maxRecDepth 100000
abbrev rm_X0_first : Room := { frames := 16, cells := 384, slots := 1024, locals := 821 }
def fx_X0_first_L49 (k : Option (Int32 × gw_S)) (σ : gw_S) (v1 : Int32) (v2 : Int32) : Nat → Int32 → Option (Int32 × gw_S)
  | 0, _ => none
  | n + 1, c3 => (if (σ.1 1 2) ≤ c3 then k else gw_b1 (fx_X0_leastOf σ v2) (fun r5 => gw_b1 (fx_X0_leastOf σ c3) (fun r7 => (if r5 = r7 then (if v1 = 0 then some (v2, σ) else some (c3, σ)) else fx_X0_first_L49 k σ v1 v2 n (c3 + 1)))))
def fx_X0_first_L34 (σ : gw_S) (v1 : Int32) : Nat → Int32 → Option (Int32 × gw_S)
  | 0, _ => none
  | n + 1, c2 => (if (σ.1 1 2) ≤ c2 then some ((-1), σ) else fx_X0_first_L49 (fx_X0_first_L34 σ v1 n (c2 + 1)) σ v1 c2 1000 (c2 + (1 : Int32)))
def fx_X0_first (σ : gw_S) (x1 : Int32) : Option (Int32 × gw_S) := (if fx_X0_isCity σ = true then (if fx_X0_isOneOf (Int32.toInt64 x1) (2 : Int32) = true then gw_b1 (fx_X0_asItIs σ) (fun σ1 => gw_b1 (fx_X0_isDealt σ1) (fun r3 => (if r3 = true then fx_X0_first_L34 σ1 x1 1000 (0 : Int32) else some ((-1), σ1)))) else some ((-2), σ)) else some ((-2), σ))
set_option maxHeartbeats 4000000 in
theorem wk_X0_first_L49 {E : gw_E} {l : Launch} {D : gw_D} {a : Nat → Nat} {Wr : va_W → Prop} {σ : gw_S} {res : Int32 × gw_S} (X : gw_X E cX0_first 4 RX0 (some .int) l D rm_X0_first (some (gw_pI res.1 (gw_st (wX D a res.2) (gw_sp (gK D a) Wr))))) {k : Option (Int32 × gw_S)} {v1 : Int32} {v2 : Int32} : ∀ {n : Nat} {c3 : Int32}, fx_X0_first_L49 k σ v1 v2 n c3 = some res → (k  = some res → gw_W E 89 [(0, .ref (a 0)), (1, .int v1), (2, .int v2)] [] (gw_st (wX D a σ) (gw_sp (gK D a) Wr)) 384 1024) → gw_W E 49 [(0, .ref (a 0)), (1, .int v1), (2, .int v2), (3, .int c3)] [] (gw_st (wX D a σ) (gw_sp (gK D a) Wr)) 384 1024 := by
  intro n
  induction n with
  | zero =>
    intro c3 hp hk
    cases (show none = some res from hp)
  | succ n ih =>
    intro c3 hp hk
    rw [fx_X0_first_L49] at hp
    refine gw_iload_n X 50 3 dX0_first_49 rfl rfl rfl ?_
    refine gw_aload_n X 51 0 dX0_first_50 rfl rfl rfl ?_
    refine gX_g0_0 X 54 q280 dX0_first_51 rfl ?_
    refine gX_g1_2N X 57 q193 dX0_first_54 rfl ?_
    refine gw_icmp_ge X 89 60 dX0_first_57 rfl rfl (fun z => ?_) (fun z => ?_)
    · replace hp := gw_t z hp
      refine gw_lv [0, 1, 2] rfl ?_
      exact hk  hp
    · replace hp := gw_f z hp
      refine gw_aload_n X 61 0 dX0_first_60 rfl rfl rfl ?_
      refine gw_iload_n X 62 2 dX0_first_61 rfl rfl rfl ?_
      obtain ⟨r5, h6, hp⟩ := gw_b1_some hp
      refine gw_callVi X 65 [.int v2] (mt_X0_leastOf h6) lk_X0_226 ydv_X0_leastOf gX_cl0 gX_at0 rfl rfl rfl dX0_first_62 rfl rfl rfl ?_
      refine gw_aload_n X 66 0 dX0_first_65 rfl rfl rfl ?_
      refine gw_iload_n X 67 3 dX0_first_66 rfl rfl rfl ?_
      obtain ⟨r7, h8, hp⟩ := gw_b1_some hp
      refine gw_callVi X 70 [.int c3] (mt_X0_leastOf h8) lk_X0_226 ydv_X0_leastOf gX_cl0 gX_at0 rfl rfl rfl dX0_first_67 rfl rfl rfl ?_
      refine gw_icmp_ne X 83 73 dX0_first_70 rfl rfl (fun z => ?_) (fun z => ?_)
      · replace hp := gw_f z hp
        refine gw_iinc X 86 3 [(3, .int (c3 + 1)), (0, .ref (a 0)), (1, .int v1), (2, .int v2)] dX0_first_83 rfl rfl gw_ci_1 (by decide) rfl ?_
        refine gw_goto X 49 dX0_first_86 rfl ?_
        refine gw_lv [1, 2, 3, 0] rfl ?_
        exact ih hp hk
      · replace hp := gw_t z hp
        refine gw_iload_n X 74 1 dX0_first_73 rfl rfl rfl ?_
        refine gw_if_ne X 81 77 dX0_first_74 rfl rfl (fun z => ?_) (fun z => ?_)
        · replace hp := gw_f z hp
          refine gw_iload_n X 82 3 dX0_first_81 rfl rfl rfl ?_
          cases hp
          exact gw_iret X dX0_first_82 (fun _ h => ⟨rfl, h⟩) (Nat.le_of_ble_eq_true rfl) (Nat.le_of_ble_eq_true rfl)
        · replace hp := gw_t z hp
          refine gw_iload_n X 78 2 dX0_first_77 rfl rfl rfl ?_
          refine gw_goto X 82 dX0_first_78 rfl ?_
          cases hp
          exact gw_iret X dX0_first_82 (fun _ h => ⟨rfl, h⟩) (Nat.le_of_ble_eq_true rfl) (Nat.le_of_ble_eq_true rfl)
set_option maxHeartbeats 4000000 in
theorem wk_X0_first_L34 {E : gw_E} {l : Launch} {D : gw_D} {a : Nat → Nat} {Wr : va_W → Prop} {σ : gw_S} {res : Int32 × gw_S} (X : gw_X E cX0_first 4 RX0 (some .int) l D rm_X0_first (some (gw_pI res.1 (gw_st (wX D a res.2) (gw_sp (gK D a) Wr))))) {v1 : Int32} : ∀ {n : Nat} {c2 : Int32}, fx_X0_first_L34 σ v1 n c2 = some res → gw_W E 34 [(0, .ref (a 0)), (1, .int v1), (2, .int c2)] [] (gw_st (wX D a σ) (gw_sp (gK D a) Wr)) 384 1024 := by
  intro n
  induction n with
  | zero =>
    intro c2 hp
    cases (show none = some res from hp)
  | succ n ih =>
    intro c2 hp
    rw [fx_X0_first_L34] at hp
    refine gw_iload_n X 35 2 dX0_first_34 rfl rfl rfl ?_
    refine gw_aload_n X 36 0 dX0_first_35 rfl rfl rfl ?_
    refine gX_g0_0 X 39 q280 dX0_first_36 rfl ?_
    refine gX_g1_2N X 42 q193 dX0_first_39 rfl ?_
    refine gw_icmp_ge X 95 45 dX0_first_42 rfl rfl (fun z => ?_) (fun z => ?_)
    · replace hp := gw_t z hp
      refine gw_iconst X 96 dX0_first_95 rfl gw_ci_m1 ?_
      cases hp
      exact gw_iret X dX0_first_96 (fun _ h => ⟨rfl, h⟩) (Nat.le_of_ble_eq_true rfl) (Nat.le_of_ble_eq_true rfl)
    · replace hp := gw_f z hp
      refine gw_iload_n X 46 2 dX0_first_45 rfl rfl rfl ?_
      refine gw_iconst X 47 dX0_first_46 rfl gw_ci_1 ?_
      refine gw_iadd X 48 dX0_first_47 rfl ?_
      refine gw_istore_n X 49 [(3, .int (c2 + (1 : Int32))), (0, .ref (a 0)), (1, .int v1), (2, .int c2)] dX0_first_48 rfl rfl (by decide) rfl ?_
      refine gw_lv [1, 2, 3, 0] rfl ?_
      refine wk_X0_first_L49 X hp ?_
      clear hp
      intro  hp
      refine gw_iinc X 92 2 [(2, .int (c2 + 1)), (0, .ref (a 0)), (1, .int v1)] dX0_first_89 rfl rfl gw_ci_1 (by decide) rfl ?_
      refine gw_goto X 34 dX0_first_92 rfl ?_
      refine gw_lv [1, 2, 0] rfl ?_
      exact ih hp
set_option maxHeartbeats 4000000 in
theorem mt_X0_first {l : Launch} {D : gw_D} {a : Nat → Nat} {Wr : va_W → Prop} {σ : gw_S} {x1 : Int32} {res : Int32 × gw_S} (hp : fx_X0_first σ x1 = some res) : gw_Ct D l yX0_first cX0_first 4 (some .int) rm_X0_first [.ref (a 0), .int x1] (gw_st (wX D a σ) (gw_sp (gK D a) Wr)) (gw_pI res.1 (gw_st (wX D a res.2) (gw_sp (gK D a) Wr))) := by
  refine gw_ct (own := RX0) [(0, .ref (a 0)), (1, .int x1)] (by decide) rfl (Nat.le_of_ble_eq_true rfl) rfl ?_
  intro E X
  unfold fx_X0_first at hp
  refine gw_aload_n X 1 0 dX0_first_0 rfl rfl rfl ?_
  refine gw_callVi X 4 [] (mt_X0_isCity rfl) lk_X0_103 ydv_X0_isCity gX_cl0 gX_at0 rfl rfl rfl dX0_first_1 rfl rfl rfl ?_
  refine gw_if_eqB X 16 7 dX0_first_4 rfl rfl (fun z => ?_) (fun z => ?_)
  · replace hp := gw_f z hp
    refine gw_bipush X 18 dX0_first_16 rfl gw_cb_m2 ?_
    cases hp
    exact gw_iret X dX0_first_18 (fun _ h => ⟨rfl, h⟩) (Nat.le_of_ble_eq_true rfl) (Nat.le_of_ble_eq_true rfl)
  · replace hp := gw_t z hp
    refine gw_iload_n X 8 1 dX0_first_7 rfl rfl rfl ?_
    refine gw_i2l X 9 dX0_first_8 rfl ?_
    refine gw_iconst X 10 dX0_first_9 rfl gw_ci_2 ?_
    refine gw_callSi X 13 [.long (Int32.toInt64 x1), .int 2] (mt_X0_isOneOf rfl) lk_X0_97 yd_X0_isOneOf rfl rfl rfl dX0_first_10 rfl rfl rfl ?_
    refine gw_if_neB X 19 16 dX0_first_13 rfl rfl (fun z => ?_) (fun z => ?_)
    · replace hp := gw_t z hp
      refine gw_aload_n X 20 0 dX0_first_19 rfl rfl rfl ?_
      obtain ⟨σ1, h2, hp⟩ := gw_b1_some hp
      refine gw_callVv X 23 [] (mt_X0_asItIs h2) lk_X0_190 ydv_X0_asItIs gX_cl0 gX_at0 rfl rfl rfl dX0_first_20 rfl rfl rfl ?_
      refine gw_aload_n X 24 0 dX0_first_23 rfl rfl rfl ?_
      obtain ⟨r3, h4, hp⟩ := gw_b1_some hp
      refine gw_callVi X 27 [] (mt_X0_isDealt h4) lk_X0_253 ydv_X0_isDealt gX_cl0 gX_at0 rfl rfl rfl dX0_first_24 rfl rfl rfl ?_
      refine gw_if_neB X 32 30 dX0_first_27 rfl rfl (fun z => ?_) (fun z => ?_)
      · replace hp := gw_t z hp
        refine gw_iconst X 33 dX0_first_32 rfl gw_ci_0 ?_
        refine gw_istore_n X 34 [(2, .int 0), (0, .ref (a 0)), (1, .int x1)] dX0_first_33 rfl rfl (by decide) rfl ?_
        refine gw_lv [1, 2, 0] rfl ?_
        exact wk_X0_first_L34 X hp
      · replace hp := gw_f z hp
        refine gw_iconst X 31 dX0_first_30 rfl gw_ci_m1 ?_
        cases hp
        exact gw_iret X dX0_first_31 (fun _ h => ⟨rfl, h⟩) (Nat.le_of_ble_eq_true rfl) (Nat.le_of_ble_eq_true rfl)
    · replace hp := gw_f z hp
      refine gw_bipush X 18 dX0_first_16 rfl gw_cb_m2 ?_
      cases hp
      exact gw_iret X dX0_first_18 (fun _ h => ⟨rfl, h⟩) (Nat.le_of_ble_eq_true rfl) (Nat.le_of_ble_eq_true rfl)
abbrev rm_X0_pairsAll : Room := { frames := 106, cells := 0, slots := 0, locals := 4224 }
def fx_X0_pairsAll_L4 {τ : Type} (k : gw_S → Option (τ)) (v1 : Int32) (v2 : Int32) : Nat → Int32 → gw_S → Option (τ)
  | 0, _, _ => none
  | n + 1, c3, σ => (if (48 : Int32) ≤ c3 then k σ else gw_ck c3 48 (fx_X0_pairsAll_L4 k v1 v2 n (c3 + 1) (gw_u σ 6 (Int32.toNatClampNeg c3) (-1))))
def fx_X0_pairsAll_L28 {τ : Type} (k : Int32 → gw_S → Option (τ)) (v1 : Int32) : Nat → Int32 → Int32 → gw_S → Option (τ)
  | 0, _, _, _ => none
  | n + 1, c2, c3, σ => (if v1 ≤ c3 then k c2 σ else gw_ck c3 8 ((if (σ.1 7 (Int32.toNatClampNeg c3)) = (-1 : Int32) then fx_X0_pairsAll_L28 k v1 n c2 (c3 + 1) σ else gw_ck c3 8 (gw_ck c3 8 (gw_ck (((6 : Int32) * (σ.1 3 (Int32.toNatClampNeg c3))) + (σ.1 7 (Int32.toNatClampNeg c3))) 48 (fx_X0_pairsAll_L28 k v1 n (c2 + 1) (c3 + 1) (gw_u σ 6 (Int32.toNatClampNeg (((6 : Int32) * (σ.1 3 (Int32.toNatClampNeg c3))) + (σ.1 7 (Int32.toNatClampNeg c3)))) c3)))))))
def fx_X0_pairsAll_L79 {τ : Type} (k : gw_S → Option (τ)) (v1 : Int32) (v2 : Int32) : Nat → Int32 → gw_S → Option (τ)
  | 0, _, _ => none
  | n + 1, c3, σ => (if (σ.1 1 2) ≤ c3 then k σ else gw_ck c3 8 (fx_X0_pairsAll_L79 k v1 v2 n (c3 + 1) (gw_u σ 7 (Int32.toNatClampNeg c3) (-1))))
def fx_X0_pairsAll_L105 (v1 : Int32) : Nat → Int32 → Int32 → gw_S → Option (Int32 × gw_S)
  | 0, _, _, _ => none
  | n + 1, c2, c3, σ => (if (σ.1 1 2) ≤ c3 then some (c2, σ) else gw_let (gw_u σ 0 15 0) (fun σ5 => gw_b2 (fx_X0_pairs σ5 c3 v1) (fun r7 σ8 => (if r7 = true then fx_X0_pairsAll_L105 v1 n (c2 + (1 : Int32)) (c3 + 1) σ8 else fx_X0_pairsAll_L105 v1 n (c2 + (0 : Int32)) (c3 + 1) σ8))))
def fx_X0_pairsAll (σ : gw_S) (x1 : Int32) : Option (Int32 × gw_S) := fx_X0_pairsAll_L4 (fun (σ1 : gw_S) => fx_X0_pairsAll_L28 (fun (e2 : Int32) (σ3 : gw_S) => fx_X0_pairsAll_L79 (fun (σ4 : gw_S) => fx_X0_pairsAll_L105 x1 1000 e2 x1 σ4) x1 e2 1000 x1 σ3) x1 1000 (0 : Int32) (0 : Int32) σ1) x1 (0 : Int32) 1000 (0 : Int32) σ
set_option maxHeartbeats 4000000 in
theorem wk_X0_pairsAll_L4 {E : gw_E} {l : Launch} {D : gw_D} {a : Nat → Nat} {Wr : va_W → Prop} {τ : Type} {res : τ} {post : Option (Option Value → va_W → Prop)} (X : gw_X E cX0_pairsAll 4 RX0 (some .int) l D rm_X0_pairsAll post) {k : gw_S → Option (τ)} {v1 : Int32} {v2 : Int32} : ∀ {n : Nat} {c3 : Int32} {σ : gw_S}, fx_X0_pairsAll_L4 k v1 v2 n c3 σ = some res → (∀  (σ : gw_S), k σ = some res → gw_W E 26 [(0, .ref (a 0)), (1, .int v1), (2, .int v2)] [] (gw_st (wX D a σ) Wr) 0 0) → gw_W E 4 [(0, .ref (a 0)), (1, .int v1), (2, .int v2), (3, .int c3)] [] (gw_st (wX D a σ) Wr) 0 0 := by
  intro n
  induction n with
  | zero =>
    intro c3 σ hp hk
    cases (show none = some res from hp)
  | succ n ih =>
    intro c3 σ hp hk
    rw [fx_X0_pairsAll_L4] at hp
    refine gw_iload_n X 5 3 dX0_pairsAll_4 rfl rfl rfl ?_
    refine gw_aload_n X 6 0 dX0_pairsAll_5 rfl rfl rfl ?_
    refine gX_g0_13 X 9 q310 dX0_pairsAll_6 rfl ?_
    refine gX_n6 X 10 dX0_pairsAll_9 rfl ?_
    refine gw_icmp_ge X 26 13 dX0_pairsAll_10 rfl rfl (fun z => ?_) (fun z => ?_)
    · replace hp := gw_t z hp
      refine gw_lv [0, 1, 2] rfl ?_
      exact hk _ hp
    · replace hp := gw_f z hp
      refine gw_aload_n X 14 0 dX0_pairsAll_13 rfl rfl rfl ?_
      refine gX_g0_13 X 17 q310 dX0_pairsAll_14 rfl ?_
      refine gw_iload_n X 18 3 dX0_pairsAll_17 rfl rfl rfl ?_
      refine gw_iconst X 19 dX0_pairsAll_18 rfl gw_ci_m1 ?_
      obtain ⟨hc, hp⟩ := gw_ck_some hp
      refine gX_s6 X 20 (Int32.toNatClampNeg c3) hc rfl dX0_pairsAll_19 rfl ?_
      refine gw_iinc X 23 3 [(3, .int (c3 + 1)), (0, .ref (a 0)), (1, .int v1), (2, .int v2)] dX0_pairsAll_20 rfl rfl gw_ci_1 (by decide) rfl ?_
      refine gw_goto X 4 dX0_pairsAll_23 rfl ?_
      refine gw_lv [1, 2, 3, 0] rfl ?_
      exact ih hp hk
set_option maxHeartbeats 4000000 in
theorem wk_X0_pairsAll_L28 {E : gw_E} {l : Launch} {D : gw_D} {a : Nat → Nat} {Wr : va_W → Prop} {τ : Type} {res : τ} {post : Option (Option Value → va_W → Prop)} (X : gw_X E cX0_pairsAll 4 RX0 (some .int) l D rm_X0_pairsAll post) {k : Int32 → gw_S → Option (τ)} {v1 : Int32} : ∀ {n : Nat} {c2 : Int32} {c3 : Int32} {σ : gw_S}, fx_X0_pairsAll_L28 k v1 n c2 c3 σ = some res → (∀ (c2 : Int32) (σ : gw_S), k c2 σ = some res → gw_W E 77 [(0, .ref (a 0)), (1, .int v1), (2, .int c2)] [] (gw_st (wX D a σ) Wr) 0 0) → gw_W E 28 [(0, .ref (a 0)), (1, .int v1), (2, .int c2), (3, .int c3)] [] (gw_st (wX D a σ) Wr) 0 0 := by
  intro n
  induction n with
  | zero =>
    intro c2 c3 σ hp hk
    cases (show none = some res from hp)
  | succ n ih =>
    intro c2 c3 σ hp hk
    rw [fx_X0_pairsAll_L28] at hp
    refine gw_iload_n X 29 3 dX0_pairsAll_28 rfl rfl rfl ?_
    refine gw_iload_n X 30 1 dX0_pairsAll_29 rfl rfl rfl ?_
    refine gw_icmp_ge X 77 33 dX0_pairsAll_30 rfl rfl (fun z => ?_) (fun z => ?_)
    · replace hp := gw_t z hp
      refine gw_lv [0, 1, 2] rfl ?_
      exact hk _ _ hp
    · replace hp := gw_f z hp
      refine gw_aload_n X 34 0 dX0_pairsAll_33 rfl rfl rfl ?_
      refine gX_g0_14 X 37 q311 dX0_pairsAll_34 rfl ?_
      refine gw_iload_n X 38 3 dX0_pairsAll_37 rfl rfl rfl ?_
      obtain ⟨hc, hp⟩ := gw_ck_some hp
      refine gX_l7 X 39 (Int32.toNatClampNeg c3) hc rfl dX0_pairsAll_38 rfl ?_
      refine gw_iconst X 40 dX0_pairsAll_39 rfl gw_ci_m1 ?_
      refine gw_icmp_ne X 46 43 dX0_pairsAll_40 rfl rfl (fun z => ?_) (fun z => ?_)
      · replace hp := gw_f z hp
        refine gw_aload_n X 47 0 dX0_pairsAll_46 rfl rfl rfl ?_
        refine gX_g0_13 X 50 q310 dX0_pairsAll_47 rfl ?_
        refine gw_bipush X 52 dX0_pairsAll_50 rfl gw_cb_6 ?_
        refine gw_aload_n X 53 0 dX0_pairsAll_52 rfl rfl rfl ?_
        refine gX_g0_9 X 56 q303 dX0_pairsAll_53 rfl ?_
        refine gw_iload_n X 57 3 dX0_pairsAll_56 rfl rfl rfl ?_
        obtain ⟨hc, hp⟩ := gw_ck_some hp
        refine gX_l3 X 58 (Int32.toNatClampNeg c3) hc rfl dX0_pairsAll_57 rfl ?_
        refine gw_imul X 59 dX0_pairsAll_58 rfl ?_
        refine gw_aload_n X 60 0 dX0_pairsAll_59 rfl rfl rfl ?_
        refine gX_g0_14 X 63 q311 dX0_pairsAll_60 rfl ?_
        refine gw_iload_n X 64 3 dX0_pairsAll_63 rfl rfl rfl ?_
        obtain ⟨hc, hp⟩ := gw_ck_some hp
        refine gX_l7 X 65 (Int32.toNatClampNeg c3) hc rfl dX0_pairsAll_64 rfl ?_
        refine gw_iadd X 66 dX0_pairsAll_65 rfl ?_
        refine gw_iload_n X 67 3 dX0_pairsAll_66 rfl rfl rfl ?_
        obtain ⟨hc, hp⟩ := gw_ck_some hp
        refine gX_s6 X 68 (Int32.toNatClampNeg (((6 : Int32) * (σ.1 3 (Int32.toNatClampNeg c3))) + (σ.1 7 (Int32.toNatClampNeg c3)))) hc rfl dX0_pairsAll_67 rfl ?_
        refine gw_iinc X 71 2 [(2, .int (c2 + 1)), (0, .ref (a 0)), (1, .int v1), (3, .int c3)] dX0_pairsAll_68 rfl rfl gw_ci_1 (by decide) rfl ?_
        refine gw_iinc X 74 3 [(3, .int (c3 + 1)), (2, .int (c2 + 1)), (0, .ref (a 0)), (1, .int v1)] dX0_pairsAll_71 rfl rfl gw_ci_1 (by decide) rfl ?_
        refine gw_goto X 28 dX0_pairsAll_74 rfl ?_
        refine gw_lv [2, 3, 1, 0] rfl ?_
        exact ih hp hk
      · replace hp := gw_t z hp
        refine gw_goto X 71 dX0_pairsAll_43 rfl ?_
        refine gw_iinc X 74 3 [(3, .int (c3 + 1)), (0, .ref (a 0)), (1, .int v1), (2, .int c2)] dX0_pairsAll_71 rfl rfl gw_ci_1 (by decide) rfl ?_
        refine gw_goto X 28 dX0_pairsAll_74 rfl ?_
        refine gw_lv [1, 2, 3, 0] rfl ?_
        exact ih hp hk
set_option maxHeartbeats 4000000 in
theorem wk_X0_pairsAll_L79 {E : gw_E} {l : Launch} {D : gw_D} {a : Nat → Nat} {Wr : va_W → Prop} {τ : Type} {res : τ} {post : Option (Option Value → va_W → Prop)} (X : gw_X E cX0_pairsAll 4 RX0 (some .int) l D rm_X0_pairsAll post) {k : gw_S → Option (τ)} {v1 : Int32} {v2 : Int32} : ∀ {n : Nat} {c3 : Int32} {σ : gw_S}, fx_X0_pairsAll_L79 k v1 v2 n c3 σ = some res → (∀  (σ : gw_S), k σ = some res → gw_W E 103 [(0, .ref (a 0)), (1, .int v1), (2, .int v2)] [] (gw_st (wX D a σ) Wr) 0 0) → gw_W E 79 [(0, .ref (a 0)), (1, .int v1), (2, .int v2), (3, .int c3)] [] (gw_st (wX D a σ) Wr) 0 0 := by
  intro n
  induction n with
  | zero =>
    intro c3 σ hp hk
    cases (show none = some res from hp)
  | succ n ih =>
    intro c3 σ hp hk
    rw [fx_X0_pairsAll_L79] at hp
    refine gw_iload_n X 80 3 dX0_pairsAll_79 rfl rfl rfl ?_
    refine gw_aload_n X 81 0 dX0_pairsAll_80 rfl rfl rfl ?_
    refine gX_g0_0 X 84 q280 dX0_pairsAll_81 rfl ?_
    refine gX_g1_2N X 87 q193 dX0_pairsAll_84 rfl ?_
    refine gw_icmp_ge X 103 90 dX0_pairsAll_87 rfl rfl (fun z => ?_) (fun z => ?_)
    · replace hp := gw_t z hp
      refine gw_lv [0, 1, 2] rfl ?_
      exact hk _ hp
    · replace hp := gw_f z hp
      refine gw_aload_n X 91 0 dX0_pairsAll_90 rfl rfl rfl ?_
      refine gX_g0_14 X 94 q311 dX0_pairsAll_91 rfl ?_
      refine gw_iload_n X 95 3 dX0_pairsAll_94 rfl rfl rfl ?_
      refine gw_iconst X 96 dX0_pairsAll_95 rfl gw_ci_m1 ?_
      obtain ⟨hc, hp⟩ := gw_ck_some hp
      refine gX_s7 X 97 (Int32.toNatClampNeg c3) hc rfl dX0_pairsAll_96 rfl ?_
      refine gw_iinc X 100 3 [(3, .int (c3 + 1)), (0, .ref (a 0)), (1, .int v1), (2, .int v2)] dX0_pairsAll_97 rfl rfl gw_ci_1 (by decide) rfl ?_
      refine gw_goto X 79 dX0_pairsAll_100 rfl ?_
      refine gw_lv [1, 2, 3, 0] rfl ?_
      exact ih hp hk
set_option maxHeartbeats 4000000 in
theorem wk_X0_pairsAll_L105 {E : gw_E} {l : Launch} {D : gw_D} {a : Nat → Nat} {Wr : va_W → Prop} {res : Int32 × gw_S} (X : gw_X E cX0_pairsAll 4 RX0 (some .int) l D rm_X0_pairsAll (some (gw_pI res.1 (gw_st (wX D a res.2) Wr)))) {v1 : Int32} : ∀ {n : Nat} {c2 : Int32} {c3 : Int32} {σ : gw_S}, fx_X0_pairsAll_L105 v1 n c2 c3 σ = some res → gw_W E 105 [(0, .ref (a 0)), (1, .int v1), (2, .int c2), (3, .int c3)] [] (gw_st (wX D a σ) Wr) 0 0 := by
  intro n
  induction n with
  | zero =>
    intro c2 c3 σ hp
    cases (show none = some res from hp)
  | succ n ih =>
    intro c2 c3 σ hp
    rw [fx_X0_pairsAll_L105] at hp
    refine gw_iload_n X 106 3 dX0_pairsAll_105 rfl rfl rfl ?_
    refine gw_aload_n X 107 0 dX0_pairsAll_106 rfl rfl rfl ?_
    refine gX_g0_0 X 110 q280 dX0_pairsAll_107 rfl ?_
    refine gX_g1_2N X 113 q193 dX0_pairsAll_110 rfl ?_
    refine gw_icmp_ge X 144 116 dX0_pairsAll_113 rfl rfl (fun z => ?_) (fun z => ?_)
    · replace hp := gw_t z hp
      refine gw_iload_n X 145 2 dX0_pairsAll_144 rfl rfl rfl ?_
      cases hp
      exact gw_iret X dX0_pairsAll_145 (fun _ h => ⟨rfl, h⟩) (Nat.le_of_ble_eq_true rfl) (Nat.le_of_ble_eq_true rfl)
    · replace hp := gw_f z hp
      refine gw_aload_n X 117 0 dX0_pairsAll_116 rfl rfl rfl ?_
      refine gw_iconst X 118 dX0_pairsAll_117 rfl gw_ci_0 ?_
      refine gX_p0_15 X 121 q312 dX0_pairsAll_118 rfl ?_
      refine gw_iload_n X 122 2 dX0_pairsAll_121 rfl rfl rfl ?_
      refine gw_aload_n X 123 0 dX0_pairsAll_122 rfl rfl rfl ?_
      refine gw_iload_n X 124 3 dX0_pairsAll_123 rfl rfl rfl ?_
      refine gw_iload_n X 125 1 dX0_pairsAll_124 rfl rfl rfl ?_
      obtain ⟨σ5, h6, hp⟩ := gw_let_some hp
      rw [← h6]
      clear h6
      obtain ⟨r7, σ8, h9, hp⟩ := gw_b2_some hp
      refine gw_callVi X 128 [.int c3, .int v1] (mt_X0_pairs h9) lk_X0_262 ydv_X0_pairs gX_cl0 gX_at0 rfl rfl rfl dX0_pairsAll_125 rfl rfl rfl ?_
      refine gw_if_eqB X 135 131 dX0_pairsAll_128 rfl rfl (fun z => ?_) (fun z => ?_)
      · replace hp := gw_f z hp
        refine gw_iconst X 136 dX0_pairsAll_135 rfl gw_ci_0 ?_
        refine gw_iadd X 137 dX0_pairsAll_136 rfl ?_
        refine gw_istore_n X 138 [(2, .int (c2 + (0 : Int32))), (0, .ref (a 0)), (1, .int v1), (3, .int c3)] dX0_pairsAll_137 rfl rfl (by decide) rfl ?_
        refine gw_iinc X 141 3 [(3, .int (c3 + 1)), (2, .int (c2 + (0 : Int32))), (0, .ref (a 0)), (1, .int v1)] dX0_pairsAll_138 rfl rfl gw_ci_1 (by decide) rfl ?_
        refine gw_goto X 105 dX0_pairsAll_141 rfl ?_
        refine gw_lv [2, 3, 1, 0] rfl ?_
        exact ih hp
      · replace hp := gw_t z hp
        refine gw_iconst X 132 dX0_pairsAll_131 rfl gw_ci_1 ?_
        refine gw_goto X 136 dX0_pairsAll_132 rfl ?_
        refine gw_iadd X 137 dX0_pairsAll_136 rfl ?_
        refine gw_istore_n X 138 [(2, .int (c2 + (1 : Int32))), (0, .ref (a 0)), (1, .int v1), (3, .int c3)] dX0_pairsAll_137 rfl rfl (by decide) rfl ?_
        refine gw_iinc X 141 3 [(3, .int (c3 + 1)), (2, .int (c2 + (1 : Int32))), (0, .ref (a 0)), (1, .int v1)] dX0_pairsAll_138 rfl rfl gw_ci_1 (by decide) rfl ?_
        refine gw_goto X 105 dX0_pairsAll_141 rfl ?_
        refine gw_lv [2, 3, 1, 0] rfl ?_
        exact ih hp
set_option maxHeartbeats 4000000 in
theorem mt_X0_pairsAll {l : Launch} {D : gw_D} {a : Nat → Nat} {Wr : va_W → Prop} {σ : gw_S} {x1 : Int32} {res : Int32 × gw_S} (hp : fx_X0_pairsAll σ x1 = some res) : gw_Ct D l yX0_pairsAll cX0_pairsAll 4 (some .int) rm_X0_pairsAll [.ref (a 0), .int x1] (gw_st (wX D a σ) Wr) (gw_pI res.1 (gw_st (wX D a res.2) Wr)) := by
  refine gw_ct (own := RX0) [(0, .ref (a 0)), (1, .int x1)] (by decide) rfl (Nat.le_of_ble_eq_true rfl) rfl ?_
  intro E X
  unfold fx_X0_pairsAll at hp
  refine gw_iconst X 1 dX0_pairsAll_0 rfl gw_ci_0 ?_
  refine gw_istore_n X 2 [(2, .int 0), (0, .ref (a 0)), (1, .int x1)] dX0_pairsAll_1 rfl rfl (by decide) rfl ?_
  refine gw_iconst X 3 dX0_pairsAll_2 rfl gw_ci_0 ?_
  refine gw_istore_n X 4 [(3, .int 0), (2, .int 0), (0, .ref (a 0)), (1, .int x1)] dX0_pairsAll_3 rfl rfl (by decide) rfl ?_
  refine gw_lv [2, 3, 1, 0] rfl ?_
  refine wk_X0_pairsAll_L4 X hp ?_
  clear hp
  intro σ1 hp
  refine gw_iconst X 27 dX0_pairsAll_26 rfl gw_ci_0 ?_
  refine gw_istore_n X 28 [(3, .int 0), (0, .ref (a 0)), (1, .int x1), (2, .int 0)] dX0_pairsAll_27 rfl rfl (by decide) rfl ?_
  refine gw_lv [1, 2, 3, 0] rfl ?_
  refine wk_X0_pairsAll_L28 X hp ?_
  clear hp
  intro e2 σ3 hp
  refine gw_iload_n X 78 1 dX0_pairsAll_77 rfl rfl rfl ?_
  refine gw_istore_n X 79 [(3, .int x1), (0, .ref (a 0)), (1, .int x1), (2, .int e2)] dX0_pairsAll_78 rfl rfl (by decide) rfl ?_
  refine gw_lv [1, 2, 3, 0] rfl ?_
  refine wk_X0_pairsAll_L79 X hp ?_
  clear hp
  intro σ4 hp
  refine gw_iload_n X 104 1 dX0_pairsAll_103 rfl rfl rfl ?_
  refine gw_istore_n X 105 [(3, .int x1), (0, .ref (a 0)), (1, .int x1), (2, .int e2)] dX0_pairsAll_104 rfl rfl (by decide) rfl ?_
  refine gw_lv [1, 2, 3, 0] rfl ?_
  exact wk_X0_pairsAll_L105 X hp
abbrev rm_X0_work : Room := { frames := 107, cells := 384, slots := 1024, locals := 4247 }
def fx_X0_work (σ : gw_S)  : Option (Int32 × gw_S) := (if fx_X0_isCity σ = true then gw_b1 (fx_X0_asItIs σ) (fun σ1 => gw_b2 (fx_X0_pairsAll σ1 (0 : Int32)) (fun r3 σ4 => some (r3, σ4))) else some ((-2), σ))
set_option maxHeartbeats 4000000 in
theorem mt_X0_work {l : Launch} {D : gw_D} {a : Nat → Nat} {Wr : va_W → Prop} {σ : gw_S}  {res : Int32 × gw_S} (hp : fx_X0_work σ  = some res) : gw_Ct D l yX0_work cX0_work 1 (some .int) rm_X0_work [.ref (a 0)] (gw_st (wX D a σ) (gw_sp (gK D a) Wr)) (gw_pI res.1 (gw_st (wX D a res.2) (gw_sp (gK D a) Wr))) := by
  refine gw_ct (own := RX0) [(0, .ref (a 0))] (by decide) rfl (Nat.le_of_ble_eq_true rfl) rfl ?_
  intro E X
  unfold fx_X0_work at hp
  refine gw_aload_n X 1 0 dX0_work_0 rfl rfl rfl ?_
  refine gw_callVi X 4 [] (mt_X0_isCity rfl) lk_X0_103 ydv_X0_isCity gX_cl0 gX_at0 rfl rfl rfl dX0_work_1 rfl rfl rfl ?_
  refine gw_if_neB X 10 7 dX0_work_4 rfl rfl (fun z => ?_) (fun z => ?_)
  · replace hp := gw_t z hp
    refine gw_aload_n X 11 0 dX0_work_10 rfl rfl rfl ?_
    obtain ⟨σ1, h2, hp⟩ := gw_b1_some hp
    refine gw_callVv X 14 [] (mt_X0_asItIs h2) lk_X0_190 ydv_X0_asItIs gX_cl0 gX_at0 rfl rfl rfl dX0_work_11 rfl rfl rfl ?_
    refine gw_aload_n X 15 0 dX0_work_14 rfl rfl rfl ?_
    refine gw_iconst X 16 dX0_work_15 rfl gw_ci_0 ?_
    obtain ⟨r3, σ4, h5, hp⟩ := gw_b2_some hp
    refine gw_callVi X 19 [.int 0] (mt_X0_pairsAll h5) lk_X0_265 ydv_X0_pairsAll gX_cl0 gX_at0 rfl rfl rfl dX0_work_16 rfl rfl rfl ?_
    cases hp
    exact gw_iret X dX0_work_19 (fun _ h => ⟨rfl, h⟩) (Nat.le_of_ble_eq_true rfl) (Nat.le_of_ble_eq_true rfl)
  · replace hp := gw_f z hp
    refine gw_bipush X 9 dX0_work_7 rfl gw_cb_m2 ?_
    cases hp
    exact gw_iret X dX0_work_9 (fun _ h => ⟨rfl, h⟩) (Nat.le_of_ble_eq_true rfl) (Nat.le_of_ble_eq_true rfl)
abbrev rm_X0_works : Room := { frames := 107, cells := 384, slots := 1024, locals := 4247 }
def fx_X0_works_L35 {τ : Type} (k : Int32 → gw_S → Option (τ)) (v1 : Int32) (v2 : Int32) (v3 : Int32) : Nat → Int32 → Int32 → gw_S → Option (τ)
  | 0, _, _, _ => none
  | n + 1, c4, c5, σ => (if (6 : Int32) ≤ c5 then k c4 σ else (if c4 = (-1 : Int32) then gw_b1 (fx_X0_canAsk σ v3 c5) (fun r6 => (if r6 = true then gw_b1 (fx_X0_isFreeWish σ v3 c5) (fun r8 => (if r8 = true then gw_ck v3 8 (gw_let (gw_u σ 7 (Int32.toNatClampNeg v3) c5) (fun σ10 => gw_b2 (fx_X0_pairsAll σ10 (v3 + (1 : Int32))) (fun r12 σ13 => (if r12 = v2 then fx_X0_works_L35 k v1 v2 v3 n c5 (c5 + 1) σ13 else fx_X0_works_L35 k v1 v2 v3 n (-1 : Int32) (c5 + 1) σ13)))) else fx_X0_works_L35 k v1 v2 v3 n c4 (c5 + 1) σ)) else fx_X0_works_L35 k v1 v2 v3 n c4 (c5 + 1) σ)) else k c4 σ))
def fx_X0_works_L24 (v1 : Int32) (v2 : Int32) : Nat → Int32 → gw_S → Option (Int32 × gw_S)
  | 0, _, _ => none
  | n + 1, c3, σ => (if v1 < c3 then gw_ck v1 8 (some (σ.1 7 (Int32.toNatClampNeg v1), σ)) else fx_X0_works_L35 (fun (e15 : Int32) (σ16 : gw_S) => gw_ck c3 8 (fx_X0_works_L24 v1 v2 n (c3 + 1) (gw_u σ16 7 (Int32.toNatClampNeg c3) e15))) v1 v2 c3 1000 (-1 : Int32) (0 : Int32) σ)
def fx_X0_works (σ : gw_S) (x1 : Int32) : Option (Int32 × gw_S) := (if fx_X0_isPerson σ (Int32.toInt64 x1) = true then gw_b1 (fx_X0_asItIs σ) (fun σ1 => gw_b2 (fx_X0_pairsAll σ1 (0 : Int32)) (fun r3 σ4 => fx_X0_works_L24 x1 r3 1000 (0 : Int32) σ4)) else some ((-2), σ))
set_option maxHeartbeats 4000000 in
theorem wk_X0_works_L35 {E : gw_E} {l : Launch} {D : gw_D} {a : Nat → Nat} {Wr : va_W → Prop} {τ : Type} {res : τ} {post : Option (Option Value → va_W → Prop)} (X : gw_X E cX0_works 6 RX0 (some .int) l D rm_X0_works post) {k : Int32 → gw_S → Option (τ)} {v1 : Int32} {v2 : Int32} {v3 : Int32} : ∀ {n : Nat} {c4 : Int32} {c5 : Int32} {σ : gw_S}, fx_X0_works_L35 k v1 v2 v3 n c4 c5 σ = some res → (∀ (c4 : Int32) (σ : gw_S), k c4 σ = some res → gw_W E 104 [(0, .ref (a 0)), (1, .int v1), (2, .int v2), (3, .int v3), (4, .int c4)] [] (gw_st (wX D a σ) (gw_sp (gK D a) Wr)) 384 1024) → gw_W E 35 [(0, .ref (a 0)), (1, .int v1), (2, .int v2), (3, .int v3), (4, .int c4), (5, .int c5)] [] (gw_st (wX D a σ) (gw_sp (gK D a) Wr)) 384 1024 := by
  intro n
  induction n with
  | zero =>
    intro c4 c5 σ hp hk
    cases (show none = some res from hp)
  | succ n ih =>
    intro c4 c5 σ hp hk
    rw [fx_X0_works_L35] at hp
    refine gw_iload X 37 5 dX0_works_35 rfl rfl ?_
    refine gw_bipush X 39 dX0_works_37 rfl gw_cb_6 ?_
    refine gw_icmp_ge X 104 42 dX0_works_39 rfl rfl (fun z => ?_) (fun z => ?_)
    · replace hp := gw_t z hp
      refine gw_lv [0, 1, 2, 3, 4] rfl ?_
      exact hk _ _ hp
    · replace hp := gw_f z hp
      refine gw_iload X 44 4 dX0_works_42 rfl rfl ?_
      refine gw_iconst X 45 dX0_works_44 rfl gw_ci_m1 ?_
      refine gw_icmp_ne X 104 48 dX0_works_45 rfl rfl (fun z => ?_) (fun z => ?_)
      · replace hp := gw_f z hp
        refine gw_lv [0, 1, 2, 3, 4] rfl ?_
        exact hk _ _ hp
      · replace hp := gw_t z hp
        refine gw_aload_n X 49 0 dX0_works_48 rfl rfl rfl ?_
        refine gw_iload_n X 50 3 dX0_works_49 rfl rfl rfl ?_
        refine gw_iload X 52 5 dX0_works_50 rfl rfl ?_
        obtain ⟨r6, h7, hp⟩ := gw_b1_some hp
        refine gw_callVi X 55 [.int v3, .int c5] (mt_X0_canAsk h7) lk_X0_256 ydv_X0_canAsk gX_cl0 gX_at0 rfl rfl rfl dX0_works_52 rfl rfl rfl ?_
        refine gw_if_eqB X 98 58 dX0_works_55 rfl rfl (fun z => ?_) (fun z => ?_)
        · replace hp := gw_f z hp
          refine gw_iinc X 101 5 [(5, .int (c5 + 1)), (0, .ref (a 0)), (1, .int v1), (2, .int v2), (3, .int v3), (4, .int c4)] dX0_works_98 rfl rfl gw_ci_1 (by decide) rfl ?_
          refine gw_goto X 35 dX0_works_101 rfl ?_
          refine gw_lv [1, 2, 3, 4, 5, 0] rfl ?_
          exact ih hp hk
        · replace hp := gw_t z hp
          refine gw_aload_n X 59 0 dX0_works_58 rfl rfl rfl ?_
          refine gw_iload_n X 60 3 dX0_works_59 rfl rfl rfl ?_
          refine gw_iload X 62 5 dX0_works_60 rfl rfl ?_
          obtain ⟨r8, h9, hp⟩ := gw_b1_some hp
          refine gw_callVi X 65 [.int v3, .int c5] (mt_X0_isFreeWish h9) lk_X0_268 ydv_X0_isFreeWish gX_cl0 gX_at0 rfl rfl rfl dX0_works_62 rfl rfl rfl ?_
          refine gw_if_neB X 71 68 dX0_works_65 rfl rfl (fun z => ?_) (fun z => ?_)
          · replace hp := gw_t z hp
            refine gw_aload_n X 72 0 dX0_works_71 rfl rfl rfl ?_
            refine gX_g0_14 X 75 q311 dX0_works_72 rfl ?_
            refine gw_iload_n X 76 3 dX0_works_75 rfl rfl rfl ?_
            refine gw_iload X 78 5 dX0_works_76 rfl rfl ?_
            obtain ⟨hc, hp⟩ := gw_ck_some hp
            refine gX_s7 X 79 (Int32.toNatClampNeg v3) hc rfl dX0_works_78 rfl ?_
            refine gw_aload_n X 80 0 dX0_works_79 rfl rfl rfl ?_
            refine gw_iload_n X 81 3 dX0_works_80 rfl rfl rfl ?_
            refine gw_iconst X 82 dX0_works_81 rfl gw_ci_1 ?_
            refine gw_iadd X 83 dX0_works_82 rfl ?_
            obtain ⟨σ10, h11, hp⟩ := gw_let_some hp
            rw [← h11]
            clear h11
            obtain ⟨r12, σ13, h14, hp⟩ := gw_b2_some hp
            refine gw_callVi X 86 [.int (v3 + (1 : Int32))] (mt_X0_pairsAll h14) lk_X0_265 ydv_X0_pairsAll gX_cl0 gX_at0 rfl rfl rfl dX0_works_83 rfl rfl rfl ?_
            refine gw_iload_n X 87 2 dX0_works_86 rfl rfl rfl ?_
            refine gw_icmp_ne X 95 90 dX0_works_87 rfl rfl (fun z => ?_) (fun z => ?_)
            · replace hp := gw_f z hp
              refine gw_iconst X 96 dX0_works_95 rfl gw_ci_m1 ?_
              refine gw_istore X 98 [(4, .int (-1)), (0, .ref (a 0)), (1, .int v1), (2, .int v2), (3, .int v3), (5, .int c5)] dX0_works_96 rfl (by decide) rfl ?_
              refine gw_iinc X 101 5 [(5, .int (c5 + 1)), (4, .int (-1)), (0, .ref (a 0)), (1, .int v1), (2, .int v2), (3, .int v3)] dX0_works_98 rfl rfl gw_ci_1 (by decide) rfl ?_
              refine gw_goto X 35 dX0_works_101 rfl ?_
              refine gw_lv [2, 3, 4, 5, 1, 0] rfl ?_
              exact ih hp hk
            · replace hp := gw_t z hp
              refine gw_iload X 92 5 dX0_works_90 rfl rfl ?_
              refine gw_goto X 96 dX0_works_92 rfl ?_
              refine gw_istore X 98 [(4, .int c5), (0, .ref (a 0)), (1, .int v1), (2, .int v2), (3, .int v3), (5, .int c5)] dX0_works_96 rfl (by decide) rfl ?_
              refine gw_iinc X 101 5 [(5, .int (c5 + 1)), (4, .int c5), (0, .ref (a 0)), (1, .int v1), (2, .int v2), (3, .int v3)] dX0_works_98 rfl rfl gw_ci_1 (by decide) rfl ?_
              refine gw_goto X 35 dX0_works_101 rfl ?_
              refine gw_lv [2, 3, 4, 5, 1, 0] rfl ?_
              exact ih hp hk
          · replace hp := gw_f z hp
            refine gw_goto X 98 dX0_works_68 rfl ?_
            refine gw_iinc X 101 5 [(5, .int (c5 + 1)), (0, .ref (a 0)), (1, .int v1), (2, .int v2), (3, .int v3), (4, .int c4)] dX0_works_98 rfl rfl gw_ci_1 (by decide) rfl ?_
            refine gw_goto X 35 dX0_works_101 rfl ?_
            refine gw_lv [1, 2, 3, 4, 5, 0] rfl ?_
            exact ih hp hk
set_option maxHeartbeats 4000000 in
theorem wk_X0_works_L24 {E : gw_E} {l : Launch} {D : gw_D} {a : Nat → Nat} {Wr : va_W → Prop} {res : Int32 × gw_S} (X : gw_X E cX0_works 6 RX0 (some .int) l D rm_X0_works (some (gw_pI res.1 (gw_st (wX D a res.2) (gw_sp (gK D a) Wr))))) {v1 : Int32} {v2 : Int32} : ∀ {n : Nat} {c3 : Int32} {σ : gw_S}, fx_X0_works_L24 v1 v2 n c3 σ = some res → gw_W E 24 [(0, .ref (a 0)), (1, .int v1), (2, .int v2), (3, .int c3)] [] (gw_st (wX D a σ) (gw_sp (gK D a) Wr)) 384 1024 := by
  intro n
  induction n with
  | zero =>
    intro c3 σ hp
    cases (show none = some res from hp)
  | succ n ih =>
    intro c3 σ hp
    rw [fx_X0_works_L24] at hp
    refine gw_iload_n X 25 3 dX0_works_24 rfl rfl rfl ?_
    refine gw_iload_n X 26 1 dX0_works_25 rfl rfl rfl ?_
    refine gw_icmp_gt X 118 29 dX0_works_26 rfl rfl (fun z => ?_) (fun z => ?_)
    · replace hp := gw_t z hp
      refine gw_aload_n X 119 0 dX0_works_118 rfl rfl rfl ?_
      refine gX_g0_14 X 122 q311 dX0_works_119 rfl ?_
      refine gw_iload_n X 123 1 dX0_works_122 rfl rfl rfl ?_
      obtain ⟨hc, hp⟩ := gw_ck_some hp
      refine gX_l7 X 124 (Int32.toNatClampNeg v1) hc rfl dX0_works_123 rfl ?_
      cases hp
      exact gw_iret X dX0_works_124 (fun _ h => ⟨rfl, h⟩) (Nat.le_of_ble_eq_true rfl) (Nat.le_of_ble_eq_true rfl)
    · replace hp := gw_f z hp
      refine gw_iconst X 30 dX0_works_29 rfl gw_ci_m1 ?_
      refine gw_istore X 32 [(4, .int (-1)), (0, .ref (a 0)), (1, .int v1), (2, .int v2), (3, .int c3)] dX0_works_30 rfl (by decide) rfl ?_
      refine gw_iconst X 33 dX0_works_32 rfl gw_ci_0 ?_
      refine gw_istore X 35 [(5, .int 0), (4, .int (-1)), (0, .ref (a 0)), (1, .int v1), (2, .int v2), (3, .int c3)] dX0_works_33 rfl (by decide) rfl ?_
      refine gw_lv [2, 3, 4, 5, 1, 0] rfl ?_
      refine wk_X0_works_L35 X hp ?_
      clear hp
      intro e15 σ16 hp
      refine gw_aload_n X 105 0 dX0_works_104 rfl rfl rfl ?_
      refine gX_g0_14 X 108 q311 dX0_works_105 rfl ?_
      refine gw_iload_n X 109 3 dX0_works_108 rfl rfl rfl ?_
      refine gw_iload X 111 4 dX0_works_109 rfl rfl ?_
      obtain ⟨hc, hp⟩ := gw_ck_some hp
      refine gX_s7 X 112 (Int32.toNatClampNeg c3) hc rfl dX0_works_111 rfl ?_
      refine gw_iinc X 115 3 [(3, .int (c3 + 1)), (0, .ref (a 0)), (1, .int v1), (2, .int v2), (4, .int e15)] dX0_works_112 rfl rfl gw_ci_1 (by decide) rfl ?_
      refine gw_goto X 24 dX0_works_115 rfl ?_
      refine gw_lv [1, 2, 3, 0] rfl ?_
      exact ih hp
set_option maxHeartbeats 4000000 in
theorem mt_X0_works {l : Launch} {D : gw_D} {a : Nat → Nat} {Wr : va_W → Prop} {σ : gw_S} {x1 : Int32} {res : Int32 × gw_S} (hp : fx_X0_works σ x1 = some res) : gw_Ct D l yX0_works cX0_works 6 (some .int) rm_X0_works [.ref (a 0), .int x1] (gw_st (wX D a σ) (gw_sp (gK D a) Wr)) (gw_pI res.1 (gw_st (wX D a res.2) (gw_sp (gK D a) Wr))) := by
  refine gw_ct (own := RX0) [(0, .ref (a 0)), (1, .int x1)] (by decide) rfl (Nat.le_of_ble_eq_true rfl) rfl ?_
  intro E X
  unfold fx_X0_works at hp
  refine gw_aload_n X 1 0 dX0_works_0 rfl rfl rfl ?_
  refine gw_iload_n X 2 1 dX0_works_1 rfl rfl rfl ?_
  refine gw_i2l X 3 dX0_works_2 rfl ?_
  refine gw_callVi X 6 [.long (Int32.toInt64 x1)] (mt_X0_isPerson rfl) lk_X0_186 ydv_X0_isPerson gX_cl0 gX_at0 rfl rfl rfl dX0_works_3 rfl rfl rfl ?_
  refine gw_if_neB X 12 9 dX0_works_6 rfl rfl (fun z => ?_) (fun z => ?_)
  · replace hp := gw_t z hp
    refine gw_aload_n X 13 0 dX0_works_12 rfl rfl rfl ?_
    obtain ⟨σ1, h2, hp⟩ := gw_b1_some hp
    refine gw_callVv X 16 [] (mt_X0_asItIs h2) lk_X0_190 ydv_X0_asItIs gX_cl0 gX_at0 rfl rfl rfl dX0_works_13 rfl rfl rfl ?_
    refine gw_aload_n X 17 0 dX0_works_16 rfl rfl rfl ?_
    refine gw_iconst X 18 dX0_works_17 rfl gw_ci_0 ?_
    obtain ⟨r3, σ4, h5, hp⟩ := gw_b2_some hp
    refine gw_callVi X 21 [.int 0] (mt_X0_pairsAll h5) lk_X0_265 ydv_X0_pairsAll gX_cl0 gX_at0 rfl rfl rfl dX0_works_18 rfl rfl rfl ?_
    refine gw_istore_n X 22 [(2, .int r3), (0, .ref (a 0)), (1, .int x1)] dX0_works_21 rfl rfl (by decide) rfl ?_
    refine gw_iconst X 23 dX0_works_22 rfl gw_ci_0 ?_
    refine gw_istore_n X 24 [(3, .int 0), (2, .int r3), (0, .ref (a 0)), (1, .int x1)] dX0_works_23 rfl rfl (by decide) rfl ?_
    refine gw_lv [2, 3, 1, 0] rfl ?_
    exact wk_X0_works_L24 X hp
  · replace hp := gw_f z hp
    refine gw_bipush X 11 dX0_works_9 rfl gw_cb_m2 ?_
    cases hp
    exact gw_iret X dX0_works_11 (fun _ h => ⟨rfl, h⟩) (Nat.le_of_ble_eq_true rfl) (Nat.le_of_ble_eq_true rfl)
abbrev rm_X0_coverOf : Room := { frames := 16, cells := 384, slots := 1024, locals := 821 }
def fx_X0_coverOf_L8 (σ : gw_S) (v1 : Int32) : Nat → Int32 → Int32 → Option (Int32 × gw_S)
  | 0, _, _ => none
  | n + 1, c2, c3 => (if (fx_X0_all σ) < c3 then some (c2, σ) else (if c2 = (-1 : Int32) then gw_b1 (fx_X0_handsOf σ c3) (fun r3 => gw_b1 (fx_X0_deedsOf σ r3) (fun r5 => (if (v1 &&& (r5 ^^^ (-1 : Int32))) = 0 then fx_X0_coverOf_L8 σ v1 n c3 (c3 + 1) else fx_X0_coverOf_L8 σ v1 n c2 (c3 + 1)))) else (if (fx_J13_bitCount c2) ≤ (fx_J13_bitCount c3) then fx_X0_coverOf_L8 σ v1 n c2 (c3 + 1) else gw_b1 (fx_X0_handsOf σ c3) (fun r7 => gw_b1 (fx_X0_deedsOf σ r7) (fun r9 => (if (v1 &&& (r9 ^^^ (-1 : Int32))) = 0 then fx_X0_coverOf_L8 σ v1 n c3 (c3 + 1) else fx_X0_coverOf_L8 σ v1 n c2 (c3 + 1)))))))
def fx_X0_coverOf (σ : gw_S) (x1 : Int32) : Option (Int32 × gw_S) := gw_b1 (fx_X0_asItIs σ) (fun σ1 => fx_X0_coverOf_L8 σ1 x1 1000 (-1 : Int32) (0 : Int32))
set_option maxHeartbeats 4000000 in
theorem wk_X0_coverOf_L8 {E : gw_E} {l : Launch} {D : gw_D} {a : Nat → Nat} {Wr : va_W → Prop} {σ : gw_S} {res : Int32 × gw_S} (X : gw_X E cX0_coverOf 4 RX0 (some .int) l D rm_X0_coverOf (some (gw_pI res.1 (gw_st (wX D a res.2) (gw_sp (gK D a) Wr))))) {v1 : Int32} : ∀ {n : Nat} {c2 : Int32} {c3 : Int32}, fx_X0_coverOf_L8 σ v1 n c2 c3 = some res → gw_W E 8 [(0, .ref (a 0)), (1, .int v1), (2, .int c2), (3, .int c3)] [] (gw_st (wX D a σ) (gw_sp (gK D a) Wr)) 384 1024 := by
  intro n
  induction n with
  | zero =>
    intro c2 c3 hp
    cases (show none = some res from hp)
  | succ n ih =>
    intro c2 c3 hp
    rw [fx_X0_coverOf_L8] at hp
    refine gw_iload_n X 9 3 dX0_coverOf_8 rfl rfl rfl ?_
    refine gw_aload_n X 10 0 dX0_coverOf_9 rfl rfl rfl ?_
    refine gw_callVi X 13 [] (mt_X0_all rfl) lk_X0_107 ydv_X0_all gX_cl0 gX_at0 rfl rfl rfl dX0_coverOf_10 rfl rfl rfl ?_
    refine gw_icmp_gt X 56 16 dX0_coverOf_13 rfl rfl (fun z => ?_) (fun z => ?_)
    · replace hp := gw_t z hp
      refine gw_iload_n X 57 2 dX0_coverOf_56 rfl rfl rfl ?_
      cases hp
      exact gw_iret X dX0_coverOf_57 (fun _ h => ⟨rfl, h⟩) (Nat.le_of_ble_eq_true rfl) (Nat.le_of_ble_eq_true rfl)
    · replace hp := gw_f z hp
      refine gw_iload_n X 17 2 dX0_coverOf_16 rfl rfl rfl ?_
      refine gw_iconst X 18 dX0_coverOf_17 rfl gw_ci_m1 ?_
      refine gw_icmp_eq X 32 21 dX0_coverOf_18 rfl rfl (fun z => ?_) (fun z => ?_)
      · replace hp := gw_t z hp
        refine gw_iload_n X 33 1 dX0_coverOf_32 rfl rfl rfl ?_
        refine gw_aload_n X 34 0 dX0_coverOf_33 rfl rfl rfl ?_
        refine gw_aload_n X 35 0 dX0_coverOf_34 rfl rfl rfl ?_
        refine gw_iload_n X 36 3 dX0_coverOf_35 rfl rfl rfl ?_
        obtain ⟨r3, h4, hp⟩ := gw_b1_some hp
        refine gw_callVi X 39 [.int c3] (mt_X0_handsOf h4) lk_X0_278 ydv_X0_handsOf gX_cl0 gX_at0 rfl rfl rfl dX0_coverOf_36 rfl rfl rfl ?_
        obtain ⟨r5, h6, hp⟩ := gw_b1_some hp
        refine gw_callVi X 42 [.int r3] (mt_X0_deedsOf h6) lk_X0_238 ydv_X0_deedsOf gX_cl0 gX_at0 rfl rfl rfl dX0_coverOf_39 rfl rfl rfl ?_
        refine gw_iconst X 43 dX0_coverOf_42 rfl gw_ci_m1 ?_
        refine gw_ixor X 44 dX0_coverOf_43 rfl ?_
        refine gw_iand X 45 dX0_coverOf_44 rfl ?_
        refine gw_if_ne X 50 48 dX0_coverOf_45 rfl rfl (fun z => ?_) (fun z => ?_)
        · replace hp := gw_f z hp
          refine gw_iinc X 53 3 [(3, .int (c3 + 1)), (0, .ref (a 0)), (1, .int v1), (2, .int c2)] dX0_coverOf_50 rfl rfl gw_ci_1 (by decide) rfl ?_
          refine gw_goto X 8 dX0_coverOf_53 rfl ?_
          refine gw_lv [1, 2, 3, 0] rfl ?_
          exact ih hp
        · replace hp := gw_t z hp
          refine gw_iload_n X 49 3 dX0_coverOf_48 rfl rfl rfl ?_
          refine gw_istore_n X 50 [(2, .int c3), (0, .ref (a 0)), (1, .int v1), (3, .int c3)] dX0_coverOf_49 rfl rfl (by decide) rfl ?_
          refine gw_iinc X 53 3 [(3, .int (c3 + 1)), (2, .int c3), (0, .ref (a 0)), (1, .int v1)] dX0_coverOf_50 rfl rfl gw_ci_1 (by decide) rfl ?_
          refine gw_goto X 8 dX0_coverOf_53 rfl ?_
          refine gw_lv [2, 3, 1, 0] rfl ?_
          exact ih hp
      · replace hp := gw_f z hp
        refine gw_iload_n X 22 3 dX0_coverOf_21 rfl rfl rfl ?_
        refine gw_callSi X 25 [.int c3] (mt_J13_bitCount rfl) lk_X0_273 yd_J13_bitCount rfl rfl rfl dX0_coverOf_22 rfl rfl rfl ?_
        refine gw_iload_n X 26 2 dX0_coverOf_25 rfl rfl rfl ?_
        refine gw_callSi X 29 [.int c2] (mt_J13_bitCount rfl) lk_X0_273 yd_J13_bitCount rfl rfl rfl dX0_coverOf_26 rfl rfl rfl ?_
        refine gw_icmp_ge X 50 32 dX0_coverOf_29 rfl rfl (fun z => ?_) (fun z => ?_)
        · replace hp := gw_t z hp
          refine gw_iinc X 53 3 [(3, .int (c3 + 1)), (0, .ref (a 0)), (1, .int v1), (2, .int c2)] dX0_coverOf_50 rfl rfl gw_ci_1 (by decide) rfl ?_
          refine gw_goto X 8 dX0_coverOf_53 rfl ?_
          refine gw_lv [1, 2, 3, 0] rfl ?_
          exact ih hp
        · replace hp := gw_f z hp
          refine gw_iload_n X 33 1 dX0_coverOf_32 rfl rfl rfl ?_
          refine gw_aload_n X 34 0 dX0_coverOf_33 rfl rfl rfl ?_
          refine gw_aload_n X 35 0 dX0_coverOf_34 rfl rfl rfl ?_
          refine gw_iload_n X 36 3 dX0_coverOf_35 rfl rfl rfl ?_
          obtain ⟨r7, h8, hp⟩ := gw_b1_some hp
          refine gw_callVi X 39 [.int c3] (mt_X0_handsOf h8) lk_X0_278 ydv_X0_handsOf gX_cl0 gX_at0 rfl rfl rfl dX0_coverOf_36 rfl rfl rfl ?_
          obtain ⟨r9, h10, hp⟩ := gw_b1_some hp
          refine gw_callVi X 42 [.int r7] (mt_X0_deedsOf h10) lk_X0_238 ydv_X0_deedsOf gX_cl0 gX_at0 rfl rfl rfl dX0_coverOf_39 rfl rfl rfl ?_
          refine gw_iconst X 43 dX0_coverOf_42 rfl gw_ci_m1 ?_
          refine gw_ixor X 44 dX0_coverOf_43 rfl ?_
          refine gw_iand X 45 dX0_coverOf_44 rfl ?_
          refine gw_if_ne X 50 48 dX0_coverOf_45 rfl rfl (fun z => ?_) (fun z => ?_)
          · replace hp := gw_f z hp
            refine gw_iinc X 53 3 [(3, .int (c3 + 1)), (0, .ref (a 0)), (1, .int v1), (2, .int c2)] dX0_coverOf_50 rfl rfl gw_ci_1 (by decide) rfl ?_
            refine gw_goto X 8 dX0_coverOf_53 rfl ?_
            refine gw_lv [1, 2, 3, 0] rfl ?_
            exact ih hp
          · replace hp := gw_t z hp
            refine gw_iload_n X 49 3 dX0_coverOf_48 rfl rfl rfl ?_
            refine gw_istore_n X 50 [(2, .int c3), (0, .ref (a 0)), (1, .int v1), (3, .int c3)] dX0_coverOf_49 rfl rfl (by decide) rfl ?_
            refine gw_iinc X 53 3 [(3, .int (c3 + 1)), (2, .int c3), (0, .ref (a 0)), (1, .int v1)] dX0_coverOf_50 rfl rfl gw_ci_1 (by decide) rfl ?_
            refine gw_goto X 8 dX0_coverOf_53 rfl ?_
            refine gw_lv [2, 3, 1, 0] rfl ?_
            exact ih hp
set_option maxHeartbeats 4000000 in
theorem mt_X0_coverOf {l : Launch} {D : gw_D} {a : Nat → Nat} {Wr : va_W → Prop} {σ : gw_S} {x1 : Int32} {res : Int32 × gw_S} (hp : fx_X0_coverOf σ x1 = some res) : gw_Ct D l yX0_coverOf cX0_coverOf 4 (some .int) rm_X0_coverOf [.ref (a 0), .int x1] (gw_st (wX D a σ) (gw_sp (gK D a) Wr)) (gw_pI res.1 (gw_st (wX D a res.2) (gw_sp (gK D a) Wr))) := by
  refine gw_ct (own := RX0) [(0, .ref (a 0)), (1, .int x1)] (by decide) rfl (Nat.le_of_ble_eq_true rfl) rfl ?_
  intro E X
  unfold fx_X0_coverOf at hp
  refine gw_aload_n X 1 0 dX0_coverOf_0 rfl rfl rfl ?_
  obtain ⟨σ1, h2, hp⟩ := gw_b1_some hp
  refine gw_callVv X 4 [] (mt_X0_asItIs h2) lk_X0_190 ydv_X0_asItIs gX_cl0 gX_at0 rfl rfl rfl dX0_coverOf_1 rfl rfl rfl ?_
  refine gw_iconst X 5 dX0_coverOf_4 rfl gw_ci_m1 ?_
  refine gw_istore_n X 6 [(2, .int (-1)), (0, .ref (a 0)), (1, .int x1)] dX0_coverOf_5 rfl rfl (by decide) rfl ?_
  refine gw_iconst X 7 dX0_coverOf_6 rfl gw_ci_0 ?_
  refine gw_istore_n X 8 [(3, .int 0), (2, .int (-1)), (0, .ref (a 0)), (1, .int x1)] dX0_coverOf_7 rfl rfl (by decide) rfl ?_
  refine gw_lv [2, 3, 1, 0] rfl ?_
  exact wk_X0_coverOf_L8 X hp
abbrev rm_X0_cover : Room := { frames := 17, cells := 384, slots := 1024, locals := 844 }
def fx_X0_cover (σ : gw_S) (x1 : Int32) : Option (Int32 × gw_S) := (if fx_X0_isCity σ = true then (if fx_X0_areDeeds x1 = true then gw_b2 (fx_X0_coverOf σ x1) (fun r1 σ2 => (if r1 = (-1 : Int32) then some ((-1), σ2) else some (fx_J13_bitCount r1, σ2))) else some ((-2), σ)) else some ((-2), σ))
set_option maxHeartbeats 4000000 in
theorem mt_X0_cover {l : Launch} {D : gw_D} {a : Nat → Nat} {Wr : va_W → Prop} {σ : gw_S} {x1 : Int32} {res : Int32 × gw_S} (hp : fx_X0_cover σ x1 = some res) : gw_Ct D l yX0_cover cX0_cover 3 (some .int) rm_X0_cover [.ref (a 0), .int x1] (gw_st (wX D a σ) (gw_sp (gK D a) Wr)) (gw_pI res.1 (gw_st (wX D a res.2) (gw_sp (gK D a) Wr))) := by
  refine gw_ct (own := RX0) [(0, .ref (a 0)), (1, .int x1)] (by decide) rfl (Nat.le_of_ble_eq_true rfl) rfl ?_
  intro E X
  unfold fx_X0_cover at hp
  refine gw_aload_n X 1 0 dX0_cover_0 rfl rfl rfl ?_
  refine gw_callVi X 4 [] (mt_X0_isCity rfl) lk_X0_103 ydv_X0_isCity gX_cl0 gX_at0 rfl rfl rfl dX0_cover_1 rfl rfl rfl ?_
  refine gw_if_eqB X 14 7 dX0_cover_4 rfl rfl (fun z => ?_) (fun z => ?_)
  · replace hp := gw_f z hp
    refine gw_bipush X 16 dX0_cover_14 rfl gw_cb_m2 ?_
    cases hp
    exact gw_iret X dX0_cover_16 (fun _ h => ⟨rfl, h⟩) (Nat.le_of_ble_eq_true rfl) (Nat.le_of_ble_eq_true rfl)
  · replace hp := gw_t z hp
    refine gw_iload_n X 8 1 dX0_cover_7 rfl rfl rfl ?_
    refine gw_callSi X 11 [.int x1] (mt_X0_areDeeds rfl) lk_X0_281 yd_X0_areDeeds rfl rfl rfl dX0_cover_8 rfl rfl rfl ?_
    refine gw_if_neB X 17 14 dX0_cover_11 rfl rfl (fun z => ?_) (fun z => ?_)
    · replace hp := gw_t z hp
      refine gw_aload_n X 18 0 dX0_cover_17 rfl rfl rfl ?_
      refine gw_iload_n X 19 1 dX0_cover_18 rfl rfl rfl ?_
      obtain ⟨r1, σ2, h3, hp⟩ := gw_b2_some hp
      refine gw_callVi X 22 [.int x1] (mt_X0_coverOf h3) lk_X0_285 ydv_X0_coverOf gX_cl0 gX_at0 rfl rfl rfl dX0_cover_19 rfl rfl rfl ?_
      refine gw_istore_n X 23 [(2, .int r1), (0, .ref (a 0)), (1, .int x1)] dX0_cover_22 rfl rfl (by decide) rfl ?_
      refine gw_iload_n X 24 0 dX0_cover_23 rfl rfl rfl ?_
      refine gw_iconst X 25 dX0_cover_24 rfl gw_ci_m1 ?_
      refine gw_icmp_ne X 32 28 dX0_cover_25 rfl rfl (fun z => ?_) (fun z => ?_)
      · replace hp := gw_f z hp
        refine gw_iload_n X 33 0 dX0_cover_32 rfl rfl rfl ?_
        refine gw_callSi X 36 [.int r1] (mt_J13_bitCount rfl) lk_X0_273 yd_J13_bitCount rfl rfl rfl dX0_cover_33 rfl rfl rfl ?_
        cases hp
        exact gw_iret X dX0_cover_36 (fun _ h => ⟨rfl, h⟩) (Nat.le_of_ble_eq_true rfl) (Nat.le_of_ble_eq_true rfl)
      · replace hp := gw_t z hp
        refine gw_iconst X 29 dX0_cover_28 rfl gw_ci_m1 ?_
        refine gw_goto X 36 dX0_cover_29 rfl ?_
        cases hp
        exact gw_iret X dX0_cover_36 (fun _ h => ⟨rfl, h⟩) (Nat.le_of_ble_eq_true rfl) (Nat.le_of_ble_eq_true rfl)
    · replace hp := gw_f z hp
      refine gw_bipush X 16 dX0_cover_14 rfl gw_cb_m2 ?_
      cases hp
      exact gw_iret X dX0_cover_16 (fun _ h => ⟨rfl, h⟩) (Nat.le_of_ble_eq_true rfl) (Nat.le_of_ble_eq_true rfl)
abbrev rm_X0_covers : Room := { frames := 17, cells := 384, slots := 1024, locals := 844 }
def fx_X0_covers (σ : gw_S) (x1 : Int32) : Option (Int32 × gw_S) := (if fx_X0_isCity σ = true then (if fx_X0_areDeeds x1 = true then gw_b2 (fx_X0_coverOf σ x1) (fun r1 σ2 => some (r1, σ2)) else some ((-2), σ)) else some ((-2), σ))
set_option maxHeartbeats 4000000 in
theorem mt_X0_covers {l : Launch} {D : gw_D} {a : Nat → Nat} {Wr : va_W → Prop} {σ : gw_S} {x1 : Int32} {res : Int32 × gw_S} (hp : fx_X0_covers σ x1 = some res) : gw_Ct D l yX0_covers cX0_covers 2 (some .int) rm_X0_covers [.ref (a 0), .int x1] (gw_st (wX D a σ) (gw_sp (gK D a) Wr)) (gw_pI res.1 (gw_st (wX D a res.2) (gw_sp (gK D a) Wr))) := by
  refine gw_ct (own := RX0) [(0, .ref (a 0)), (1, .int x1)] (by decide) rfl (Nat.le_of_ble_eq_true rfl) rfl ?_
  intro E X
  unfold fx_X0_covers at hp
  refine gw_aload_n X 1 0 dX0_covers_0 rfl rfl rfl ?_
  refine gw_callVi X 4 [] (mt_X0_isCity rfl) lk_X0_103 ydv_X0_isCity gX_cl0 gX_at0 rfl rfl rfl dX0_covers_1 rfl rfl rfl ?_
  refine gw_if_eqB X 22 7 dX0_covers_4 rfl rfl (fun z => ?_) (fun z => ?_)
  · replace hp := gw_f z hp
    refine gw_bipush X 24 dX0_covers_22 rfl gw_cb_m2 ?_
    cases hp
    exact gw_iret X dX0_covers_24 (fun _ h => ⟨rfl, h⟩) (Nat.le_of_ble_eq_true rfl) (Nat.le_of_ble_eq_true rfl)
  · replace hp := gw_t z hp
    refine gw_iload_n X 8 1 dX0_covers_7 rfl rfl rfl ?_
    refine gw_callSi X 11 [.int x1] (mt_X0_areDeeds rfl) lk_X0_281 yd_X0_areDeeds rfl rfl rfl dX0_covers_8 rfl rfl rfl ?_
    refine gw_if_eqB X 22 14 dX0_covers_11 rfl rfl (fun z => ?_) (fun z => ?_)
    · replace hp := gw_f z hp
      refine gw_bipush X 24 dX0_covers_22 rfl gw_cb_m2 ?_
      cases hp
      exact gw_iret X dX0_covers_24 (fun _ h => ⟨rfl, h⟩) (Nat.le_of_ble_eq_true rfl) (Nat.le_of_ble_eq_true rfl)
    · replace hp := gw_t z hp
      refine gw_aload_n X 15 0 dX0_covers_14 rfl rfl rfl ?_
      refine gw_iload_n X 16 1 dX0_covers_15 rfl rfl rfl ?_
      obtain ⟨r1, σ2, h3, hp⟩ := gw_b2_some hp
      refine gw_callVi X 19 [.int x1] (mt_X0_coverOf h3) lk_X0_285 ydv_X0_coverOf gX_cl0 gX_at0 rfl rfl rfl dX0_covers_16 rfl rfl rfl ?_
      refine gw_goto X 24 dX0_covers_19 rfl ?_
      cases hp
      exact gw_iret X dX0_covers_24 (fun _ h => ⟨rfl, h⟩) (Nat.le_of_ble_eq_true rfl) (Nat.le_of_ble_eq_true rfl)
abbrev rm_X0_isDuel : Room := { frames := 16, cells := 384, slots := 1024, locals := 821 }
def fx_X0_isDuel (σ : gw_S) (x1 : Int32) (x2 : Int32) : Option (Bool × gw_S) := (if fx_X0_isPerson σ (Int32.toInt64 x1) = true then (if fx_X0_isPerson σ (Int32.toInt64 x2) = true then (if x1 = x2 then some (false, σ) else gw_b1 (fx_X0_asItIs σ) (fun σ1 => gw_b1 (fx_X0_handOf σ1 x1) (fun r3 => (if r3 = 0 then some (false, σ1) else gw_b1 (fx_X0_handOf σ1 x2) (fun r5 => (if r5 = 0 then some (false, σ1) else some (true, σ1))))))) else some (false, σ)) else some (false, σ))
set_option maxHeartbeats 4000000 in
theorem mt_X0_isDuel {l : Launch} {D : gw_D} {a : Nat → Nat} {Wr : va_W → Prop} {σ : gw_S} {x1 : Int32} {x2 : Int32} {res : Bool × gw_S} (hp : fx_X0_isDuel σ x1 x2 = some res) : gw_Ct D l yX0_isDuel cX0_isDuel 3 (some .boolean) rm_X0_isDuel [.ref (a 0), .int x1, .int x2] (gw_st (wX D a σ) (gw_sp (gK D a) Wr)) (gw_pI (gw_b res.1) (gw_st (wX D a res.2) (gw_sp (gK D a) Wr))) := by
  refine gw_ct (own := RX0) [(0, .ref (a 0)), (1, .int x1), (2, .int x2)] (by decide) rfl (Nat.le_of_ble_eq_true rfl) rfl ?_
  intro E X
  unfold fx_X0_isDuel at hp
  refine gw_aload_n X 1 0 dX0_isDuel_0 rfl rfl rfl ?_
  refine gw_iload_n X 2 1 dX0_isDuel_1 rfl rfl rfl ?_
  refine gw_i2l X 3 dX0_isDuel_2 rfl ?_
  refine gw_callVi X 6 [.long (Int32.toInt64 x1)] (mt_X0_isPerson rfl) lk_X0_186 ydv_X0_isPerson gX_cl0 gX_at0 rfl rfl rfl dX0_isDuel_3 rfl rfl rfl ?_
  refine gw_if_eqB X 23 9 dX0_isDuel_6 rfl rfl (fun z => ?_) (fun z => ?_)
  · replace hp := gw_f z hp
    refine gw_iconst X 24 dX0_isDuel_23 rfl gw_ci_0 ?_
    cases hp
    exact gw_zret0 X dX0_isDuel_24 (fun _ h => ⟨rfl, h⟩) (Nat.le_of_ble_eq_true rfl) (Nat.le_of_ble_eq_true rfl)
  · replace hp := gw_t z hp
    refine gw_aload_n X 10 0 dX0_isDuel_9 rfl rfl rfl ?_
    refine gw_iload_n X 11 2 dX0_isDuel_10 rfl rfl rfl ?_
    refine gw_i2l X 12 dX0_isDuel_11 rfl ?_
    refine gw_callVi X 15 [.long (Int32.toInt64 x2)] (mt_X0_isPerson rfl) lk_X0_186 ydv_X0_isPerson gX_cl0 gX_at0 rfl rfl rfl dX0_isDuel_12 rfl rfl rfl ?_
    refine gw_if_eqB X 23 18 dX0_isDuel_15 rfl rfl (fun z => ?_) (fun z => ?_)
    · replace hp := gw_f z hp
      refine gw_iconst X 24 dX0_isDuel_23 rfl gw_ci_0 ?_
      cases hp
      exact gw_zret0 X dX0_isDuel_24 (fun _ h => ⟨rfl, h⟩) (Nat.le_of_ble_eq_true rfl) (Nat.le_of_ble_eq_true rfl)
    · replace hp := gw_t z hp
      refine gw_iload_n X 19 1 dX0_isDuel_18 rfl rfl rfl ?_
      refine gw_iload_n X 20 2 dX0_isDuel_19 rfl rfl rfl ?_
      refine gw_icmp_ne X 25 23 dX0_isDuel_20 rfl rfl (fun z => ?_) (fun z => ?_)
      · replace hp := gw_f z hp
        refine gw_aload_n X 26 0 dX0_isDuel_25 rfl rfl rfl ?_
        obtain ⟨σ1, h2, hp⟩ := gw_b1_some hp
        refine gw_callVv X 29 [] (mt_X0_asItIs h2) lk_X0_190 ydv_X0_asItIs gX_cl0 gX_at0 rfl rfl rfl dX0_isDuel_26 rfl rfl rfl ?_
        refine gw_aload_n X 30 0 dX0_isDuel_29 rfl rfl rfl ?_
        refine gw_iload_n X 31 1 dX0_isDuel_30 rfl rfl rfl ?_
        obtain ⟨r3, h4, hp⟩ := gw_b1_some hp
        refine gw_callVi X 34 [.int x1] (mt_X0_handOf h4) lk_X0_198 ydv_X0_handOf gX_cl0 gX_at0 rfl rfl rfl dX0_isDuel_31 rfl rfl rfl ?_
        refine gw_if_eq X 49 37 dX0_isDuel_34 rfl rfl (fun z => ?_) (fun z => ?_)
        · replace hp := gw_t z hp
          refine gw_iconst X 50 dX0_isDuel_49 rfl gw_ci_0 ?_
          cases hp
          exact gw_zret0 X dX0_isDuel_50 (fun _ h => ⟨rfl, h⟩) (Nat.le_of_ble_eq_true rfl) (Nat.le_of_ble_eq_true rfl)
        · replace hp := gw_f z hp
          refine gw_aload_n X 38 0 dX0_isDuel_37 rfl rfl rfl ?_
          refine gw_iload_n X 39 2 dX0_isDuel_38 rfl rfl rfl ?_
          obtain ⟨r5, h6, hp⟩ := gw_b1_some hp
          refine gw_callVi X 42 [.int x2] (mt_X0_handOf h6) lk_X0_198 ydv_X0_handOf gX_cl0 gX_at0 rfl rfl rfl dX0_isDuel_39 rfl rfl rfl ?_
          refine gw_if_eq X 49 45 dX0_isDuel_42 rfl rfl (fun z => ?_) (fun z => ?_)
          · replace hp := gw_t z hp
            refine gw_iconst X 50 dX0_isDuel_49 rfl gw_ci_0 ?_
            cases hp
            exact gw_zret0 X dX0_isDuel_50 (fun _ h => ⟨rfl, h⟩) (Nat.le_of_ble_eq_true rfl) (Nat.le_of_ble_eq_true rfl)
          · replace hp := gw_f z hp
            refine gw_iconst X 46 dX0_isDuel_45 rfl gw_ci_1 ?_
            refine gw_goto X 50 dX0_isDuel_46 rfl ?_
            cases hp
            exact gw_zret1 X dX0_isDuel_50 (fun _ h => ⟨rfl, h⟩) (Nat.le_of_ble_eq_true rfl) (Nat.le_of_ble_eq_true rfl)
      · replace hp := gw_t z hp
        refine gw_iconst X 24 dX0_isDuel_23 rfl gw_ci_0 ?_
        cases hp
        exact gw_zret0 X dX0_isDuel_24 (fun _ h => ⟨rfl, h⟩) (Nat.le_of_ble_eq_true rfl) (Nat.le_of_ble_eq_true rfl)
abbrev rm_X0_duel : Room := { frames := 17, cells := 384, slots := 1024, locals := 843 }
def fx_X0_duel_L61 {τ : Type} (k : Int32 → Option (τ)) (σ : gw_S) (v1 : Int32) (v2 : Int32) (v3 : Int32) (v5 : Int32) (v6 : Int32) : Nat → Int32 → Int32 → Option (τ)
  | 0, _, _ => none
  | n + 1, c4, c7 => (if (σ.1 1 2) ≤ c7 then k c4 else gw_ck v6 8 ((if (σ.1 3 (Int32.toNatClampNeg v6)) = v1 then gw_ck c7 8 ((if (σ.1 3 (Int32.toNatClampNeg c7)) = v2 then gw_ck v6 8 (gw_ck c7 8 ((if (σ.1 9 (Int32.toNatClampNeg v6)) ≤ (σ.1 9 (Int32.toNatClampNeg c7)) then fx_X0_duel_L61 k σ v1 v2 v3 v5 v6 n (c4 + (0 : Int32)) (c7 + 1) else fx_X0_duel_L61 k σ v1 v2 v3 v5 v6 n (c4 + (1 : Int32)) (c7 + 1)))) else fx_X0_duel_L61 k σ v1 v2 v3 v5 v6 n (c4 + (0 : Int32)) (c7 + 1))) else fx_X0_duel_L61 k σ v1 v2 v3 v5 v6 n (c4 + (0 : Int32)) (c7 + 1))))
def fx_X0_duel_L46 {τ : Type} (k : Int32 → Option (τ)) (σ : gw_S) (v1 : Int32) (v2 : Int32) (v3 : Int32) (v5 : Int32) : Nat → Int32 → Int32 → Option (τ)
  | 0, _, _ => none
  | n + 1, c4, c6 => (if (σ.1 1 2) ≤ c6 then k c4 else fx_X0_duel_L61 (fun (e8 : Int32) => fx_X0_duel_L46 k σ v1 v2 v3 v5 n e8 (c6 + 1)) σ v1 v2 v3 v5 c6 1000 c4 (0 : Int32))
def fx_X0_duel (σ : gw_S) (x1 : Int32) (x2 : Int32) (x3 : Int32) : Option (Int32 × gw_S) := gw_b2 (fx_X0_isDuel σ x1 x2) (fun r1 σ2 => (if r1 = true then (if fx_X0_isOneOf (Int32.toInt64 x3) (2 : Int32) = true then gw_b1 (fx_X0_handOf σ2 x1) (fun r4 => gw_b1 (fx_X0_handOf σ2 x2) (fun r6 => fx_X0_duel_L46 (fun (e9 : Int32) => gw_b1 (if x3 = 0 then some e9 else some ((fx_J13_bitCount r4) * (fx_J13_bitCount r6))) (fun (y10 : Int32) => gw_b1 (fx_X0_divisor e9 ((fx_J13_bitCount r4) * (fx_J13_bitCount r6))) (fun r11 => gw_cz r11 (some (y10 / r11, σ2))))) σ2 x1 x2 x3 ((fx_J13_bitCount r4) * (fx_J13_bitCount r6)) 1000 (0 : Int32) (0 : Int32))) else some ((-2), σ2)) else some ((-2), σ2)))
set_option maxHeartbeats 4000000 in
theorem wk_X0_duel_L61 {E : gw_E} {l : Launch} {D : gw_D} {a : Nat → Nat} {Wr : va_W → Prop} {σ : gw_S} {τ : Type} {res : τ} {post : Option (Option Value → va_W → Prop)} (X : gw_X E cX0_duel 8 RX0 (some .int) l D rm_X0_duel post) {k : Int32 → Option (τ)} {v1 : Int32} {v2 : Int32} {v3 : Int32} {v5 : Int32} {v6 : Int32} : ∀ {n : Nat} {c4 : Int32} {c7 : Int32}, fx_X0_duel_L61 k σ v1 v2 v3 v5 v6 n c4 c7 = some res → (∀ (c4 : Int32), k c4 = some res → gw_W E 134 [(0, .ref (a 0)), (1, .int v1), (2, .int v2), (3, .int v3), (4, .int c4), (5, .int v5), (6, .int v6)] [] (gw_st (wX D a σ) (gw_sp (gK D a) Wr)) 384 1024) → gw_W E 61 [(0, .ref (a 0)), (1, .int v1), (2, .int v2), (3, .int v3), (4, .int c4), (5, .int v5), (6, .int v6), (7, .int c7)] [] (gw_st (wX D a σ) (gw_sp (gK D a) Wr)) 384 1024 := by
  intro n
  induction n with
  | zero =>
    intro c4 c7 hp hk
    cases (show none = some res from hp)
  | succ n ih =>
    intro c4 c7 hp hk
    rw [fx_X0_duel_L61] at hp
    refine gw_iload X 63 7 dX0_duel_61 rfl rfl ?_
    refine gw_aload_n X 64 0 dX0_duel_63 rfl rfl rfl ?_
    refine gX_g0_0 X 67 q280 dX0_duel_64 rfl ?_
    refine gX_g1_2N X 70 q193 dX0_duel_67 rfl ?_
    refine gw_icmp_ge X 134 73 dX0_duel_70 rfl rfl (fun z => ?_) (fun z => ?_)
    · replace hp := gw_t z hp
      refine gw_lv [0, 1, 2, 3, 4, 5, 6] rfl ?_
      exact hk _ hp
    · replace hp := gw_f z hp
      refine gw_iload X 75 4 dX0_duel_73 rfl rfl ?_
      refine gw_aload_n X 76 0 dX0_duel_75 rfl rfl rfl ?_
      refine gX_g0_9 X 79 q303 dX0_duel_76 rfl ?_
      refine gw_iload X 81 6 dX0_duel_79 rfl rfl ?_
      obtain ⟨hc, hp⟩ := gw_ck_some hp
      refine gX_l3 X 82 (Int32.toNatClampNeg v6) hc rfl dX0_duel_81 rfl ?_
      refine gw_iload_n X 83 1 dX0_duel_82 rfl rfl rfl ?_
      refine gw_icmp_ne X 124 86 dX0_duel_83 rfl rfl (fun z => ?_) (fun z => ?_)
      · replace hp := gw_f z hp
        refine gw_iconst X 125 dX0_duel_124 rfl gw_ci_0 ?_
        refine gw_iadd X 126 dX0_duel_125 rfl ?_
        refine gw_istore X 128 [(4, .int (c4 + (0 : Int32))), (0, .ref (a 0)), (1, .int v1), (2, .int v2), (3, .int v3), (5, .int v5), (6, .int v6), (7, .int c7)] dX0_duel_126 rfl (by decide) rfl ?_
        refine gw_iinc X 131 7 [(7, .int (c7 + 1)), (4, .int (c4 + (0 : Int32))), (0, .ref (a 0)), (1, .int v1), (2, .int v2), (3, .int v3), (5, .int v5), (6, .int v6)] dX0_duel_128 rfl rfl gw_ci_1 (by decide) rfl ?_
        refine gw_goto X 61 dX0_duel_131 rfl ?_
        refine gw_lv [2, 3, 4, 5, 1, 6, 7, 0] rfl ?_
        exact ih hp hk
      · replace hp := gw_t z hp
        refine gw_aload_n X 87 0 dX0_duel_86 rfl rfl rfl ?_
        refine gX_g0_9 X 90 q303 dX0_duel_87 rfl ?_
        refine gw_iload X 92 7 dX0_duel_90 rfl rfl ?_
        obtain ⟨hc, hp⟩ := gw_ck_some hp
        refine gX_l3 X 93 (Int32.toNatClampNeg c7) hc rfl dX0_duel_92 rfl ?_
        refine gw_iload_n X 94 2 dX0_duel_93 rfl rfl rfl ?_
        refine gw_icmp_ne X 124 97 dX0_duel_94 rfl rfl (fun z => ?_) (fun z => ?_)
        · replace hp := gw_f z hp
          refine gw_iconst X 125 dX0_duel_124 rfl gw_ci_0 ?_
          refine gw_iadd X 126 dX0_duel_125 rfl ?_
          refine gw_istore X 128 [(4, .int (c4 + (0 : Int32))), (0, .ref (a 0)), (1, .int v1), (2, .int v2), (3, .int v3), (5, .int v5), (6, .int v6), (7, .int c7)] dX0_duel_126 rfl (by decide) rfl ?_
          refine gw_iinc X 131 7 [(7, .int (c7 + 1)), (4, .int (c4 + (0 : Int32))), (0, .ref (a 0)), (1, .int v1), (2, .int v2), (3, .int v3), (5, .int v5), (6, .int v6)] dX0_duel_128 rfl rfl gw_ci_1 (by decide) rfl ?_
          refine gw_goto X 61 dX0_duel_131 rfl ?_
          refine gw_lv [2, 3, 4, 5, 1, 6, 7, 0] rfl ?_
          exact ih hp hk
        · replace hp := gw_t z hp
          refine gw_aload_n X 98 0 dX0_duel_97 rfl rfl rfl ?_
          refine gX_g0_0 X 101 q280 dX0_duel_98 rfl ?_
          refine gX_g1_6N X 104 q204 dX0_duel_101 rfl ?_
          refine gw_iload X 106 6 dX0_duel_104 rfl rfl ?_
          obtain ⟨hc, hp⟩ := gw_ck_some hp
          refine gX_l9 X 107 (Int32.toNatClampNeg v6) hc rfl dX0_duel_106 rfl ?_
          refine gw_aload_n X 108 0 dX0_duel_107 rfl rfl rfl ?_
          refine gX_g0_0 X 111 q280 dX0_duel_108 rfl ?_
          refine gX_g1_6N X 114 q204 dX0_duel_111 rfl ?_
          refine gw_iload X 116 7 dX0_duel_114 rfl rfl ?_
          obtain ⟨hc, hp⟩ := gw_ck_some hp
          refine gX_l9 X 117 (Int32.toNatClampNeg c7) hc rfl dX0_duel_116 rfl ?_
          refine gw_icmp_le X 124 120 dX0_duel_117 rfl rfl (fun z => ?_) (fun z => ?_)
          · replace hp := gw_t z hp
            refine gw_iconst X 125 dX0_duel_124 rfl gw_ci_0 ?_
            refine gw_iadd X 126 dX0_duel_125 rfl ?_
            refine gw_istore X 128 [(4, .int (c4 + (0 : Int32))), (0, .ref (a 0)), (1, .int v1), (2, .int v2), (3, .int v3), (5, .int v5), (6, .int v6), (7, .int c7)] dX0_duel_126 rfl (by decide) rfl ?_
            refine gw_iinc X 131 7 [(7, .int (c7 + 1)), (4, .int (c4 + (0 : Int32))), (0, .ref (a 0)), (1, .int v1), (2, .int v2), (3, .int v3), (5, .int v5), (6, .int v6)] dX0_duel_128 rfl rfl gw_ci_1 (by decide) rfl ?_
            refine gw_goto X 61 dX0_duel_131 rfl ?_
            refine gw_lv [2, 3, 4, 5, 1, 6, 7, 0] rfl ?_
            exact ih hp hk
          · replace hp := gw_f z hp
            refine gw_iconst X 121 dX0_duel_120 rfl gw_ci_1 ?_
            refine gw_goto X 125 dX0_duel_121 rfl ?_
            refine gw_iadd X 126 dX0_duel_125 rfl ?_
            refine gw_istore X 128 [(4, .int (c4 + (1 : Int32))), (0, .ref (a 0)), (1, .int v1), (2, .int v2), (3, .int v3), (5, .int v5), (6, .int v6), (7, .int c7)] dX0_duel_126 rfl (by decide) rfl ?_
            refine gw_iinc X 131 7 [(7, .int (c7 + 1)), (4, .int (c4 + (1 : Int32))), (0, .ref (a 0)), (1, .int v1), (2, .int v2), (3, .int v3), (5, .int v5), (6, .int v6)] dX0_duel_128 rfl rfl gw_ci_1 (by decide) rfl ?_
            refine gw_goto X 61 dX0_duel_131 rfl ?_
            refine gw_lv [2, 3, 4, 5, 1, 6, 7, 0] rfl ?_
            exact ih hp hk
set_option maxHeartbeats 4000000 in
theorem wk_X0_duel_L46 {E : gw_E} {l : Launch} {D : gw_D} {a : Nat → Nat} {Wr : va_W → Prop} {σ : gw_S} {τ : Type} {res : τ} {post : Option (Option Value → va_W → Prop)} (X : gw_X E cX0_duel 8 RX0 (some .int) l D rm_X0_duel post) {k : Int32 → Option (τ)} {v1 : Int32} {v2 : Int32} {v3 : Int32} {v5 : Int32} : ∀ {n : Nat} {c4 : Int32} {c6 : Int32}, fx_X0_duel_L46 k σ v1 v2 v3 v5 n c4 c6 = some res → (∀ (c4 : Int32), k c4 = some res → gw_W E 140 [(3, .int v3), (4, .int c4), (5, .int v5)] [] (gw_st (wX D a σ) (gw_sp (gK D a) Wr)) 384 1024) → gw_W E 46 [(0, .ref (a 0)), (1, .int v1), (2, .int v2), (3, .int v3), (4, .int c4), (5, .int v5), (6, .int c6)] [] (gw_st (wX D a σ) (gw_sp (gK D a) Wr)) 384 1024 := by
  intro n
  induction n with
  | zero =>
    intro c4 c6 hp hk
    cases (show none = some res from hp)
  | succ n ih =>
    intro c4 c6 hp hk
    rw [fx_X0_duel_L46] at hp
    refine gw_iload X 48 6 dX0_duel_46 rfl rfl ?_
    refine gw_aload_n X 49 0 dX0_duel_48 rfl rfl rfl ?_
    refine gX_g0_0 X 52 q280 dX0_duel_49 rfl ?_
    refine gX_g1_2N X 55 q193 dX0_duel_52 rfl ?_
    refine gw_icmp_ge X 140 58 dX0_duel_55 rfl rfl (fun z => ?_) (fun z => ?_)
    · replace hp := gw_t z hp
      refine gw_lv [3, 4, 5] rfl ?_
      exact hk _ hp
    · replace hp := gw_f z hp
      refine gw_iconst X 59 dX0_duel_58 rfl gw_ci_0 ?_
      refine gw_istore X 61 [(7, .int 0), (0, .ref (a 0)), (1, .int v1), (2, .int v2), (3, .int v3), (4, .int c4), (5, .int v5), (6, .int c6)] dX0_duel_59 rfl (by decide) rfl ?_
      refine gw_lv [1, 2, 3, 4, 5, 6, 7, 0] rfl ?_
      refine wk_X0_duel_L61 X hp ?_
      clear hp
      intro e8 hp
      refine gw_iinc X 137 6 [(6, .int (c6 + 1)), (0, .ref (a 0)), (1, .int v1), (2, .int v2), (3, .int v3), (4, .int e8), (5, .int v5)] dX0_duel_134 rfl rfl gw_ci_1 (by decide) rfl ?_
      refine gw_goto X 46 dX0_duel_137 rfl ?_
      refine gw_lv [1, 2, 3, 4, 5, 6, 0] rfl ?_
      exact ih hp hk
set_option maxHeartbeats 4000000 in
theorem mt_X0_duel {l : Launch} {D : gw_D} {a : Nat → Nat} {Wr : va_W → Prop} {σ : gw_S} {x1 : Int32} {x2 : Int32} {x3 : Int32} {res : Int32 × gw_S} (hp : fx_X0_duel σ x1 x2 x3 = some res) : gw_Ct D l yX0_duel cX0_duel 8 (some .int) rm_X0_duel [.ref (a 0), .int x1, .int x2, .int x3] (gw_st (wX D a σ) (gw_sp (gK D a) Wr)) (gw_pI res.1 (gw_st (wX D a res.2) (gw_sp (gK D a) Wr))) := by
  refine gw_ct (own := RX0) [(0, .ref (a 0)), (1, .int x1), (2, .int x2), (3, .int x3)] (by decide) rfl (Nat.le_of_ble_eq_true rfl) rfl ?_
  intro E X
  unfold fx_X0_duel at hp
  refine gw_aload_n X 1 0 dX0_duel_0 rfl rfl rfl ?_
  refine gw_iload_n X 2 1 dX0_duel_1 rfl rfl rfl ?_
  refine gw_iload_n X 3 2 dX0_duel_2 rfl rfl rfl ?_
  obtain ⟨r1, σ2, h3, hp⟩ := gw_b2_some hp
  refine gw_callVi X 6 [.int x1, .int x2] (mt_X0_isDuel h3) lk_X0_335 ydv_X0_isDuel gX_cl0 gX_at0 rfl rfl rfl dX0_duel_3 rfl rfl rfl ?_
  refine gw_if_eqB X 18 9 dX0_duel_6 rfl rfl (fun z => ?_) (fun z => ?_)
  · replace hp := gw_f z hp
    refine gw_bipush X 20 dX0_duel_18 rfl gw_cb_m2 ?_
    cases hp
    exact gw_iret X dX0_duel_20 (fun _ h => ⟨rfl, h⟩) (Nat.le_of_ble_eq_true rfl) (Nat.le_of_ble_eq_true rfl)
  · replace hp := gw_t z hp
    refine gw_iload_n X 10 3 dX0_duel_9 rfl rfl rfl ?_
    refine gw_i2l X 11 dX0_duel_10 rfl ?_
    refine gw_iconst X 12 dX0_duel_11 rfl gw_ci_2 ?_
    refine gw_callSi X 15 [.long (Int32.toInt64 x3), .int 2] (mt_X0_isOneOf rfl) lk_X0_97 yd_X0_isOneOf rfl rfl rfl dX0_duel_12 rfl rfl rfl ?_
    refine gw_if_neB X 21 18 dX0_duel_15 rfl rfl (fun z => ?_) (fun z => ?_)
    · replace hp := gw_t z hp
      refine gw_iconst X 22 dX0_duel_21 rfl gw_ci_0 ?_
      refine gw_istore X 24 [(4, .int 0), (0, .ref (a 0)), (1, .int x1), (2, .int x2), (3, .int x3)] dX0_duel_22 rfl (by decide) rfl ?_
      refine gw_aload_n X 25 1 dX0_duel_24 rfl rfl rfl ?_
      refine gw_iload_n X 26 2 dX0_duel_25 rfl rfl rfl ?_
      obtain ⟨r4, h5, hp⟩ := gw_b1_some hp
      refine gw_callVi X 29 [.int x1] (mt_X0_handOf h5) lk_X0_198 ydv_X0_handOf gX_cl0 gX_at0 rfl rfl rfl dX0_duel_26 rfl rfl rfl ?_
      refine gw_callSi X 32 [.int r4] (mt_J13_bitCount rfl) lk_X0_273 yd_J13_bitCount rfl rfl rfl dX0_duel_29 rfl rfl rfl ?_
      refine gw_aload_n X 33 1 dX0_duel_32 rfl rfl rfl ?_
      refine gw_iload_n X 34 3 dX0_duel_33 rfl rfl rfl ?_
      obtain ⟨r6, h7, hp⟩ := gw_b1_some hp
      refine gw_callVi X 37 [.int x2] (mt_X0_handOf h7) lk_X0_198 ydv_X0_handOf gX_cl0 gX_at0 rfl rfl rfl dX0_duel_34 rfl rfl rfl ?_
      refine gw_callSi X 40 [.int r6] (mt_J13_bitCount rfl) lk_X0_273 yd_J13_bitCount rfl rfl rfl dX0_duel_37 rfl rfl rfl ?_
      refine gw_imul X 41 dX0_duel_40 rfl ?_
      refine gw_istore X 43 [(5, .int ((fx_J13_bitCount r4) * (fx_J13_bitCount r6))), (4, .int 0), (0, .ref (a 0)), (1, .int x1), (2, .int x2), (3, .int x3)] dX0_duel_41 rfl (by decide) rfl ?_
      refine gw_iconst X 44 dX0_duel_43 rfl gw_ci_0 ?_
      refine gw_istore X 46 [(6, .int 0), (5, .int ((fx_J13_bitCount r4) * (fx_J13_bitCount r6))), (4, .int 0), (0, .ref (a 0)), (1, .int x1), (2, .int x2), (3, .int x3)] dX0_duel_44 rfl (by decide) rfl ?_
      refine gw_lv [3, 4, 5, 6, 2, 1, 0] rfl ?_
      refine wk_X0_duel_L46 X hp ?_
      clear hp
      intro e9 hp
      refine gw_iload_n X 141 0 dX0_duel_140 rfl rfl rfl ?_
      obtain ⟨y10, h13, hp⟩ := gw_b1_some hp
      have kJ : gw_W E 151 [(4, .int e9), (5, .int ((fx_J13_bitCount r4) * (fx_J13_bitCount r6)))] [.int y10] (gw_st (wX D a σ2) (gw_sp (gK D a) Wr)) 384 1024 := by
        refine gw_iload X 153 0 dX0_duel_151 rfl rfl ?_
        refine gw_iload X 155 1 dX0_duel_153 rfl rfl ?_
        obtain ⟨r11, h12, hp⟩ := gw_b1_some hp
        refine gw_callSi X 158 [.int e9, .int ((fx_J13_bitCount r4) * (fx_J13_bitCount r6))] (mt_X0_divisor h12) lk_X0_338 yd_X0_divisor rfl rfl rfl dX0_duel_155 rfl rfl rfl ?_
        obtain ⟨hz, hp⟩ := gw_cz_some hp
        refine gw_idiv X 159 dX0_duel_158 rfl hz ?_
        cases hp
        exact gw_iret X dX0_duel_159 (fun _ h => ⟨rfl, h⟩) (Nat.le_of_ble_eq_true rfl) (Nat.le_of_ble_eq_true rfl)
      clear hp
      have hp := h13
      clear h13
      refine gw_if_ne X 149 144 dX0_duel_141 rfl rfl (fun z => ?_) (fun z => ?_)
      · replace hp := gw_f z hp
        refine gw_iload X 151 2 dX0_duel_149 rfl rfl ?_
        cases hp
        exact gw_lv [1, 2] rfl kJ
      · replace hp := gw_t z hp
        refine gw_iload X 146 1 dX0_duel_144 rfl rfl ?_
        refine gw_goto X 151 dX0_duel_146 rfl ?_
        cases hp
        exact gw_lv [1, 2] rfl kJ
    · replace hp := gw_f z hp
      refine gw_bipush X 20 dX0_duel_18 rfl gw_cb_m2 ?_
      cases hp
      exact gw_iret X dX0_duel_20 (fun _ h => ⟨rfl, h⟩) (Nat.le_of_ble_eq_true rfl) (Nat.le_of_ble_eq_true rfl)
abbrev rm_X0_lay : Room := { frames := 17, cells := 384, slots := 1024, locals := 843 }
def fx_X0_lay (σ : gw_S) (x1 : Int32) (x2 : Int32) : Option (Int32 × gw_S) := gw_b2 (fx_X0_isDuel σ x1 x2) (fun r1 σ2 => (if r1 = true then gw_b1 (fx_X0_laysOf σ2 x1 x2) (fun σ4 => some (σ4.1 0 17, σ4)) else some ((-1000), σ2)))
set_option maxHeartbeats 4000000 in
theorem mt_X0_lay {l : Launch} {D : gw_D} {a : Nat → Nat} {Wr : va_W → Prop} {σ : gw_S} {x1 : Int32} {x2 : Int32} {res : Int32 × gw_S} (hp : fx_X0_lay σ x1 x2 = some res) : gw_Ct D l yX0_lay cX0_lay 3 (some .int) rm_X0_lay [.ref (a 0), .int x1, .int x2] (gw_st (wX D a σ) (gw_sp (gK D a) Wr)) (gw_pI res.1 (gw_st (wX D a res.2) (gw_sp (gK D a) Wr))) := by
  refine gw_ct (own := RX0) [(0, .ref (a 0)), (1, .int x1), (2, .int x2)] (by decide) rfl (Nat.le_of_ble_eq_true rfl) rfl ?_
  intro E X
  unfold fx_X0_lay at hp
  refine gw_aload_n X 1 0 dX0_lay_0 rfl rfl rfl ?_
  refine gw_iload_n X 2 1 dX0_lay_1 rfl rfl rfl ?_
  refine gw_iload_n X 3 2 dX0_lay_2 rfl rfl rfl ?_
  obtain ⟨r1, σ2, h3, hp⟩ := gw_b2_some hp
  refine gw_callVi X 6 [.int x1, .int x2] (mt_X0_isDuel h3) lk_X0_335 ydv_X0_isDuel gX_cl0 gX_at0 rfl rfl rfl dX0_lay_3 rfl rfl rfl ?_
  refine gw_if_neB X 13 9 dX0_lay_6 rfl rfl (fun z => ?_) (fun z => ?_)
  · replace hp := gw_t z hp
    refine gw_aload_n X 14 0 dX0_lay_13 rfl rfl rfl ?_
    refine gw_iload_n X 15 1 dX0_lay_14 rfl rfl rfl ?_
    refine gw_iload_n X 16 2 dX0_lay_15 rfl rfl rfl ?_
    obtain ⟨σ4, h5, hp⟩ := gw_b1_some hp
    refine gw_callVv X 19 [.int x1, .int x2] (mt_X0_laysOf h5) lk_X0_354 ydv_X0_laysOf gX_cl0 gX_at0 rfl rfl rfl dX0_lay_16 rfl rfl rfl ?_
    refine gw_aload_n X 20 0 dX0_lay_19 rfl rfl rfl ?_
    refine gX_g0_17 X 23 q314 dX0_lay_20 rfl ?_
    cases hp
    exact gw_iret X dX0_lay_23 (fun _ h => ⟨rfl, h⟩) (Nat.le_of_ble_eq_true rfl) (Nat.le_of_ble_eq_true rfl)
  · replace hp := gw_f z hp
    refine gw_sipush X 12 dX0_lay_9 rfl gw_cs_m1000 ?_
    cases hp
    exact gw_iret X dX0_lay_12 (fun _ h => ⟨rfl, h⟩) (Nat.le_of_ble_eq_true rfl) (Nat.le_of_ble_eq_true rfl)
abbrev rm_X0_lays : Room := { frames := 17, cells := 384, slots := 1024, locals := 843 }
def fx_X0_lays (σ : gw_S) (x1 : Int32) (x2 : Int32) : Option (Int32 × gw_S) := gw_b2 (fx_X0_isDuel σ x1 x2) (fun r1 σ2 => (if r1 = true then gw_b1 (fx_X0_laysOf σ2 x1 x2) (fun σ4 => some (σ4.1 0 18, σ4)) else some ((-2), σ2)))
set_option maxHeartbeats 4000000 in
theorem mt_X0_lays {l : Launch} {D : gw_D} {a : Nat → Nat} {Wr : va_W → Prop} {σ : gw_S} {x1 : Int32} {x2 : Int32} {res : Int32 × gw_S} (hp : fx_X0_lays σ x1 x2 = some res) : gw_Ct D l yX0_lays cX0_lays 3 (some .int) rm_X0_lays [.ref (a 0), .int x1, .int x2] (gw_st (wX D a σ) (gw_sp (gK D a) Wr)) (gw_pI res.1 (gw_st (wX D a res.2) (gw_sp (gK D a) Wr))) := by
  refine gw_ct (own := RX0) [(0, .ref (a 0)), (1, .int x1), (2, .int x2)] (by decide) rfl (Nat.le_of_ble_eq_true rfl) rfl ?_
  intro E X
  unfold fx_X0_lays at hp
  refine gw_aload_n X 1 0 dX0_lays_0 rfl rfl rfl ?_
  refine gw_iload_n X 2 1 dX0_lays_1 rfl rfl rfl ?_
  refine gw_iload_n X 3 2 dX0_lays_2 rfl rfl rfl ?_
  obtain ⟨r1, σ2, h3, hp⟩ := gw_b2_some hp
  refine gw_callVi X 6 [.int x1, .int x2] (mt_X0_isDuel h3) lk_X0_335 ydv_X0_isDuel gX_cl0 gX_at0 rfl rfl rfl dX0_lays_3 rfl rfl rfl ?_
  refine gw_if_neB X 12 9 dX0_lays_6 rfl rfl (fun z => ?_) (fun z => ?_)
  · replace hp := gw_t z hp
    refine gw_aload_n X 13 0 dX0_lays_12 rfl rfl rfl ?_
    refine gw_iload_n X 14 1 dX0_lays_13 rfl rfl rfl ?_
    refine gw_iload_n X 15 2 dX0_lays_14 rfl rfl rfl ?_
    obtain ⟨σ4, h5, hp⟩ := gw_b1_some hp
    refine gw_callVv X 18 [.int x1, .int x2] (mt_X0_laysOf h5) lk_X0_354 ydv_X0_laysOf gX_cl0 gX_at0 rfl rfl rfl dX0_lays_15 rfl rfl rfl ?_
    refine gw_aload_n X 19 0 dX0_lays_18 rfl rfl rfl ?_
    refine gX_g0_18 X 22 q315 dX0_lays_19 rfl ?_
    cases hp
    exact gw_iret X dX0_lays_22 (fun _ h => ⟨rfl, h⟩) (Nat.le_of_ble_eq_true rfl) (Nat.le_of_ble_eq_true rfl)
  · replace hp := gw_f z hp
    refine gw_bipush X 11 dX0_lays_9 rfl gw_cb_m2 ?_
    cases hp
    exact gw_iret X dX0_lays_11 (fun _ h => ⟨rfl, h⟩) (Nat.le_of_ble_eq_true rfl) (Nat.le_of_ble_eq_true rfl)
abbrev rm_X0_reply : Room := { frames := 17, cells := 384, slots := 1024, locals := 843 }
def fx_X0_reply (σ : gw_S) (x1 : Int32) (x2 : Int32) : Option (Int32 × gw_S) := gw_b2 (fx_X0_isDuel σ x1 x2) (fun r1 σ2 => (if r1 = true then gw_b1 (fx_X0_laysOf σ2 x1 x2) (fun σ4 => some (σ4.1 0 19, σ4)) else some ((-2), σ2)))
set_option maxHeartbeats 4000000 in
theorem mt_X0_reply {l : Launch} {D : gw_D} {a : Nat → Nat} {Wr : va_W → Prop} {σ : gw_S} {x1 : Int32} {x2 : Int32} {res : Int32 × gw_S} (hp : fx_X0_reply σ x1 x2 = some res) : gw_Ct D l yX0_reply cX0_reply 3 (some .int) rm_X0_reply [.ref (a 0), .int x1, .int x2] (gw_st (wX D a σ) (gw_sp (gK D a) Wr)) (gw_pI res.1 (gw_st (wX D a res.2) (gw_sp (gK D a) Wr))) := by
  refine gw_ct (own := RX0) [(0, .ref (a 0)), (1, .int x1), (2, .int x2)] (by decide) rfl (Nat.le_of_ble_eq_true rfl) rfl ?_
  intro E X
  unfold fx_X0_reply at hp
  refine gw_aload_n X 1 0 dX0_reply_0 rfl rfl rfl ?_
  refine gw_iload_n X 2 1 dX0_reply_1 rfl rfl rfl ?_
  refine gw_iload_n X 3 2 dX0_reply_2 rfl rfl rfl ?_
  obtain ⟨r1, σ2, h3, hp⟩ := gw_b2_some hp
  refine gw_callVi X 6 [.int x1, .int x2] (mt_X0_isDuel h3) lk_X0_335 ydv_X0_isDuel gX_cl0 gX_at0 rfl rfl rfl dX0_reply_3 rfl rfl rfl ?_
  refine gw_if_neB X 12 9 dX0_reply_6 rfl rfl (fun z => ?_) (fun z => ?_)
  · replace hp := gw_t z hp
    refine gw_aload_n X 13 0 dX0_reply_12 rfl rfl rfl ?_
    refine gw_iload_n X 14 1 dX0_reply_13 rfl rfl rfl ?_
    refine gw_iload_n X 15 2 dX0_reply_14 rfl rfl rfl ?_
    obtain ⟨σ4, h5, hp⟩ := gw_b1_some hp
    refine gw_callVv X 18 [.int x1, .int x2] (mt_X0_laysOf h5) lk_X0_354 ydv_X0_laysOf gX_cl0 gX_at0 rfl rfl rfl dX0_reply_15 rfl rfl rfl ?_
    refine gw_aload_n X 19 0 dX0_reply_18 rfl rfl rfl ?_
    refine gX_g0_19 X 22 q316 dX0_reply_19 rfl ?_
    cases hp
    exact gw_iret X dX0_reply_22 (fun _ h => ⟨rfl, h⟩) (Nat.le_of_ble_eq_true rfl) (Nat.le_of_ble_eq_true rfl)
  · replace hp := gw_f z hp
    refine gw_bipush X 11 dX0_reply_9 rfl gw_cb_m2 ?_
    cases hp
    exact gw_iret X dX0_reply_11 (fun _ h => ⟨rfl, h⟩) (Nat.le_of_ble_eq_true rfl) (Nat.le_of_ble_eq_true rfl)
abbrev rm_X0_firm : Room := { frames := 16, cells := 384, slots := 1024, locals := 821 }
def fx_X0_firm (σ : gw_S) (x1 : Int32) : Option (Int32 × gw_S) := (if fx_X0_isSet σ x1 = true then gw_b1 (fx_X0_asItIs σ) (fun σ1 => gw_b1 (fx_X0_leaving σ1 x1) (fun r3 => (if r3 = 0 then some (1, σ1) else some (0, σ1)))) else some ((-2), σ))
set_option maxHeartbeats 4000000 in
theorem mt_X0_firm {l : Launch} {D : gw_D} {a : Nat → Nat} {Wr : va_W → Prop} {σ : gw_S} {x1 : Int32} {res : Int32 × gw_S} (hp : fx_X0_firm σ x1 = some res) : gw_Ct D l yX0_firm cX0_firm 2 (some .int) rm_X0_firm [.ref (a 0), .int x1] (gw_st (wX D a σ) (gw_sp (gK D a) Wr)) (gw_pI res.1 (gw_st (wX D a res.2) (gw_sp (gK D a) Wr))) := by
  refine gw_ct (own := RX0) [(0, .ref (a 0)), (1, .int x1)] (by decide) rfl (Nat.le_of_ble_eq_true rfl) rfl ?_
  intro E X
  unfold fx_X0_firm at hp
  refine gw_aload_n X 1 0 dX0_firm_0 rfl rfl rfl ?_
  refine gw_iload_n X 2 1 dX0_firm_1 rfl rfl rfl ?_
  refine gw_callVi X 5 [.int x1] (mt_X0_isSet rfl) lk_X0_361 ydv_X0_isSet gX_cl0 gX_at0 rfl rfl rfl dX0_firm_2 rfl rfl rfl ?_
  refine gw_if_neB X 11 8 dX0_firm_5 rfl rfl (fun z => ?_) (fun z => ?_)
  · replace hp := gw_t z hp
    refine gw_aload_n X 12 0 dX0_firm_11 rfl rfl rfl ?_
    obtain ⟨σ1, h2, hp⟩ := gw_b1_some hp
    refine gw_callVv X 15 [] (mt_X0_asItIs h2) lk_X0_190 ydv_X0_asItIs gX_cl0 gX_at0 rfl rfl rfl dX0_firm_12 rfl rfl rfl ?_
    refine gw_aload_n X 16 0 dX0_firm_15 rfl rfl rfl ?_
    refine gw_iload_n X 17 1 dX0_firm_16 rfl rfl rfl ?_
    obtain ⟨r3, h4, hp⟩ := gw_b1_some hp
    refine gw_callVi X 20 [.int x1] (mt_X0_leaving h4) lk_X0_364 ydv_X0_leaving gX_cl0 gX_at0 rfl rfl rfl dX0_firm_17 rfl rfl rfl ?_
    refine gw_if_ne X 27 23 dX0_firm_20 rfl rfl (fun z => ?_) (fun z => ?_)
    · replace hp := gw_f z hp
      refine gw_iconst X 28 dX0_firm_27 rfl gw_ci_0 ?_
      cases hp
      exact gw_iret X dX0_firm_28 (fun _ h => ⟨rfl, h⟩) (Nat.le_of_ble_eq_true rfl) (Nat.le_of_ble_eq_true rfl)
    · replace hp := gw_t z hp
      refine gw_iconst X 24 dX0_firm_23 rfl gw_ci_1 ?_
      refine gw_goto X 28 dX0_firm_24 rfl ?_
      cases hp
      exact gw_iret X dX0_firm_28 (fun _ h => ⟨rfl, h⟩) (Nat.le_of_ble_eq_true rfl) (Nat.le_of_ble_eq_true rfl)
  · replace hp := gw_f z hp
    refine gw_bipush X 10 dX0_firm_8 rfl gw_cb_m2 ?_
    cases hp
    exact gw_iret X dX0_firm_10 (fun _ h => ⟨rfl, h⟩) (Nat.le_of_ble_eq_true rfl) (Nat.le_of_ble_eq_true rfl)
abbrev rm_X0_firms : Room := { frames := 16, cells := 384, slots := 1024, locals := 821 }
def fx_X0_firms_L18 (σ : gw_S)  : Nat → Int32 → Int32 → Option (Int32 × gw_S)
  | 0, _, _ => none
  | n + 1, c1, c2 => (if (fx_X0_all σ) < c2 then some (c1, σ) else gw_b1 (fx_X0_leaving σ c2) (fun r3 => (if r3 = 0 then fx_X0_firms_L18 σ n (c1 + (1 : Int32)) (c2 + 1) else fx_X0_firms_L18 σ n (c1 + (0 : Int32)) (c2 + 1))))
def fx_X0_firms (σ : gw_S)  : Option (Int32 × gw_S) := (if fx_X0_isCity σ = true then gw_b1 (fx_X0_asItIs σ) (fun σ1 => fx_X0_firms_L18 σ1 1000 (0 : Int32) (0 : Int32)) else some ((-2), σ))
set_option maxHeartbeats 4000000 in
theorem wk_X0_firms_L18 {E : gw_E} {l : Launch} {D : gw_D} {a : Nat → Nat} {Wr : va_W → Prop} {σ : gw_S} {res : Int32 × gw_S} (X : gw_X E cX0_firms 3 RX0 (some .int) l D rm_X0_firms (some (gw_pI res.1 (gw_st (wX D a res.2) (gw_sp (gK D a) Wr)))))  : ∀ {n : Nat} {c1 : Int32} {c2 : Int32}, fx_X0_firms_L18 σ n c1 c2 = some res → gw_W E 18 [(0, .ref (a 0)), (1, .int c1), (2, .int c2)] [] (gw_st (wX D a σ) (gw_sp (gK D a) Wr)) 384 1024 := by
  intro n
  induction n with
  | zero =>
    intro c1 c2 hp
    cases (show none = some res from hp)
  | succ n ih =>
    intro c1 c2 hp
    rw [fx_X0_firms_L18] at hp
    refine gw_iload_n X 19 2 dX0_firms_18 rfl rfl rfl ?_
    refine gw_aload_n X 20 0 dX0_firms_19 rfl rfl rfl ?_
    refine gw_callVi X 23 [] (mt_X0_all rfl) lk_X0_107 ydv_X0_all gX_cl0 gX_at0 rfl rfl rfl dX0_firms_20 rfl rfl rfl ?_
    refine gw_icmp_gt X 48 26 dX0_firms_23 rfl rfl (fun z => ?_) (fun z => ?_)
    · replace hp := gw_t z hp
      refine gw_iload_n X 49 1 dX0_firms_48 rfl rfl rfl ?_
      cases hp
      exact gw_iret X dX0_firms_49 (fun _ h => ⟨rfl, h⟩) (Nat.le_of_ble_eq_true rfl) (Nat.le_of_ble_eq_true rfl)
    · replace hp := gw_f z hp
      refine gw_iload_n X 27 1 dX0_firms_26 rfl rfl rfl ?_
      refine gw_aload_n X 28 0 dX0_firms_27 rfl rfl rfl ?_
      refine gw_iload_n X 29 2 dX0_firms_28 rfl rfl rfl ?_
      obtain ⟨r3, h4, hp⟩ := gw_b1_some hp
      refine gw_callVi X 32 [.int c2] (mt_X0_leaving h4) lk_X0_364 ydv_X0_leaving gX_cl0 gX_at0 rfl rfl rfl dX0_firms_29 rfl rfl rfl ?_
      refine gw_if_ne X 39 35 dX0_firms_32 rfl rfl (fun z => ?_) (fun z => ?_)
      · replace hp := gw_f z hp
        refine gw_iconst X 40 dX0_firms_39 rfl gw_ci_0 ?_
        refine gw_iadd X 41 dX0_firms_40 rfl ?_
        refine gw_istore_n X 42 [(1, .int (c1 + (0 : Int32))), (0, .ref (a 0)), (2, .int c2)] dX0_firms_41 rfl rfl (by decide) rfl ?_
        refine gw_iinc X 45 2 [(2, .int (c2 + 1)), (1, .int (c1 + (0 : Int32))), (0, .ref (a 0))] dX0_firms_42 rfl rfl gw_ci_1 (by decide) rfl ?_
        refine gw_goto X 18 dX0_firms_45 rfl ?_
        refine gw_lv [2, 1, 0] rfl ?_
        exact ih hp
      · replace hp := gw_t z hp
        refine gw_iconst X 36 dX0_firms_35 rfl gw_ci_1 ?_
        refine gw_goto X 40 dX0_firms_36 rfl ?_
        refine gw_iadd X 41 dX0_firms_40 rfl ?_
        refine gw_istore_n X 42 [(1, .int (c1 + (1 : Int32))), (0, .ref (a 0)), (2, .int c2)] dX0_firms_41 rfl rfl (by decide) rfl ?_
        refine gw_iinc X 45 2 [(2, .int (c2 + 1)), (1, .int (c1 + (1 : Int32))), (0, .ref (a 0))] dX0_firms_42 rfl rfl gw_ci_1 (by decide) rfl ?_
        refine gw_goto X 18 dX0_firms_45 rfl ?_
        refine gw_lv [2, 1, 0] rfl ?_
        exact ih hp
set_option maxHeartbeats 4000000 in
theorem mt_X0_firms {l : Launch} {D : gw_D} {a : Nat → Nat} {Wr : va_W → Prop} {σ : gw_S}  {res : Int32 × gw_S} (hp : fx_X0_firms σ  = some res) : gw_Ct D l yX0_firms cX0_firms 3 (some .int) rm_X0_firms [.ref (a 0)] (gw_st (wX D a σ) (gw_sp (gK D a) Wr)) (gw_pI res.1 (gw_st (wX D a res.2) (gw_sp (gK D a) Wr))) := by
  refine gw_ct (own := RX0) [(0, .ref (a 0))] (by decide) rfl (Nat.le_of_ble_eq_true rfl) rfl ?_
  intro E X
  unfold fx_X0_firms at hp
  refine gw_aload_n X 1 0 dX0_firms_0 rfl rfl rfl ?_
  refine gw_callVi X 4 [] (mt_X0_isCity rfl) lk_X0_103 ydv_X0_isCity gX_cl0 gX_at0 rfl rfl rfl dX0_firms_1 rfl rfl rfl ?_
  refine gw_if_neB X 10 7 dX0_firms_4 rfl rfl (fun z => ?_) (fun z => ?_)
  · replace hp := gw_t z hp
    refine gw_aload_n X 11 0 dX0_firms_10 rfl rfl rfl ?_
    obtain ⟨σ1, h2, hp⟩ := gw_b1_some hp
    refine gw_callVv X 14 [] (mt_X0_asItIs h2) lk_X0_190 ydv_X0_asItIs gX_cl0 gX_at0 rfl rfl rfl dX0_firms_11 rfl rfl rfl ?_
    refine gw_iconst X 15 dX0_firms_14 rfl gw_ci_0 ?_
    refine gw_istore_n X 16 [(1, .int 0), (0, .ref (a 0))] dX0_firms_15 rfl rfl (by decide) rfl ?_
    refine gw_iconst X 17 dX0_firms_16 rfl gw_ci_0 ?_
    refine gw_istore_n X 18 [(2, .int 0), (1, .int 0), (0, .ref (a 0))] dX0_firms_17 rfl rfl (by decide) rfl ?_
    refine gw_lv [2, 1, 0] rfl ?_
    exact wk_X0_firms_L18 X hp
  · replace hp := gw_f z hp
    refine gw_bipush X 9 dX0_firms_7 rfl gw_cb_m2 ?_
    cases hp
    exact gw_iret X dX0_firms_9 (fun _ h => ⟨rfl, h⟩) (Nat.le_of_ble_eq_true rfl) (Nat.le_of_ble_eq_true rfl)
abbrev rm_X0_firmest : Room := { frames := 16, cells := 384, slots := 1024, locals := 821 }
def fx_X0_firmest_L18 (σ : gw_S)  : Nat → Int32 → Int32 → Option (Int32 × gw_S)
  | 0, _, _ => none
  | n + 1, c1, c2 => (if (fx_X0_all σ) < c2 then some (c1, σ) else (if (fx_J13_bitCount c2) ≤ (fx_J13_bitCount c1) then fx_X0_firmest_L18 σ n c1 (c2 + 1) else gw_b1 (fx_X0_leaving σ c2) (fun r3 => (if r3 = 0 then fx_X0_firmest_L18 σ n c2 (c2 + 1) else fx_X0_firmest_L18 σ n c1 (c2 + 1)))))
def fx_X0_firmest (σ : gw_S)  : Option (Int32 × gw_S) := (if fx_X0_isCity σ = true then gw_b1 (fx_X0_asItIs σ) (fun σ1 => fx_X0_firmest_L18 σ1 1000 (0 : Int32) (1 : Int32)) else some ((-2), σ))
set_option maxHeartbeats 4000000 in
theorem wk_X0_firmest_L18 {E : gw_E} {l : Launch} {D : gw_D} {a : Nat → Nat} {Wr : va_W → Prop} {σ : gw_S} {res : Int32 × gw_S} (X : gw_X E cX0_firmest 3 RX0 (some .int) l D rm_X0_firmest (some (gw_pI res.1 (gw_st (wX D a res.2) (gw_sp (gK D a) Wr)))))  : ∀ {n : Nat} {c1 : Int32} {c2 : Int32}, fx_X0_firmest_L18 σ n c1 c2 = some res → gw_W E 18 [(0, .ref (a 0)), (1, .int c1), (2, .int c2)] [] (gw_st (wX D a σ) (gw_sp (gK D a) Wr)) 384 1024 := by
  intro n
  induction n with
  | zero =>
    intro c1 c2 hp
    cases (show none = some res from hp)
  | succ n ih =>
    intro c1 c2 hp
    rw [fx_X0_firmest_L18] at hp
    refine gw_iload_n X 19 2 dX0_firmest_18 rfl rfl rfl ?_
    refine gw_aload_n X 20 0 dX0_firmest_19 rfl rfl rfl ?_
    refine gw_callVi X 23 [] (mt_X0_all rfl) lk_X0_107 ydv_X0_all gX_cl0 gX_at0 rfl rfl rfl dX0_firmest_20 rfl rfl rfl ?_
    refine gw_icmp_gt X 57 26 dX0_firmest_23 rfl rfl (fun z => ?_) (fun z => ?_)
    · replace hp := gw_t z hp
      refine gw_iload_n X 58 1 dX0_firmest_57 rfl rfl rfl ?_
      cases hp
      exact gw_iret X dX0_firmest_58 (fun _ h => ⟨rfl, h⟩) (Nat.le_of_ble_eq_true rfl) (Nat.le_of_ble_eq_true rfl)
    · replace hp := gw_f z hp
      refine gw_iload_n X 27 2 dX0_firmest_26 rfl rfl rfl ?_
      refine gw_callSi X 30 [.int c2] (mt_J13_bitCount rfl) lk_X0_273 yd_J13_bitCount rfl rfl rfl dX0_firmest_27 rfl rfl rfl ?_
      refine gw_iload_n X 31 1 dX0_firmest_30 rfl rfl rfl ?_
      refine gw_callSi X 34 [.int c1] (mt_J13_bitCount rfl) lk_X0_273 yd_J13_bitCount rfl rfl rfl dX0_firmest_31 rfl rfl rfl ?_
      refine gw_icmp_le X 49 37 dX0_firmest_34 rfl rfl (fun z => ?_) (fun z => ?_)
      · replace hp := gw_t z hp
        refine gw_iload_n X 50 1 dX0_firmest_49 rfl rfl rfl ?_
        refine gw_istore_n X 51 [(1, .int c1), (0, .ref (a 0)), (2, .int c2)] dX0_firmest_50 rfl rfl (by decide) rfl ?_
        refine gw_iinc X 54 2 [(2, .int (c2 + 1)), (1, .int c1), (0, .ref (a 0))] dX0_firmest_51 rfl rfl gw_ci_1 (by decide) rfl ?_
        refine gw_goto X 18 dX0_firmest_54 rfl ?_
        refine gw_lv [2, 1, 0] rfl ?_
        exact ih hp
      · replace hp := gw_f z hp
        refine gw_aload_n X 38 0 dX0_firmest_37 rfl rfl rfl ?_
        refine gw_iload_n X 39 2 dX0_firmest_38 rfl rfl rfl ?_
        obtain ⟨r3, h4, hp⟩ := gw_b1_some hp
        refine gw_callVi X 42 [.int c2] (mt_X0_leaving h4) lk_X0_364 ydv_X0_leaving gX_cl0 gX_at0 rfl rfl rfl dX0_firmest_39 rfl rfl rfl ?_
        refine gw_if_ne X 49 45 dX0_firmest_42 rfl rfl (fun z => ?_) (fun z => ?_)
        · replace hp := gw_f z hp
          refine gw_iload_n X 50 1 dX0_firmest_49 rfl rfl rfl ?_
          refine gw_istore_n X 51 [(1, .int c1), (0, .ref (a 0)), (2, .int c2)] dX0_firmest_50 rfl rfl (by decide) rfl ?_
          refine gw_iinc X 54 2 [(2, .int (c2 + 1)), (1, .int c1), (0, .ref (a 0))] dX0_firmest_51 rfl rfl gw_ci_1 (by decide) rfl ?_
          refine gw_goto X 18 dX0_firmest_54 rfl ?_
          refine gw_lv [2, 1, 0] rfl ?_
          exact ih hp
        · replace hp := gw_t z hp
          refine gw_iload_n X 46 2 dX0_firmest_45 rfl rfl rfl ?_
          refine gw_goto X 50 dX0_firmest_46 rfl ?_
          refine gw_istore_n X 51 [(1, .int c2), (0, .ref (a 0)), (2, .int c2)] dX0_firmest_50 rfl rfl (by decide) rfl ?_
          refine gw_iinc X 54 2 [(2, .int (c2 + 1)), (1, .int c2), (0, .ref (a 0))] dX0_firmest_51 rfl rfl gw_ci_1 (by decide) rfl ?_
          refine gw_goto X 18 dX0_firmest_54 rfl ?_
          refine gw_lv [2, 1, 0] rfl ?_
          exact ih hp
set_option maxHeartbeats 4000000 in
theorem mt_X0_firmest {l : Launch} {D : gw_D} {a : Nat → Nat} {Wr : va_W → Prop} {σ : gw_S}  {res : Int32 × gw_S} (hp : fx_X0_firmest σ  = some res) : gw_Ct D l yX0_firmest cX0_firmest 3 (some .int) rm_X0_firmest [.ref (a 0)] (gw_st (wX D a σ) (gw_sp (gK D a) Wr)) (gw_pI res.1 (gw_st (wX D a res.2) (gw_sp (gK D a) Wr))) := by
  refine gw_ct (own := RX0) [(0, .ref (a 0))] (by decide) rfl (Nat.le_of_ble_eq_true rfl) rfl ?_
  intro E X
  unfold fx_X0_firmest at hp
  refine gw_aload_n X 1 0 dX0_firmest_0 rfl rfl rfl ?_
  refine gw_callVi X 4 [] (mt_X0_isCity rfl) lk_X0_103 ydv_X0_isCity gX_cl0 gX_at0 rfl rfl rfl dX0_firmest_1 rfl rfl rfl ?_
  refine gw_if_neB X 10 7 dX0_firmest_4 rfl rfl (fun z => ?_) (fun z => ?_)
  · replace hp := gw_t z hp
    refine gw_aload_n X 11 0 dX0_firmest_10 rfl rfl rfl ?_
    obtain ⟨σ1, h2, hp⟩ := gw_b1_some hp
    refine gw_callVv X 14 [] (mt_X0_asItIs h2) lk_X0_190 ydv_X0_asItIs gX_cl0 gX_at0 rfl rfl rfl dX0_firmest_11 rfl rfl rfl ?_
    refine gw_iconst X 15 dX0_firmest_14 rfl gw_ci_0 ?_
    refine gw_istore_n X 16 [(1, .int 0), (0, .ref (a 0))] dX0_firmest_15 rfl rfl (by decide) rfl ?_
    refine gw_iconst X 17 dX0_firmest_16 rfl gw_ci_1 ?_
    refine gw_istore_n X 18 [(2, .int 1), (1, .int 0), (0, .ref (a 0))] dX0_firmest_17 rfl rfl (by decide) rfl ?_
    refine gw_lv [2, 1, 0] rfl ?_
    exact wk_X0_firmest_L18 X hp
  · replace hp := gw_f z hp
    refine gw_bipush X 9 dX0_firmest_7 rfl gw_cb_m2 ?_
    cases hp
    exact gw_iret X dX0_firmest_9 (fun _ h => ⟨rfl, h⟩) (Nat.le_of_ble_eq_true rfl) (Nat.le_of_ble_eq_true rfl)
