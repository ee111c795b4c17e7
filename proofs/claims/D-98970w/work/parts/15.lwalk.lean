set_option maxRecDepth 100000
abbrev rml_J0_init : Room := { frames := 1, cells := 0, slots := 0, locals := 20 }
set_option maxHeartbeats 4000000 in
theorem lm_J0_init {l : Launch} {D : gw_D} {Wr : va_W → Prop} {b : Nat}  : gw_Ct D l yJ0_init cJ0_init 1 none rml_J0_init [.ref b] (gw_st [] Wr) (gw_pV (gw_st [] Wr)) := by
  refine gw_ctI (own := RJ0) [(0, .ref b)] (by decide) rfl rfl (Nat.le_of_ble_eq_true rfl) rfl ?_
  intro E X hI
  refine gw_aload_n X 1 0 dJ0_init_0 rfl rfl rfl ?_
  refine gl_objInit X 4 q251 q177 q178 rfl rfl dJ0_init_1 rfl ?_
  exact gw_vret X dJ0_init_4 (fun _ h => ⟨rfl, h⟩) (Nat.le_of_ble_eq_true rfl) (Nat.le_of_ble_eq_true rfl)
abbrev rml_J1_init : Room := { frames := 2, cells := 0, slots := 0, locals := 40 }
set_option maxHeartbeats 4000000 in
theorem lm_J1_init {l : Launch} {D : gw_D} {Wr : va_W → Prop} {b : Nat}  : gw_Ct D l yJ1_init cJ1_init 1 none rml_J1_init [.ref b] (gw_st [(b, .inr (11, [.int 0, .null, .int 0]))] Wr) (gw_pV (gw_st [(b, .inr (11, [.int 0, .null, .int 0]))] Wr)) := by
  refine gw_ctI (own := RJ1) [(0, .ref b)] (by decide) rfl rfl (Nat.le_of_ble_eq_true rfl) rfl ?_
  intro E X hI
  refine gw_aload_n X 1 0 dJ1_init_0 rfl rfl rfl ?_
  refine gl_split (w1 := []) (w2 := [(b, .inr (11, [.int 0, .null, .int 0]))]) rfl ?_
  refine gl_callIv X 4 [] (lm_J0_init (b := b)) q248 (lw_meth q250) q249 q138 rfl yd_J0_init rfl rfl rfl dJ1_init_1 rfl rfl rfl ?_
  refine gl_merge (w := [(b, .inr (11, [.int 0, .null, .int 0]))]) rfl ?_
  refine gw_aload_n X 5 0 dJ1_init_4 rfl rfl rfl ?_
  refine gw_iconst X 6 dJ1_init_5 rfl gw_ci_0 ?_
  refine gl_put (q0 := 0) (fs := [.int 0, .null, .int 0]) (Ws' := (gw_st [(b, .inr (11, [.int 0, .null, .int 0]))] Wr)) (ty := tyJ2 0) X 9 tyJ2 tyJ2_ok nmJ2 in_J2 gl_cl11 (gl_at rfl) 0 (by decide) q256 rfl rfl (tyJ2_ok 0 (by decide)) rfl rfl (Nat.le_of_ble_eq_true rfl) (gl_set rfl rfl) dJ1_init_6 rfl ?_
  exact gw_vret X dJ1_init_9 (fun _ h => ⟨rfl, h⟩) (Nat.le_of_ble_eq_true rfl) (Nat.le_of_ble_eq_true rfl)
abbrev rml_J2_init : Room := { frames := 3, cells := 0, slots := 0, locals := 60 }
set_option maxHeartbeats 4000000 in
theorem lm_J2_init {l : Launch} {D : gw_D} {Wr : va_W → Prop} {b : Nat}  : gw_Ct D l yJ2_init cJ2_init 1 none rml_J2_init [.ref b] (gw_st [(b, .inr (11, [.int 0, .null, .int 0]))] Wr) (gw_pV (gw_st [(b, .inr (11, [.int 0, .ref (D.2 100), .int 0]))] Wr)) := by
  refine gw_ctI (own := RJ2) [(0, .ref b)] (by decide) rfl rfl (Nat.le_of_ble_eq_true rfl) rfl ?_
  intro E X hI
  refine gw_aload_n X 1 0 dJ2_init_0 rfl rfl rfl ?_
  refine gl_split (w1 := [(b, .inr (11, [.int 0, .null, .int 0]))]) (w2 := []) rfl ?_
  refine gl_callIv X 4 [] (lm_J1_init (b := b)) q245 (lw_meth q247) q246 q139 rfl yd_J1_init rfl rfl rfl dJ2_init_1 rfl rfl rfl ?_
  refine gl_merge (w := [(b, .inr (11, [.int 0, .null, .int 0]))]) rfl ?_
  refine gw_aload_n X 5 0 dJ2_init_4 rfl rfl rfl ?_
  refine gl_zAL X 8 q252 dJ2_init_5 rfl ?_
  refine gl_put (q0 := 0) (fs := [.int 0, .null, .int 0]) (Ws' := (gw_st [(b, .inr (11, [.int 0, .ref (D.2 100), .int 0]))] Wr)) (ty := tyJ2 1) X 11 tyJ2 tyJ2_ok nmJ2 in_J2 gl_cl11 (gl_at rfl) 1 (by decide) q254 rfl rfl (tyJ2_ok 1 (by decide)) rfl rfl (Nat.le_of_ble_eq_true rfl) (gl_set rfl rfl) dJ2_init_8 rfl ?_
  exact gw_vret X dJ2_init_11 (fun _ h => ⟨rfl, h⟩) (Nat.le_of_ble_eq_true rfl) (Nat.le_of_ble_eq_true rfl)
abbrev rml_J2_isEmpty0 : Room := { frames := 0, cells := 0, slots := 0, locals := 0 }
set_option maxHeartbeats 4000000 in
theorem lm_J2_isEmpty0 {l : Launch} {D : gw_D} {Wr : va_W → Prop} {b e : Nat} {m : Int32}  : gw_Ct D l yJ2_isEmpty cJ2_isEmpty 1 (some .boolean) rml_J2_isEmpty0 [.ref b] (gw_st [(b, .inr (11, [.int m, .ref e, .int 0]))] Wr) (gw_pI (gw_b true) (gw_st [(b, .inr (11, [.int m, .ref e, .int 0]))] Wr)) := by
  refine gw_ct (own := RJ2) [(0, .ref b)] (by decide) rfl (Nat.le_of_ble_eq_true rfl) rfl ?_
  intro E X
  refine gw_aload_n X 1 0 dJ2_isEmpty_0 rfl rfl rfl ?_
  refine gl_get (q0 := 0) (fs := [.int m, .ref e, .int 0]) X 4 in_J2 gl_cl11 (gl_at rfl) 2 (by decide) q255 rfl rfl dJ2_isEmpty_1 rfl ?_
  refine gw_if_ne X 11 7 dJ2_isEmpty_4 rfl rfl (fun z => absurd (by decide) z) (fun _ => ?_)
  refine gw_iconst X 8 dJ2_isEmpty_7 rfl gw_ci_1 ?_
  refine gw_goto X 12 dJ2_isEmpty_8 rfl ?_
  exact gw_zret1 X dJ2_isEmpty_12 (fun _ h => ⟨rfl, h⟩) (Nat.le_of_ble_eq_true rfl) (Nat.le_of_ble_eq_true rfl)
abbrev rml_J2_isEmpty5 : Room := { frames := 0, cells := 0, slots := 0, locals := 0 }
set_option maxHeartbeats 4000000 in
theorem lm_J2_isEmpty5 {l : Launch} {D : gw_D} {Wr : va_W → Prop} {b e : Nat} {m : Int32}  : gw_Ct D l yJ2_isEmpty cJ2_isEmpty 1 (some .boolean) rml_J2_isEmpty5 [.ref b] (gw_st [(b, .inr (11, [.int m, .ref e, .int 5]))] Wr) (gw_pI (gw_b false) (gw_st [(b, .inr (11, [.int m, .ref e, .int 5]))] Wr)) := by
  refine gw_ct (own := RJ2) [(0, .ref b)] (by decide) rfl (Nat.le_of_ble_eq_true rfl) rfl ?_
  intro E X
  refine gw_aload_n X 1 0 dJ2_isEmpty_0 rfl rfl rfl ?_
  refine gl_get (q0 := 0) (fs := [.int m, .ref e, .int 5]) X 4 in_J2 gl_cl11 (gl_at rfl) 2 (by decide) q255 rfl rfl dJ2_isEmpty_1 rfl ?_
  refine gw_if_ne X 11 7 dJ2_isEmpty_4 rfl rfl (fun _ => ?_) (fun z => absurd z (by decide))
  refine gw_iconst X 12 dJ2_isEmpty_11 rfl gw_ci_0 ?_
  exact gw_zret0 X dJ2_isEmpty_12 (fun _ h => ⟨rfl, h⟩) (Nat.le_of_ble_eq_true rfl) (Nat.le_of_ble_eq_true rfl)
abbrev rml_J2_isEmpty3 : Room := { frames := 0, cells := 0, slots := 0, locals := 0 }
set_option maxHeartbeats 4000000 in
theorem lm_J2_isEmpty3 {l : Launch} {D : gw_D} {Wr : va_W → Prop} {b e : Nat} {m : Int32}  : gw_Ct D l yJ2_isEmpty cJ2_isEmpty 1 (some .boolean) rml_J2_isEmpty3 [.ref b] (gw_st [(b, .inr (11, [.int m, .ref e, .int 3]))] Wr) (gw_pI (gw_b false) (gw_st [(b, .inr (11, [.int m, .ref e, .int 3]))] Wr)) := by
  refine gw_ct (own := RJ2) [(0, .ref b)] (by decide) rfl (Nat.le_of_ble_eq_true rfl) rfl ?_
  intro E X
  refine gw_aload_n X 1 0 dJ2_isEmpty_0 rfl rfl rfl ?_
  refine gl_get (q0 := 0) (fs := [.int m, .ref e, .int 3]) X 4 in_J2 gl_cl11 (gl_at rfl) 2 (by decide) q255 rfl rfl dJ2_isEmpty_1 rfl ?_
  refine gw_if_ne X 11 7 dJ2_isEmpty_4 rfl rfl (fun _ => ?_) (fun z => absurd z (by decide))
  refine gw_iconst X 12 dJ2_isEmpty_11 rfl gw_ci_0 ?_
  exact gw_zret0 X dJ2_isEmpty_12 (fun _ h => ⟨rfl, h⟩) (Nat.le_of_ble_eq_true rfl) (Nat.le_of_ble_eq_true rfl)
abbrev rml_J2_grow_2 : Room := { frames := 1, cells := 1, slots := 10, locals := 24 }
set_option maxHeartbeats 4000000 in
theorem lm_J2_grow_2 {l : Launch} {D : gw_D} {Wr : va_W → Prop} {b : Nat} {m : Int32}  : gw_Ct D l yJ2_grow_2 cJ2_grow_2 4 (some (.array (.object "java/lang/Object"))) rml_J2_grow_2 [.ref b, .int 1] (gw_st [(b, .inr (11, [.int m, .ref (D.2 100), .int 0]))] Wr) (fun v u => ∃ q1, v = some (.ref q1) ∧ (gw_st [(q1, .inl (D.2 6, 10, .inr (.inr (.inr (.inr (fun _ => none)))))), (b, .inr (11, [.int m, .ref q1, .int 0]))] Wr) u) := by
  refine gw_ct (own := RJ2) [(0, .ref b), (1, .int 1)] (by decide) rfl (Nat.le_of_ble_eq_true rfl) rfl ?_
  intro E X
  refine gw_aload_n X 1 0 dJ2_grow_2_0 rfl rfl rfl ?_
  refine gl_get (q0 := 0) (fs := [.int m, .ref (D.2 100), .int 0]) X 4 in_J2 gl_cl11 (gl_at rfl) 1 (by decide) q254 rfl rfl dJ2_grow_2_1 rfl ?_
  refine gl_zALlen X 5 dJ2_grow_2_4 rfl ?_
  refine gw_istore_n X 6 [(2, .int 0), (0, .ref b), (1, .int 1)] dJ2_grow_2_5 rfl rfl (by decide) rfl ?_
  refine gw_iload_n X 7 0 dJ2_grow_2_6 rfl rfl rfl ?_
  refine gw_if_gt X 20 10 dJ2_grow_2_7 rfl rfl (fun z => absurd z (by decide)) (fun _ => ?_)
  refine gw_aload_n X 11 1 dJ2_grow_2_10 rfl rfl rfl ?_
  refine gl_get (q0 := 0) (fs := [.int m, .ref (D.2 100), .int 0]) X 14 in_J2 gl_cl11 (gl_at rfl) 1 (by decide) q254 rfl rfl dJ2_grow_2_11 rfl ?_
  refine gl_zAL X 17 q252 dJ2_grow_2_14 rfl ?_
  refine gl_acmp_eq X 45 20 dJ2_grow_2_17 rfl rfl (fun _ => ?_) (fun z => absurd rfl z)
  refine gw_aload_n X 46 1 dJ2_grow_2_45 rfl rfl rfl ?_
  refine gw_bipush X 48 dJ2_grow_2_46 rfl gw_cb_10 ?_
  refine gw_iload_n X 49 2 dJ2_grow_2_48 rfl rfl rfl ?_
  refine gw_mmax X 52 q737 dJ2_grow_2_49 rfl rfl rfl ?_
  refine gl_topi (show (if (10 : Int32) < (1 : Int32) then (1 : Int32) else (10 : Int32)) = (10 : Int32) by decide) ?_
  refine gl_anew (N := 10) X 55 6 q738 (fun _ h => h.2.1) rfl (by decide) rfl (Nat.le_of_ble_eq_true rfl) (Nat.le_of_ble_eq_true rfl) (Nat.le_of_ble_eq_true rfl) dJ2_grow_2_52 rfl rfl rfl (fun q1 => ?_)
  refine gl_merge (w := [(q1, .inl (D.2 6, 10, .inr (.inr (.inr (.inr (fun _ => none)))))), (b, .inr (11, [.int m, .ref (D.2 100), .int 0]))]) rfl ?_
  refine gl_dup_x1 X 56 dJ2_grow_2_55 rfl rfl rfl ?_
  refine gl_put (q0 := 1) (fs := [.int m, .ref (D.2 100), .int 0]) (Ws' := (gw_st [(q1, .inl (D.2 6, 10, .inr (.inr (.inr (.inr (fun _ => none)))))), (b, .inr (11, [.int m, .ref q1, .int 0]))] Wr)) (ty := tyJ2 1) X 59 tyJ2 tyJ2_ok nmJ2 in_J2 gl_cl11 (gl_at rfl) 1 (by decide) q254 rfl rfl (tyJ2_ok 1 (by decide)) rfl rfl (Nat.le_of_ble_eq_true rfl) (gl_set rfl rfl) dJ2_grow_2_56 rfl ?_
  exact gl_aretA X dJ2_grow_2_59 (fun _ h => ⟨q1, rfl, h⟩) (Nat.le_of_ble_eq_true rfl) (Nat.le_of_ble_eq_true rfl)
abbrev rml_J2_grow : Room := { frames := 2, cells := 1, slots := 10, locals := 47 }
set_option maxHeartbeats 4000000 in
theorem lm_J2_grow {l : Launch} {D : gw_D} {Wr : va_W → Prop} {b : Nat} {m : Int32}  : gw_Ct D l yJ2_grow cJ2_grow 1 (some (.array (.object "java/lang/Object"))) rml_J2_grow [.ref b] (gw_st [(b, .inr (11, [.int m, .ref (D.2 100), .int 0]))] Wr) (fun v u => ∃ y1_1, v = some (.ref y1_1) ∧ (gw_st [(y1_1, .inl (D.2 6, 10, .inr (.inr (.inr (.inr (fun _ => none)))))), (b, .inr (11, [.int m, .ref y1_1, .int 0]))] Wr) u) := by
  refine gw_ct (own := RJ2) [(0, .ref b)] (by decide) rfl (Nat.le_of_ble_eq_true rfl) rfl ?_
  intro E X
  refine gw_aload_n X 1 0 dJ2_grow_0 rfl rfl rfl ?_
  refine gw_aload_n X 2 0 dJ2_grow_1 rfl rfl rfl ?_
  refine gl_get (q0 := 0) (fs := [.int m, .ref (D.2 100), .int 0]) X 5 in_J2 gl_cl11 (gl_at rfl) 2 (by decide) q255 rfl rfl dJ2_grow_2 rfl ?_
  refine gw_iconst X 6 dJ2_grow_5 rfl gw_ci_1 ?_
  refine gw_iadd X 7 dJ2_grow_6 rfl ?_
  refine gl_topi (show (0 : Int32) + (1 : Int32) = (1 : Int32) by decide) ?_
  refine gl_split (w1 := [(b, .inr (11, [.int m, .ref (D.2 100), .int 0]))]) (w2 := []) rfl ?_
  refine gw_callV X 10 [.int 1] (lm_J2_grow_2 (b := b) (m := m)) lk_J2_69 ydv_J2_grow_2 gl_cl11 (gl_ate (q0 := 0) rfl) rfl rfl rfl dJ2_grow_7 rfl ?_
  rintro v u ⟨y1_1, rfl, hu⟩
  revert u
  show gw_W E 10 _ (.ref y1_1 :: _) (gw_st [(y1_1, .inl (D.2 6, 10, .inr (.inr (.inr (.inr (fun _ => none)))))), (b, .inr (11, [.int m, .ref y1_1, .int 0]))] (gw_st [] Wr)) 1 10
  refine gl_merge (w := [(y1_1, .inl (D.2 6, 10, .inr (.inr (.inr (.inr (fun _ => none)))))), (b, .inr (11, [.int m, .ref y1_1, .int 0]))]) rfl ?_
  exact gl_aretA X dJ2_grow_10 (fun _ h => ⟨y1_1, rfl, h⟩) (Nat.le_of_ble_eq_true rfl) (Nat.le_of_ble_eq_true rfl)
abbrev rml_J2_add_2_0_ask : Room := { frames := 3, cells := 1, slots := 10, locals := 67 }
set_option maxHeartbeats 4000000 in
theorem lm_J2_add_2_0_ask {l : Launch} {D : gw_D} {Wr : va_W → Prop} {b : Nat} {m : Int32} {x h : Nat}  : gw_Ct D l yJ2_add_2 cJ2_add_2 4 none rml_J2_add_2_0_ask [.ref b, .ref x, .ref (D.2 100), .int 0] (gw_st [(b, .inr (11, [.int m, .ref (D.2 100), .int 0])), (x, .inr (6, [.ref h]))] Wr) (fun v u => ∃ y1_1_1, v = none ∧ (gw_st [(y1_1_1, .inl (D.2 6, 10, .inr (.inr (.inr (.inr (va_up (fun _ => none) 0 (some x))))))), (b, .inr (11, [.int m, .ref y1_1_1, .int 1])), (x, .inr (6, [.ref h]))] Wr) u) := by
  refine gw_ct (own := RJ2) [(0, .ref b), (1, .ref x), (2, .ref (D.2 100)), (3, .int 0)] (by decide) rfl (Nat.le_of_ble_eq_true rfl) rfl ?_
  intro E X
  refine gw_iload_n X 1 3 dJ2_add_2_0 rfl rfl rfl ?_
  refine gw_aload_n X 2 2 dJ2_add_2_1 rfl rfl rfl ?_
  refine gl_zALlen X 3 dJ2_add_2_2 rfl ?_
  refine gw_icmp_ne X 11 6 dJ2_add_2_3 rfl rfl (fun z => absurd (by decide) z) (fun _ => ?_)
  refine gw_aload_n X 7 0 dJ2_add_2_6 rfl rfl rfl ?_
  refine gl_split (w1 := [(b, .inr (11, [.int m, .ref (D.2 100), .int 0]))]) (w2 := [(x, .inr (6, [.ref h]))]) rfl ?_
  refine gw_callV X 10 [] (lm_J2_grow (b := b) (m := m)) lk_J2_129 ydv_J2_grow gl_cl11 (gl_ate (q0 := 0) rfl) rfl rfl rfl dJ2_add_2_7 rfl ?_
  rintro v u ⟨y1_1_1, rfl, hu⟩
  revert u
  show gw_W E 10 _ (.ref y1_1_1 :: _) (gw_st [(y1_1_1, .inl (D.2 6, 10, .inr (.inr (.inr (.inr (fun _ => none)))))), (b, .inr (11, [.int m, .ref y1_1_1, .int 0]))] (gw_st [(x, .inr (6, [.ref h]))] Wr)) 1 10
  refine gl_merge (w := [(y1_1_1, .inl (D.2 6, 10, .inr (.inr (.inr (.inr (fun _ => none)))))), (b, .inr (11, [.int m, .ref y1_1_1, .int 0])), (x, .inr (6, [.ref h]))]) rfl ?_
  refine gw_astore_n X 11 [(2, .ref y1_1_1), (0, .ref b), (1, .ref x), (3, .int 0)] dJ2_add_2_10 rfl rfl (by decide) rfl ?_
  refine gw_aload_n X 12 0 dJ2_add_2_11 rfl rfl rfl ?_
  refine gw_iload_n X 13 3 dJ2_add_2_12 rfl rfl rfl ?_
  refine gw_aload_n X 14 2 dJ2_add_2_13 rfl rfl rfl ?_
  refine gl_aastO (q0 := 0) (qk := 2) (Ws' := (gw_st [(y1_1_1, .inl (D.2 6, 10, .inr (.inr (.inr (.inr (va_up (fun _ => none) 0 (some x))))))), (b, .inr (11, [.int m, .ref y1_1_1, .int 0])), (x, .inr (6, [.ref h]))] Wr)) X 15 (t0 := 6) (gl_at rfl) rfl q2097 (gl_at rfl) gl_cl6 (gw_in rfl) (gl_set rfl rfl) dJ2_add_2_14 rfl ?_
  refine gw_aload_n X 16 1 dJ2_add_2_15 rfl rfl rfl ?_
  refine gw_iload_n X 17 3 dJ2_add_2_16 rfl rfl rfl ?_
  refine gw_iconst X 18 dJ2_add_2_17 rfl gw_ci_1 ?_
  refine gw_iadd X 19 dJ2_add_2_18 rfl ?_
  refine gl_topi (show (0 : Int32) + (1 : Int32) = (1 : Int32) by decide) ?_
  refine gl_put (q0 := 1) (fs := [.int m, .ref y1_1_1, .int 0]) (Ws' := (gw_st [(y1_1_1, .inl (D.2 6, 10, .inr (.inr (.inr (.inr (va_up (fun _ => none) 0 (some x))))))), (b, .inr (11, [.int m, .ref y1_1_1, .int 1])), (x, .inr (6, [.ref h]))] Wr)) (ty := tyJ2 2) X 22 tyJ2 tyJ2_ok nmJ2 in_J2 gl_cl11 (gl_at rfl) 2 (by decide) q255 rfl rfl (tyJ2_ok 2 (by decide)) rfl rfl (Nat.le_of_ble_eq_true rfl) (gl_set rfl rfl) dJ2_add_2_19 rfl ?_
  exact gw_vret X dJ2_add_2_22 (fun _ h => ⟨y1_1_1, rfl, h⟩) (Nat.le_of_ble_eq_true rfl) (Nat.le_of_ble_eq_true rfl)
abbrev rml_J2_add_0_ask : Room := { frames := 4, cells := 1, slots := 10, locals := 90 }
set_option maxHeartbeats 4000000 in
theorem lm_J2_add_0_ask {l : Launch} {D : gw_D} {Wr : va_W → Prop} {b : Nat} {m : Int32} {x h : Nat}  : gw_Ct D l yJ2_add cJ2_add 2 (some .boolean) rml_J2_add_0_ask [.ref b, .ref x] (gw_st [(b, .inr (11, [.int m, .ref (D.2 100), .int 0])), (x, .inr (6, [.ref h]))] Wr) (fun v u => ∃ y1_1_1_1, v = some (.int (gw_b true)) ∧ (gw_st [(y1_1_1_1, .inl (D.2 6, 10, .inr (.inr (.inr (.inr (va_up (fun _ => none) 0 (some x))))))), (b, .inr (11, [.int (m + (1 : Int32)), .ref y1_1_1_1, .int 1])), (x, .inr (6, [.ref h]))] Wr) u) := by
  refine gw_ct (own := RJ2) [(0, .ref b), (1, .ref x)] (by decide) rfl (Nat.le_of_ble_eq_true rfl) rfl ?_
  intro E X
  refine gw_aload_n X 1 0 dJ2_add_0 rfl rfl rfl ?_
  refine gw_dup X 2 dJ2_add_1 rfl rfl ?_
  refine gl_getI (q0 := 0) (fs := [.int m, .ref (D.2 100), .int 0]) X 5 in_J2 gl_cl11 (gl_at rfl) 0 (by decide) q257 q258 rfl dJ2_add_2 rfl ?_
  refine gw_iconst X 6 dJ2_add_5 rfl gw_ci_1 ?_
  refine gw_iadd X 7 dJ2_add_6 rfl ?_
  refine gl_putI (q0 := 0) (fs := [.int m, .ref (D.2 100), .int 0]) (Ws' := (gw_st [(b, .inr (11, [.int (m + (1 : Int32)), .ref (D.2 100), .int 0])), (x, .inr (6, [.ref h]))] Wr)) (ty := tyJ2 0) X 10 tyJ2 tyJ2_ok nmJ2 in_J2 gl_cl11 (gl_at rfl) 0 (by decide) q257 q258 rfl (tyJ2_ok 0 (by decide)) rfl rfl (Nat.le_of_ble_eq_true rfl) (gl_set rfl rfl) dJ2_add_7 rfl ?_
  refine gw_aload_n X 11 0 dJ2_add_10 rfl rfl rfl ?_
  refine gw_aload_n X 12 1 dJ2_add_11 rfl rfl rfl ?_
  refine gw_aload_n X 13 0 dJ2_add_12 rfl rfl rfl ?_
  refine gl_get (q0 := 0) (fs := [.int (m + (1 : Int32)), .ref (D.2 100), .int 0]) X 16 in_J2 gl_cl11 (gl_at rfl) 1 (by decide) q254 rfl rfl dJ2_add_13 rfl ?_
  refine gw_aload_n X 17 0 dJ2_add_16 rfl rfl rfl ?_
  refine gl_get (q0 := 0) (fs := [.int (m + (1 : Int32)), .ref (D.2 100), .int 0]) X 20 in_J2 gl_cl11 (gl_at rfl) 2 (by decide) q255 rfl rfl dJ2_add_17 rfl ?_
  refine gl_split (w1 := [(b, .inr (11, [.int (m + (1 : Int32)), .ref (D.2 100), .int 0])), (x, .inr (6, [.ref h]))]) (w2 := []) rfl ?_
  refine gw_callV X 23 [.ref x, .ref (D.2 100), .int 0] (lm_J2_add_2_0_ask (b := b) (m := m + (1 : Int32)) (x := x) (h := h)) lk_J2_131 ydv_J2_add_2 gl_cl11 (gl_ate (q0 := 0) rfl) rfl rfl rfl dJ2_add_20 rfl ?_
  rintro v u ⟨y1_1_1_1, rfl, hu⟩
  revert u
  show gw_W E 23 _ (_) (gw_st [(y1_1_1_1, .inl (D.2 6, 10, .inr (.inr (.inr (.inr (va_up (fun _ => none) 0 (some x))))))), (b, .inr (11, [.int (m + (1 : Int32)), .ref y1_1_1_1, .int 1])), (x, .inr (6, [.ref h]))] (gw_st [] Wr)) 1 10
  refine gl_merge (w := [(y1_1_1_1, .inl (D.2 6, 10, .inr (.inr (.inr (.inr (va_up (fun _ => none) 0 (some x))))))), (b, .inr (11, [.int (m + (1 : Int32)), .ref y1_1_1_1, .int 1])), (x, .inr (6, [.ref h]))]) rfl ?_
  refine gw_iconst X 24 dJ2_add_23 rfl gw_ci_1 ?_
  exact gw_zret1 X dJ2_add_24 (fun _ h => ⟨y1_1_1_1, rfl, h⟩) (Nat.le_of_ble_eq_true rfl) (Nat.le_of_ble_eq_true rfl)
abbrev rml_J2_add_2_1_give : Room := { frames := 0, cells := 0, slots := 0, locals := 0 }
set_option maxHeartbeats 4000000 in
theorem lm_J2_add_2_1_give {l : Launch} {D : gw_D} {Wr : va_W → Prop} {b : Nat} {m : Int32} {x h : Nat} {e : Nat} {f : Nat → Option Nat}  : gw_Ct D l yJ2_add_2 cJ2_add_2 4 none rml_J2_add_2_1_give [.ref b, .ref x, .ref e, .int 1] (gw_st [(b, .inr (11, [.int m, .ref e, .int 1])), (e, .inl (D.2 6, 10, .inr (.inr (.inr (.inr f))))), (x, .inr (7, [.ref h, .ref h]))] Wr) (gw_pV (gw_st [(b, .inr (11, [.int m, .ref e, .int 2])), (e, .inl (D.2 6, 10, .inr (.inr (.inr (.inr (va_up f 1 (some x))))))), (x, .inr (7, [.ref h, .ref h]))] Wr)) := by
  refine gw_ct (own := RJ2) [(0, .ref b), (1, .ref x), (2, .ref e), (3, .int 1)] (by decide) rfl (Nat.le_of_ble_eq_true rfl) rfl ?_
  intro E X
  refine gw_iload_n X 1 3 dJ2_add_2_0 rfl rfl rfl ?_
  refine gw_aload_n X 2 2 dJ2_add_2_1 rfl rfl rfl ?_
  refine gl_alen (q0 := 1) (t0 := 6) X 3 (gl_at rfl) rfl (show Int32.ofNat 10 = 10 by decide) dJ2_add_2_2 rfl ?_
  refine gw_icmp_ne X 11 6 dJ2_add_2_3 rfl rfl (fun _ => ?_) (fun z => absurd z (by decide))
  refine gw_aload_n X 12 2 dJ2_add_2_11 rfl rfl rfl ?_
  refine gw_iload_n X 13 3 dJ2_add_2_12 rfl rfl rfl ?_
  refine gw_aload_n X 14 1 dJ2_add_2_13 rfl rfl rfl ?_
  refine gl_aastO (q0 := 1) (qk := 2) (Ws' := (gw_st [(b, .inr (11, [.int m, .ref e, .int 1])), (e, .inl (D.2 6, 10, .inr (.inr (.inr (.inr (va_up f 1 (some x))))))), (x, .inr (7, [.ref h, .ref h]))] Wr)) X 15 (t0 := 6) (gl_at rfl) rfl q2098 (gl_at rfl) gl_cl7 (gw_in rfl) (gl_set rfl rfl) dJ2_add_2_14 rfl ?_
  refine gw_aload_n X 16 0 dJ2_add_2_15 rfl rfl rfl ?_
  refine gw_iload_n X 17 3 dJ2_add_2_16 rfl rfl rfl ?_
  refine gw_iconst X 18 dJ2_add_2_17 rfl gw_ci_1 ?_
  refine gw_iadd X 19 dJ2_add_2_18 rfl ?_
  refine gl_topi (show (1 : Int32) + (1 : Int32) = (2 : Int32) by decide) ?_
  refine gl_put (q0 := 0) (fs := [.int m, .ref e, .int 1]) (Ws' := (gw_st [(b, .inr (11, [.int m, .ref e, .int 2])), (e, .inl (D.2 6, 10, .inr (.inr (.inr (.inr (va_up f 1 (some x))))))), (x, .inr (7, [.ref h, .ref h]))] Wr)) (ty := tyJ2 2) X 22 tyJ2 tyJ2_ok nmJ2 in_J2 gl_cl11 (gl_at rfl) 2 (by decide) q255 rfl rfl (tyJ2_ok 2 (by decide)) rfl rfl (Nat.le_of_ble_eq_true rfl) (gl_set rfl rfl) dJ2_add_2_19 rfl ?_
  exact gw_vret X dJ2_add_2_22 (fun _ h => ⟨rfl, h⟩) (Nat.le_of_ble_eq_true rfl) (Nat.le_of_ble_eq_true rfl)
abbrev rml_J2_add_1_give : Room := { frames := 1, cells := 0, slots := 0, locals := 23 }
set_option maxHeartbeats 4000000 in
theorem lm_J2_add_1_give {l : Launch} {D : gw_D} {Wr : va_W → Prop} {b : Nat} {m : Int32} {x h : Nat} {e : Nat} {f : Nat → Option Nat}  : gw_Ct D l yJ2_add cJ2_add 2 (some .boolean) rml_J2_add_1_give [.ref b, .ref x] (gw_st [(b, .inr (11, [.int m, .ref e, .int 1])), (e, .inl (D.2 6, 10, .inr (.inr (.inr (.inr f))))), (x, .inr (7, [.ref h, .ref h]))] Wr) (gw_pI (gw_b true) (gw_st [(b, .inr (11, [.int (m + (1 : Int32)), .ref e, .int 2])), (e, .inl (D.2 6, 10, .inr (.inr (.inr (.inr (va_up f 1 (some x))))))), (x, .inr (7, [.ref h, .ref h]))] Wr)) := by
  refine gw_ct (own := RJ2) [(0, .ref b), (1, .ref x)] (by decide) rfl (Nat.le_of_ble_eq_true rfl) rfl ?_
  intro E X
  refine gw_aload_n X 1 0 dJ2_add_0 rfl rfl rfl ?_
  refine gw_dup X 2 dJ2_add_1 rfl rfl ?_
  refine gl_getI (q0 := 0) (fs := [.int m, .ref e, .int 1]) X 5 in_J2 gl_cl11 (gl_at rfl) 0 (by decide) q257 q258 rfl dJ2_add_2 rfl ?_
  refine gw_iconst X 6 dJ2_add_5 rfl gw_ci_1 ?_
  refine gw_iadd X 7 dJ2_add_6 rfl ?_
  refine gl_putI (q0 := 0) (fs := [.int m, .ref e, .int 1]) (Ws' := (gw_st [(b, .inr (11, [.int (m + (1 : Int32)), .ref e, .int 1])), (e, .inl (D.2 6, 10, .inr (.inr (.inr (.inr f))))), (x, .inr (7, [.ref h, .ref h]))] Wr)) (ty := tyJ2 0) X 10 tyJ2 tyJ2_ok nmJ2 in_J2 gl_cl11 (gl_at rfl) 0 (by decide) q257 q258 rfl (tyJ2_ok 0 (by decide)) rfl rfl (Nat.le_of_ble_eq_true rfl) (gl_set rfl rfl) dJ2_add_7 rfl ?_
  refine gw_aload_n X 11 0 dJ2_add_10 rfl rfl rfl ?_
  refine gw_aload_n X 12 1 dJ2_add_11 rfl rfl rfl ?_
  refine gw_aload_n X 13 0 dJ2_add_12 rfl rfl rfl ?_
  refine gl_get (q0 := 0) (fs := [.int (m + (1 : Int32)), .ref e, .int 1]) X 16 in_J2 gl_cl11 (gl_at rfl) 1 (by decide) q254 rfl rfl dJ2_add_13 rfl ?_
  refine gw_aload_n X 17 0 dJ2_add_16 rfl rfl rfl ?_
  refine gl_get (q0 := 0) (fs := [.int (m + (1 : Int32)), .ref e, .int 1]) X 20 in_J2 gl_cl11 (gl_at rfl) 2 (by decide) q255 rfl rfl dJ2_add_17 rfl ?_
  refine gl_split (w1 := [(b, .inr (11, [.int (m + (1 : Int32)), .ref e, .int 1])), (e, .inl (D.2 6, 10, .inr (.inr (.inr (.inr f))))), (x, .inr (7, [.ref h, .ref h]))]) (w2 := []) rfl ?_
  refine gw_callVv X 23 [.ref x, .ref e, .int 1] (lm_J2_add_2_1_give (b := b) (m := m + (1 : Int32)) (x := x) (h := h) (e := e) (f := f)) lk_J2_131 ydv_J2_add_2 gl_cl11 (gl_ate (q0 := 0) rfl) rfl rfl rfl dJ2_add_20 rfl rfl rfl ?_
  refine gl_merge (w := [(b, .inr (11, [.int (m + (1 : Int32)), .ref e, .int 2])), (e, .inl (D.2 6, 10, .inr (.inr (.inr (.inr (va_up f 1 (some x))))))), (x, .inr (7, [.ref h, .ref h]))]) rfl ?_
  refine gw_iconst X 24 dJ2_add_23 rfl gw_ci_1 ?_
  exact gw_zret1 X dJ2_add_24 (fun _ h => ⟨rfl, h⟩) (Nat.le_of_ble_eq_true rfl) (Nat.le_of_ble_eq_true rfl)
abbrev rml_J2_add_2_2_swap : Room := { frames := 0, cells := 0, slots := 0, locals := 0 }
set_option maxHeartbeats 4000000 in
theorem lm_J2_add_2_2_swap {l : Launch} {D : gw_D} {Wr : va_W → Prop} {b : Nat} {m : Int32} {x h : Nat} {e : Nat} {f : Nat → Option Nat}  : gw_Ct D l yJ2_add_2 cJ2_add_2 4 none rml_J2_add_2_2_swap [.ref b, .ref x, .ref e, .int 2] (gw_st [(b, .inr (11, [.int m, .ref e, .int 2])), (e, .inl (D.2 6, 10, .inr (.inr (.inr (.inr f))))), (x, .inr (8, [.ref h]))] Wr) (gw_pV (gw_st [(b, .inr (11, [.int m, .ref e, .int 3])), (e, .inl (D.2 6, 10, .inr (.inr (.inr (.inr (va_up f 2 (some x))))))), (x, .inr (8, [.ref h]))] Wr)) := by
  refine gw_ct (own := RJ2) [(0, .ref b), (1, .ref x), (2, .ref e), (3, .int 2)] (by decide) rfl (Nat.le_of_ble_eq_true rfl) rfl ?_
  intro E X
  refine gw_iload_n X 1 3 dJ2_add_2_0 rfl rfl rfl ?_
  refine gw_aload_n X 2 2 dJ2_add_2_1 rfl rfl rfl ?_
  refine gl_alen (q0 := 1) (t0 := 6) X 3 (gl_at rfl) rfl (show Int32.ofNat 10 = 10 by decide) dJ2_add_2_2 rfl ?_
  refine gw_icmp_ne X 11 6 dJ2_add_2_3 rfl rfl (fun _ => ?_) (fun z => absurd z (by decide))
  refine gw_aload_n X 12 2 dJ2_add_2_11 rfl rfl rfl ?_
  refine gw_iload_n X 13 3 dJ2_add_2_12 rfl rfl rfl ?_
  refine gw_aload_n X 14 1 dJ2_add_2_13 rfl rfl rfl ?_
  refine gl_aastO (q0 := 1) (qk := 2) (Ws' := (gw_st [(b, .inr (11, [.int m, .ref e, .int 2])), (e, .inl (D.2 6, 10, .inr (.inr (.inr (.inr (va_up f 2 (some x))))))), (x, .inr (8, [.ref h]))] Wr)) X 15 (t0 := 6) (gl_at rfl) rfl q2099 (gl_at rfl) gl_cl8 (gw_in rfl) (gl_set rfl rfl) dJ2_add_2_14 rfl ?_
  refine gw_aload_n X 16 0 dJ2_add_2_15 rfl rfl rfl ?_
  refine gw_iload_n X 17 3 dJ2_add_2_16 rfl rfl rfl ?_
  refine gw_iconst X 18 dJ2_add_2_17 rfl gw_ci_1 ?_
  refine gw_iadd X 19 dJ2_add_2_18 rfl ?_
  refine gl_topi (show (2 : Int32) + (1 : Int32) = (3 : Int32) by decide) ?_
  refine gl_put (q0 := 0) (fs := [.int m, .ref e, .int 2]) (Ws' := (gw_st [(b, .inr (11, [.int m, .ref e, .int 3])), (e, .inl (D.2 6, 10, .inr (.inr (.inr (.inr (va_up f 2 (some x))))))), (x, .inr (8, [.ref h]))] Wr)) (ty := tyJ2 2) X 22 tyJ2 tyJ2_ok nmJ2 in_J2 gl_cl11 (gl_at rfl) 2 (by decide) q255 rfl rfl (tyJ2_ok 2 (by decide)) rfl rfl (Nat.le_of_ble_eq_true rfl) (gl_set rfl rfl) dJ2_add_2_19 rfl ?_
  exact gw_vret X dJ2_add_2_22 (fun _ h => ⟨rfl, h⟩) (Nat.le_of_ble_eq_true rfl) (Nat.le_of_ble_eq_true rfl)
abbrev rml_J2_add_2_swap : Room := { frames := 1, cells := 0, slots := 0, locals := 23 }
set_option maxHeartbeats 4000000 in
theorem lm_J2_add_2_swap {l : Launch} {D : gw_D} {Wr : va_W → Prop} {b : Nat} {m : Int32} {x h : Nat} {e : Nat} {f : Nat → Option Nat}  : gw_Ct D l yJ2_add cJ2_add 2 (some .boolean) rml_J2_add_2_swap [.ref b, .ref x] (gw_st [(b, .inr (11, [.int m, .ref e, .int 2])), (e, .inl (D.2 6, 10, .inr (.inr (.inr (.inr f))))), (x, .inr (8, [.ref h]))] Wr) (gw_pI (gw_b true) (gw_st [(b, .inr (11, [.int (m + (1 : Int32)), .ref e, .int 3])), (e, .inl (D.2 6, 10, .inr (.inr (.inr (.inr (va_up f 2 (some x))))))), (x, .inr (8, [.ref h]))] Wr)) := by
  refine gw_ct (own := RJ2) [(0, .ref b), (1, .ref x)] (by decide) rfl (Nat.le_of_ble_eq_true rfl) rfl ?_
  intro E X
  refine gw_aload_n X 1 0 dJ2_add_0 rfl rfl rfl ?_
  refine gw_dup X 2 dJ2_add_1 rfl rfl ?_
  refine gl_getI (q0 := 0) (fs := [.int m, .ref e, .int 2]) X 5 in_J2 gl_cl11 (gl_at rfl) 0 (by decide) q257 q258 rfl dJ2_add_2 rfl ?_
  refine gw_iconst X 6 dJ2_add_5 rfl gw_ci_1 ?_
  refine gw_iadd X 7 dJ2_add_6 rfl ?_
  refine gl_putI (q0 := 0) (fs := [.int m, .ref e, .int 2]) (Ws' := (gw_st [(b, .inr (11, [.int (m + (1 : Int32)), .ref e, .int 2])), (e, .inl (D.2 6, 10, .inr (.inr (.inr (.inr f))))), (x, .inr (8, [.ref h]))] Wr)) (ty := tyJ2 0) X 10 tyJ2 tyJ2_ok nmJ2 in_J2 gl_cl11 (gl_at rfl) 0 (by decide) q257 q258 rfl (tyJ2_ok 0 (by decide)) rfl rfl (Nat.le_of_ble_eq_true rfl) (gl_set rfl rfl) dJ2_add_7 rfl ?_
  refine gw_aload_n X 11 0 dJ2_add_10 rfl rfl rfl ?_
  refine gw_aload_n X 12 1 dJ2_add_11 rfl rfl rfl ?_
  refine gw_aload_n X 13 0 dJ2_add_12 rfl rfl rfl ?_
  refine gl_get (q0 := 0) (fs := [.int (m + (1 : Int32)), .ref e, .int 2]) X 16 in_J2 gl_cl11 (gl_at rfl) 1 (by decide) q254 rfl rfl dJ2_add_13 rfl ?_
  refine gw_aload_n X 17 0 dJ2_add_16 rfl rfl rfl ?_
  refine gl_get (q0 := 0) (fs := [.int (m + (1 : Int32)), .ref e, .int 2]) X 20 in_J2 gl_cl11 (gl_at rfl) 2 (by decide) q255 rfl rfl dJ2_add_17 rfl ?_
  refine gl_split (w1 := [(b, .inr (11, [.int (m + (1 : Int32)), .ref e, .int 2])), (e, .inl (D.2 6, 10, .inr (.inr (.inr (.inr f))))), (x, .inr (8, [.ref h]))]) (w2 := []) rfl ?_
  refine gw_callVv X 23 [.ref x, .ref e, .int 2] (lm_J2_add_2_2_swap (b := b) (m := m + (1 : Int32)) (x := x) (h := h) (e := e) (f := f)) lk_J2_131 ydv_J2_add_2 gl_cl11 (gl_ate (q0 := 0) rfl) rfl rfl rfl dJ2_add_20 rfl rfl rfl ?_
  refine gl_merge (w := [(b, .inr (11, [.int (m + (1 : Int32)), .ref e, .int 3])), (e, .inl (D.2 6, 10, .inr (.inr (.inr (.inr (va_up f 2 (some x))))))), (x, .inr (8, [.ref h]))]) rfl ?_
  refine gw_iconst X 24 dJ2_add_23 rfl gw_ci_1 ?_
  exact gw_zret1 X dJ2_add_24 (fun _ h => ⟨rfl, h⟩) (Nat.le_of_ble_eq_true rfl) (Nat.le_of_ble_eq_true rfl)
abbrev rml_J2_add_2_3_steal : Room := { frames := 0, cells := 0, slots := 0, locals := 0 }
set_option maxHeartbeats 4000000 in
theorem lm_J2_add_2_3_steal {l : Launch} {D : gw_D} {Wr : va_W → Prop} {b : Nat} {m : Int32} {x h : Nat} {e : Nat} {f : Nat → Option Nat}  : gw_Ct D l yJ2_add_2 cJ2_add_2 4 none rml_J2_add_2_3_steal [.ref b, .ref x, .ref e, .int 3] (gw_st [(b, .inr (11, [.int m, .ref e, .int 3])), (e, .inl (D.2 6, 10, .inr (.inr (.inr (.inr f))))), (x, .inr (9, [.ref h]))] Wr) (gw_pV (gw_st [(b, .inr (11, [.int m, .ref e, .int 4])), (e, .inl (D.2 6, 10, .inr (.inr (.inr (.inr (va_up f 3 (some x))))))), (x, .inr (9, [.ref h]))] Wr)) := by
  refine gw_ct (own := RJ2) [(0, .ref b), (1, .ref x), (2, .ref e), (3, .int 3)] (by decide) rfl (Nat.le_of_ble_eq_true rfl) rfl ?_
  intro E X
  refine gw_iload_n X 1 3 dJ2_add_2_0 rfl rfl rfl ?_
  refine gw_aload_n X 2 2 dJ2_add_2_1 rfl rfl rfl ?_
  refine gl_alen (q0 := 1) (t0 := 6) X 3 (gl_at rfl) rfl (show Int32.ofNat 10 = 10 by decide) dJ2_add_2_2 rfl ?_
  refine gw_icmp_ne X 11 6 dJ2_add_2_3 rfl rfl (fun _ => ?_) (fun z => absurd z (by decide))
  refine gw_aload_n X 12 2 dJ2_add_2_11 rfl rfl rfl ?_
  refine gw_iload_n X 13 3 dJ2_add_2_12 rfl rfl rfl ?_
  refine gw_aload_n X 14 1 dJ2_add_2_13 rfl rfl rfl ?_
  refine gl_aastO (q0 := 1) (qk := 2) (Ws' := (gw_st [(b, .inr (11, [.int m, .ref e, .int 3])), (e, .inl (D.2 6, 10, .inr (.inr (.inr (.inr (va_up f 3 (some x))))))), (x, .inr (9, [.ref h]))] Wr)) X 15 (t0 := 6) (gl_at rfl) rfl q2100 (gl_at rfl) gl_cl9 (gw_in rfl) (gl_set rfl rfl) dJ2_add_2_14 rfl ?_
  refine gw_aload_n X 16 0 dJ2_add_2_15 rfl rfl rfl ?_
  refine gw_iload_n X 17 3 dJ2_add_2_16 rfl rfl rfl ?_
  refine gw_iconst X 18 dJ2_add_2_17 rfl gw_ci_1 ?_
  refine gw_iadd X 19 dJ2_add_2_18 rfl ?_
  refine gl_topi (show (3 : Int32) + (1 : Int32) = (4 : Int32) by decide) ?_
  refine gl_put (q0 := 0) (fs := [.int m, .ref e, .int 3]) (Ws' := (gw_st [(b, .inr (11, [.int m, .ref e, .int 4])), (e, .inl (D.2 6, 10, .inr (.inr (.inr (.inr (va_up f 3 (some x))))))), (x, .inr (9, [.ref h]))] Wr)) (ty := tyJ2 2) X 22 tyJ2 tyJ2_ok nmJ2 in_J2 gl_cl11 (gl_at rfl) 2 (by decide) q255 rfl rfl (tyJ2_ok 2 (by decide)) rfl rfl (Nat.le_of_ble_eq_true rfl) (gl_set rfl rfl) dJ2_add_2_19 rfl ?_
  exact gw_vret X dJ2_add_2_22 (fun _ h => ⟨rfl, h⟩) (Nat.le_of_ble_eq_true rfl) (Nat.le_of_ble_eq_true rfl)
abbrev rml_J2_add_3_steal : Room := { frames := 1, cells := 0, slots := 0, locals := 23 }
set_option maxHeartbeats 4000000 in
theorem lm_J2_add_3_steal {l : Launch} {D : gw_D} {Wr : va_W → Prop} {b : Nat} {m : Int32} {x h : Nat} {e : Nat} {f : Nat → Option Nat}  : gw_Ct D l yJ2_add cJ2_add 2 (some .boolean) rml_J2_add_3_steal [.ref b, .ref x] (gw_st [(b, .inr (11, [.int m, .ref e, .int 3])), (e, .inl (D.2 6, 10, .inr (.inr (.inr (.inr f))))), (x, .inr (9, [.ref h]))] Wr) (gw_pI (gw_b true) (gw_st [(b, .inr (11, [.int (m + (1 : Int32)), .ref e, .int 4])), (e, .inl (D.2 6, 10, .inr (.inr (.inr (.inr (va_up f 3 (some x))))))), (x, .inr (9, [.ref h]))] Wr)) := by
  refine gw_ct (own := RJ2) [(0, .ref b), (1, .ref x)] (by decide) rfl (Nat.le_of_ble_eq_true rfl) rfl ?_
  intro E X
  refine gw_aload_n X 1 0 dJ2_add_0 rfl rfl rfl ?_
  refine gw_dup X 2 dJ2_add_1 rfl rfl ?_
  refine gl_getI (q0 := 0) (fs := [.int m, .ref e, .int 3]) X 5 in_J2 gl_cl11 (gl_at rfl) 0 (by decide) q257 q258 rfl dJ2_add_2 rfl ?_
  refine gw_iconst X 6 dJ2_add_5 rfl gw_ci_1 ?_
  refine gw_iadd X 7 dJ2_add_6 rfl ?_
  refine gl_putI (q0 := 0) (fs := [.int m, .ref e, .int 3]) (Ws' := (gw_st [(b, .inr (11, [.int (m + (1 : Int32)), .ref e, .int 3])), (e, .inl (D.2 6, 10, .inr (.inr (.inr (.inr f))))), (x, .inr (9, [.ref h]))] Wr)) (ty := tyJ2 0) X 10 tyJ2 tyJ2_ok nmJ2 in_J2 gl_cl11 (gl_at rfl) 0 (by decide) q257 q258 rfl (tyJ2_ok 0 (by decide)) rfl rfl (Nat.le_of_ble_eq_true rfl) (gl_set rfl rfl) dJ2_add_7 rfl ?_
  refine gw_aload_n X 11 0 dJ2_add_10 rfl rfl rfl ?_
  refine gw_aload_n X 12 1 dJ2_add_11 rfl rfl rfl ?_
  refine gw_aload_n X 13 0 dJ2_add_12 rfl rfl rfl ?_
  refine gl_get (q0 := 0) (fs := [.int (m + (1 : Int32)), .ref e, .int 3]) X 16 in_J2 gl_cl11 (gl_at rfl) 1 (by decide) q254 rfl rfl dJ2_add_13 rfl ?_
  refine gw_aload_n X 17 0 dJ2_add_16 rfl rfl rfl ?_
  refine gl_get (q0 := 0) (fs := [.int (m + (1 : Int32)), .ref e, .int 3]) X 20 in_J2 gl_cl11 (gl_at rfl) 2 (by decide) q255 rfl rfl dJ2_add_17 rfl ?_
  refine gl_split (w1 := [(b, .inr (11, [.int (m + (1 : Int32)), .ref e, .int 3])), (e, .inl (D.2 6, 10, .inr (.inr (.inr (.inr f))))), (x, .inr (9, [.ref h]))]) (w2 := []) rfl ?_
  refine gw_callVv X 23 [.ref x, .ref e, .int 3] (lm_J2_add_2_3_steal (b := b) (m := m + (1 : Int32)) (x := x) (h := h) (e := e) (f := f)) lk_J2_131 ydv_J2_add_2 gl_cl11 (gl_ate (q0 := 0) rfl) rfl rfl rfl dJ2_add_20 rfl rfl rfl ?_
  refine gl_merge (w := [(b, .inr (11, [.int (m + (1 : Int32)), .ref e, .int 4])), (e, .inl (D.2 6, 10, .inr (.inr (.inr (.inr (va_up f 3 (some x))))))), (x, .inr (9, [.ref h]))]) rfl ?_
  refine gw_iconst X 24 dJ2_add_23 rfl gw_ci_1 ?_
  exact gw_zret1 X dJ2_add_24 (fun _ h => ⟨rfl, h⟩) (Nat.le_of_ble_eq_true rfl) (Nat.le_of_ble_eq_true rfl)
abbrev rml_J2_add_2_4_day : Room := { frames := 0, cells := 0, slots := 0, locals := 0 }
set_option maxHeartbeats 4000000 in
theorem lm_J2_add_2_4_day {l : Launch} {D : gw_D} {Wr : va_W → Prop} {b : Nat} {m : Int32} {x h : Nat} {e : Nat} {f : Nat → Option Nat}  : gw_Ct D l yJ2_add_2 cJ2_add_2 4 none rml_J2_add_2_4_day [.ref b, .ref x, .ref e, .int 4] (gw_st [(b, .inr (11, [.int m, .ref e, .int 4])), (e, .inl (D.2 6, 10, .inr (.inr (.inr (.inr f))))), (x, .inr (10, [.ref h]))] Wr) (gw_pV (gw_st [(b, .inr (11, [.int m, .ref e, .int 5])), (e, .inl (D.2 6, 10, .inr (.inr (.inr (.inr (va_up f 4 (some x))))))), (x, .inr (10, [.ref h]))] Wr)) := by
  refine gw_ct (own := RJ2) [(0, .ref b), (1, .ref x), (2, .ref e), (3, .int 4)] (by decide) rfl (Nat.le_of_ble_eq_true rfl) rfl ?_
  intro E X
  refine gw_iload_n X 1 3 dJ2_add_2_0 rfl rfl rfl ?_
  refine gw_aload_n X 2 2 dJ2_add_2_1 rfl rfl rfl ?_
  refine gl_alen (q0 := 1) (t0 := 6) X 3 (gl_at rfl) rfl (show Int32.ofNat 10 = 10 by decide) dJ2_add_2_2 rfl ?_
  refine gw_icmp_ne X 11 6 dJ2_add_2_3 rfl rfl (fun _ => ?_) (fun z => absurd z (by decide))
  refine gw_aload_n X 12 2 dJ2_add_2_11 rfl rfl rfl ?_
  refine gw_iload_n X 13 3 dJ2_add_2_12 rfl rfl rfl ?_
  refine gw_aload_n X 14 1 dJ2_add_2_13 rfl rfl rfl ?_
  refine gl_aastO (q0 := 1) (qk := 2) (Ws' := (gw_st [(b, .inr (11, [.int m, .ref e, .int 4])), (e, .inl (D.2 6, 10, .inr (.inr (.inr (.inr (va_up f 4 (some x))))))), (x, .inr (10, [.ref h]))] Wr)) X 15 (t0 := 6) (gl_at rfl) rfl q2101 (gl_at rfl) gl_cl10 (gw_in rfl) (gl_set rfl rfl) dJ2_add_2_14 rfl ?_
  refine gw_aload_n X 16 0 dJ2_add_2_15 rfl rfl rfl ?_
  refine gw_iload_n X 17 3 dJ2_add_2_16 rfl rfl rfl ?_
  refine gw_iconst X 18 dJ2_add_2_17 rfl gw_ci_1 ?_
  refine gw_iadd X 19 dJ2_add_2_18 rfl ?_
  refine gl_topi (show (4 : Int32) + (1 : Int32) = (5 : Int32) by decide) ?_
  refine gl_put (q0 := 0) (fs := [.int m, .ref e, .int 4]) (Ws' := (gw_st [(b, .inr (11, [.int m, .ref e, .int 5])), (e, .inl (D.2 6, 10, .inr (.inr (.inr (.inr (va_up f 4 (some x))))))), (x, .inr (10, [.ref h]))] Wr)) (ty := tyJ2 2) X 22 tyJ2 tyJ2_ok nmJ2 in_J2 gl_cl11 (gl_at rfl) 2 (by decide) q255 rfl rfl (tyJ2_ok 2 (by decide)) rfl rfl (Nat.le_of_ble_eq_true rfl) (gl_set rfl rfl) dJ2_add_2_19 rfl ?_
  exact gw_vret X dJ2_add_2_22 (fun _ h => ⟨rfl, h⟩) (Nat.le_of_ble_eq_true rfl) (Nat.le_of_ble_eq_true rfl)
abbrev rml_J2_add_4_day : Room := { frames := 1, cells := 0, slots := 0, locals := 23 }
set_option maxHeartbeats 4000000 in
theorem lm_J2_add_4_day {l : Launch} {D : gw_D} {Wr : va_W → Prop} {b : Nat} {m : Int32} {x h : Nat} {e : Nat} {f : Nat → Option Nat}  : gw_Ct D l yJ2_add cJ2_add 2 (some .boolean) rml_J2_add_4_day [.ref b, .ref x] (gw_st [(b, .inr (11, [.int m, .ref e, .int 4])), (e, .inl (D.2 6, 10, .inr (.inr (.inr (.inr f))))), (x, .inr (10, [.ref h]))] Wr) (gw_pI (gw_b true) (gw_st [(b, .inr (11, [.int (m + (1 : Int32)), .ref e, .int 5])), (e, .inl (D.2 6, 10, .inr (.inr (.inr (.inr (va_up f 4 (some x))))))), (x, .inr (10, [.ref h]))] Wr)) := by
  refine gw_ct (own := RJ2) [(0, .ref b), (1, .ref x)] (by decide) rfl (Nat.le_of_ble_eq_true rfl) rfl ?_
  intro E X
  refine gw_aload_n X 1 0 dJ2_add_0 rfl rfl rfl ?_
  refine gw_dup X 2 dJ2_add_1 rfl rfl ?_
  refine gl_getI (q0 := 0) (fs := [.int m, .ref e, .int 4]) X 5 in_J2 gl_cl11 (gl_at rfl) 0 (by decide) q257 q258 rfl dJ2_add_2 rfl ?_
  refine gw_iconst X 6 dJ2_add_5 rfl gw_ci_1 ?_
  refine gw_iadd X 7 dJ2_add_6 rfl ?_
  refine gl_putI (q0 := 0) (fs := [.int m, .ref e, .int 4]) (Ws' := (gw_st [(b, .inr (11, [.int (m + (1 : Int32)), .ref e, .int 4])), (e, .inl (D.2 6, 10, .inr (.inr (.inr (.inr f))))), (x, .inr (10, [.ref h]))] Wr)) (ty := tyJ2 0) X 10 tyJ2 tyJ2_ok nmJ2 in_J2 gl_cl11 (gl_at rfl) 0 (by decide) q257 q258 rfl (tyJ2_ok 0 (by decide)) rfl rfl (Nat.le_of_ble_eq_true rfl) (gl_set rfl rfl) dJ2_add_7 rfl ?_
  refine gw_aload_n X 11 0 dJ2_add_10 rfl rfl rfl ?_
  refine gw_aload_n X 12 1 dJ2_add_11 rfl rfl rfl ?_
  refine gw_aload_n X 13 0 dJ2_add_12 rfl rfl rfl ?_
  refine gl_get (q0 := 0) (fs := [.int (m + (1 : Int32)), .ref e, .int 4]) X 16 in_J2 gl_cl11 (gl_at rfl) 1 (by decide) q254 rfl rfl dJ2_add_13 rfl ?_
  refine gw_aload_n X 17 0 dJ2_add_16 rfl rfl rfl ?_
  refine gl_get (q0 := 0) (fs := [.int (m + (1 : Int32)), .ref e, .int 4]) X 20 in_J2 gl_cl11 (gl_at rfl) 2 (by decide) q255 rfl rfl dJ2_add_17 rfl ?_
  refine gl_split (w1 := [(b, .inr (11, [.int (m + (1 : Int32)), .ref e, .int 4])), (e, .inl (D.2 6, 10, .inr (.inr (.inr (.inr f))))), (x, .inr (10, [.ref h]))]) (w2 := []) rfl ?_
  refine gw_callVv X 23 [.ref x, .ref e, .int 4] (lm_J2_add_2_4_day (b := b) (m := m + (1 : Int32)) (x := x) (h := h) (e := e) (f := f)) lk_J2_131 ydv_J2_add_2 gl_cl11 (gl_ate (q0 := 0) rfl) rfl rfl rfl dJ2_add_20 rfl rfl rfl ?_
  refine gl_merge (w := [(b, .inr (11, [.int (m + (1 : Int32)), .ref e, .int 5])), (e, .inl (D.2 6, 10, .inr (.inr (.inr (.inr (va_up f 4 (some x))))))), (x, .inr (10, [.ref h]))]) rfl ?_
  refine gw_iconst X 24 dJ2_add_23 rfl gw_ci_1 ?_
  exact gw_zret1 X dJ2_add_24 (fun _ h => ⟨rfl, h⟩) (Nat.le_of_ble_eq_true rfl) (Nat.le_of_ble_eq_true rfl)
abbrev rml_J2_add_2_0_null : Room := { frames := 3, cells := 1, slots := 10, locals := 67 }
set_option maxHeartbeats 4000000 in
theorem lm_J2_add_2_0_null {l : Launch} {D : gw_D} {Wr : va_W → Prop} {b : Nat} {m : Int32}  : gw_Ct D l yJ2_add_2 cJ2_add_2 4 none rml_J2_add_2_0_null [.ref b, .null, .ref (D.2 100), .int 0] (gw_st [(b, .inr (11, [.int m, .ref (D.2 100), .int 0]))] Wr) (fun v u => ∃ y1_1_1, v = none ∧ (gw_st [(y1_1_1, .inl (D.2 6, 10, .inr (.inr (.inr (.inr (va_up (fun _ => none) 0 none)))))), (b, .inr (11, [.int m, .ref y1_1_1, .int 1]))] Wr) u) := by
  refine gw_ct (own := RJ2) [(0, .ref b), (1, .null), (2, .ref (D.2 100)), (3, .int 0)] (by decide) rfl (Nat.le_of_ble_eq_true rfl) rfl ?_
  intro E X
  refine gw_iload_n X 1 3 dJ2_add_2_0 rfl rfl rfl ?_
  refine gw_aload_n X 2 2 dJ2_add_2_1 rfl rfl rfl ?_
  refine gl_zALlen X 3 dJ2_add_2_2 rfl ?_
  refine gw_icmp_ne X 11 6 dJ2_add_2_3 rfl rfl (fun z => absurd (by decide) z) (fun _ => ?_)
  refine gw_aload_n X 7 0 dJ2_add_2_6 rfl rfl rfl ?_
  refine gl_split (w1 := [(b, .inr (11, [.int m, .ref (D.2 100), .int 0]))]) (w2 := []) rfl ?_
  refine gw_callV X 10 [] (lm_J2_grow (b := b) (m := m)) lk_J2_129 ydv_J2_grow gl_cl11 (gl_ate (q0 := 0) rfl) rfl rfl rfl dJ2_add_2_7 rfl ?_
  rintro v u ⟨y1_1_1, rfl, hu⟩
  revert u
  show gw_W E 10 _ (.ref y1_1_1 :: _) (gw_st [(y1_1_1, .inl (D.2 6, 10, .inr (.inr (.inr (.inr (fun _ => none)))))), (b, .inr (11, [.int m, .ref y1_1_1, .int 0]))] (gw_st [] Wr)) 1 10
  refine gl_merge (w := [(y1_1_1, .inl (D.2 6, 10, .inr (.inr (.inr (.inr (fun _ => none)))))), (b, .inr (11, [.int m, .ref y1_1_1, .int 0]))]) rfl ?_
  refine gw_astore_n X 11 [(2, .ref y1_1_1), (0, .ref b), (1, .null), (3, .int 0)] dJ2_add_2_10 rfl rfl (by decide) rfl ?_
  refine gw_aload_n X 12 0 dJ2_add_2_11 rfl rfl rfl ?_
  refine gw_iload_n X 13 3 dJ2_add_2_12 rfl rfl rfl ?_
  refine gl_aload_nN X 14 2 dJ2_add_2_13 rfl rfl rfl ?_
  refine gl_aastN (q0 := 0) (Ws' := (gw_st [(y1_1_1, .inl (D.2 6, 10, .inr (.inr (.inr (.inr (va_up (fun _ => none) 0 none)))))), (b, .inr (11, [.int m, .ref y1_1_1, .int 0]))] Wr)) X 15 (t0 := 6) (gl_at rfl) rfl (gw_in rfl) (gl_set rfl rfl) dJ2_add_2_14 rfl ?_
  refine gw_aload_n X 16 1 dJ2_add_2_15 rfl rfl rfl ?_
  refine gw_iload_n X 17 3 dJ2_add_2_16 rfl rfl rfl ?_
  refine gw_iconst X 18 dJ2_add_2_17 rfl gw_ci_1 ?_
  refine gw_iadd X 19 dJ2_add_2_18 rfl ?_
  refine gl_topi (show (0 : Int32) + (1 : Int32) = (1 : Int32) by decide) ?_
  refine gl_put (q0 := 1) (fs := [.int m, .ref y1_1_1, .int 0]) (Ws' := (gw_st [(y1_1_1, .inl (D.2 6, 10, .inr (.inr (.inr (.inr (va_up (fun _ => none) 0 none)))))), (b, .inr (11, [.int m, .ref y1_1_1, .int 1]))] Wr)) (ty := tyJ2 2) X 22 tyJ2 tyJ2_ok nmJ2 in_J2 gl_cl11 (gl_at rfl) 2 (by decide) q255 rfl rfl (tyJ2_ok 2 (by decide)) rfl rfl (Nat.le_of_ble_eq_true rfl) (gl_set rfl rfl) dJ2_add_2_19 rfl ?_
  exact gw_vret X dJ2_add_2_22 (fun _ h => ⟨y1_1_1, rfl, h⟩) (Nat.le_of_ble_eq_true rfl) (Nat.le_of_ble_eq_true rfl)
abbrev rml_J2_add_0_null : Room := { frames := 4, cells := 1, slots := 10, locals := 90 }
set_option maxHeartbeats 4000000 in
theorem lm_J2_add_0_null {l : Launch} {D : gw_D} {Wr : va_W → Prop} {b : Nat} {m : Int32}  : gw_Ct D l yJ2_add cJ2_add 2 (some .boolean) rml_J2_add_0_null [.ref b, .null] (gw_st [(b, .inr (11, [.int m, .ref (D.2 100), .int 0]))] Wr) (fun v u => ∃ y1_1_1_1, v = some (.int (gw_b true)) ∧ (gw_st [(y1_1_1_1, .inl (D.2 6, 10, .inr (.inr (.inr (.inr (va_up (fun _ => none) 0 none)))))), (b, .inr (11, [.int (m + (1 : Int32)), .ref y1_1_1_1, .int 1]))] Wr) u) := by
  refine gw_ct (own := RJ2) [(0, .ref b), (1, .null)] (by decide) rfl (Nat.le_of_ble_eq_true rfl) rfl ?_
  intro E X
  refine gw_aload_n X 1 0 dJ2_add_0 rfl rfl rfl ?_
  refine gw_dup X 2 dJ2_add_1 rfl rfl ?_
  refine gl_getI (q0 := 0) (fs := [.int m, .ref (D.2 100), .int 0]) X 5 in_J2 gl_cl11 (gl_at rfl) 0 (by decide) q257 q258 rfl dJ2_add_2 rfl ?_
  refine gw_iconst X 6 dJ2_add_5 rfl gw_ci_1 ?_
  refine gw_iadd X 7 dJ2_add_6 rfl ?_
  refine gl_putI (q0 := 0) (fs := [.int m, .ref (D.2 100), .int 0]) (Ws' := (gw_st [(b, .inr (11, [.int (m + (1 : Int32)), .ref (D.2 100), .int 0]))] Wr)) (ty := tyJ2 0) X 10 tyJ2 tyJ2_ok nmJ2 in_J2 gl_cl11 (gl_at rfl) 0 (by decide) q257 q258 rfl (tyJ2_ok 0 (by decide)) rfl rfl (Nat.le_of_ble_eq_true rfl) (gl_set rfl rfl) dJ2_add_7 rfl ?_
  refine gw_aload_n X 11 0 dJ2_add_10 rfl rfl rfl ?_
  refine gl_aload_nN X 12 1 dJ2_add_11 rfl rfl rfl ?_
  refine gw_aload_n X 13 0 dJ2_add_12 rfl rfl rfl ?_
  refine gl_get (q0 := 0) (fs := [.int (m + (1 : Int32)), .ref (D.2 100), .int 0]) X 16 in_J2 gl_cl11 (gl_at rfl) 1 (by decide) q254 rfl rfl dJ2_add_13 rfl ?_
  refine gw_aload_n X 17 0 dJ2_add_16 rfl rfl rfl ?_
  refine gl_get (q0 := 0) (fs := [.int (m + (1 : Int32)), .ref (D.2 100), .int 0]) X 20 in_J2 gl_cl11 (gl_at rfl) 2 (by decide) q255 rfl rfl dJ2_add_17 rfl ?_
  refine gl_split (w1 := [(b, .inr (11, [.int (m + (1 : Int32)), .ref (D.2 100), .int 0]))]) (w2 := []) rfl ?_
  refine gw_callV X 23 [.null, .ref (D.2 100), .int 0] (lm_J2_add_2_0_null (b := b) (m := m + (1 : Int32))) lk_J2_131 ydv_J2_add_2 gl_cl11 (gl_ate (q0 := 0) rfl) rfl rfl rfl dJ2_add_20 rfl ?_
  rintro v u ⟨y1_1_1_1, rfl, hu⟩
  revert u
  show gw_W E 23 _ (_) (gw_st [(y1_1_1_1, .inl (D.2 6, 10, .inr (.inr (.inr (.inr (va_up (fun _ => none) 0 none)))))), (b, .inr (11, [.int (m + (1 : Int32)), .ref y1_1_1_1, .int 1]))] (gw_st [] Wr)) 1 10
  refine gl_merge (w := [(y1_1_1_1, .inl (D.2 6, 10, .inr (.inr (.inr (.inr (va_up (fun _ => none) 0 none)))))), (b, .inr (11, [.int (m + (1 : Int32)), .ref y1_1_1_1, .int 1]))]) rfl ?_
  refine gw_iconst X 24 dJ2_add_23 rfl gw_ci_1 ?_
  exact gw_zret1 X dJ2_add_24 (fun _ h => ⟨y1_1_1_1, rfl, h⟩) (Nat.le_of_ble_eq_true rfl) (Nat.le_of_ble_eq_true rfl)
abbrev rml_J2_add_2_1_null : Room := { frames := 0, cells := 0, slots := 0, locals := 0 }
set_option maxHeartbeats 4000000 in
theorem lm_J2_add_2_1_null {l : Launch} {D : gw_D} {Wr : va_W → Prop} {b : Nat} {m : Int32} {e : Nat} {f : Nat → Option Nat}  : gw_Ct D l yJ2_add_2 cJ2_add_2 4 none rml_J2_add_2_1_null [.ref b, .null, .ref e, .int 1] (gw_st [(b, .inr (11, [.int m, .ref e, .int 1])), (e, .inl (D.2 6, 10, .inr (.inr (.inr (.inr f)))))] Wr) (gw_pV (gw_st [(b, .inr (11, [.int m, .ref e, .int 2])), (e, .inl (D.2 6, 10, .inr (.inr (.inr (.inr (va_up f 1 none))))))] Wr)) := by
  refine gw_ct (own := RJ2) [(0, .ref b), (1, .null), (2, .ref e), (3, .int 1)] (by decide) rfl (Nat.le_of_ble_eq_true rfl) rfl ?_
  intro E X
  refine gw_iload_n X 1 3 dJ2_add_2_0 rfl rfl rfl ?_
  refine gw_aload_n X 2 2 dJ2_add_2_1 rfl rfl rfl ?_
  refine gl_alen (q0 := 1) (t0 := 6) X 3 (gl_at rfl) rfl (show Int32.ofNat 10 = 10 by decide) dJ2_add_2_2 rfl ?_
  refine gw_icmp_ne X 11 6 dJ2_add_2_3 rfl rfl (fun _ => ?_) (fun z => absurd z (by decide))
  refine gw_aload_n X 12 2 dJ2_add_2_11 rfl rfl rfl ?_
  refine gw_iload_n X 13 3 dJ2_add_2_12 rfl rfl rfl ?_
  refine gl_aload_nN X 14 1 dJ2_add_2_13 rfl rfl rfl ?_
  refine gl_aastN (q0 := 1) (Ws' := (gw_st [(b, .inr (11, [.int m, .ref e, .int 1])), (e, .inl (D.2 6, 10, .inr (.inr (.inr (.inr (va_up f 1 none))))))] Wr)) X 15 (t0 := 6) (gl_at rfl) rfl (gw_in rfl) (gl_set rfl rfl) dJ2_add_2_14 rfl ?_
  refine gw_aload_n X 16 0 dJ2_add_2_15 rfl rfl rfl ?_
  refine gw_iload_n X 17 3 dJ2_add_2_16 rfl rfl rfl ?_
  refine gw_iconst X 18 dJ2_add_2_17 rfl gw_ci_1 ?_
  refine gw_iadd X 19 dJ2_add_2_18 rfl ?_
  refine gl_topi (show (1 : Int32) + (1 : Int32) = (2 : Int32) by decide) ?_
  refine gl_put (q0 := 0) (fs := [.int m, .ref e, .int 1]) (Ws' := (gw_st [(b, .inr (11, [.int m, .ref e, .int 2])), (e, .inl (D.2 6, 10, .inr (.inr (.inr (.inr (va_up f 1 none))))))] Wr)) (ty := tyJ2 2) X 22 tyJ2 tyJ2_ok nmJ2 in_J2 gl_cl11 (gl_at rfl) 2 (by decide) q255 rfl rfl (tyJ2_ok 2 (by decide)) rfl rfl (Nat.le_of_ble_eq_true rfl) (gl_set rfl rfl) dJ2_add_2_19 rfl ?_
  exact gw_vret X dJ2_add_2_22 (fun _ h => ⟨rfl, h⟩) (Nat.le_of_ble_eq_true rfl) (Nat.le_of_ble_eq_true rfl)
abbrev rml_J2_add_1_null : Room := { frames := 1, cells := 0, slots := 0, locals := 23 }
set_option maxHeartbeats 4000000 in
theorem lm_J2_add_1_null {l : Launch} {D : gw_D} {Wr : va_W → Prop} {b : Nat} {m : Int32} {e : Nat} {f : Nat → Option Nat}  : gw_Ct D l yJ2_add cJ2_add 2 (some .boolean) rml_J2_add_1_null [.ref b, .null] (gw_st [(b, .inr (11, [.int m, .ref e, .int 1])), (e, .inl (D.2 6, 10, .inr (.inr (.inr (.inr f)))))] Wr) (gw_pI (gw_b true) (gw_st [(b, .inr (11, [.int (m + (1 : Int32)), .ref e, .int 2])), (e, .inl (D.2 6, 10, .inr (.inr (.inr (.inr (va_up f 1 none))))))] Wr)) := by
  refine gw_ct (own := RJ2) [(0, .ref b), (1, .null)] (by decide) rfl (Nat.le_of_ble_eq_true rfl) rfl ?_
  intro E X
  refine gw_aload_n X 1 0 dJ2_add_0 rfl rfl rfl ?_
  refine gw_dup X 2 dJ2_add_1 rfl rfl ?_
  refine gl_getI (q0 := 0) (fs := [.int m, .ref e, .int 1]) X 5 in_J2 gl_cl11 (gl_at rfl) 0 (by decide) q257 q258 rfl dJ2_add_2 rfl ?_
  refine gw_iconst X 6 dJ2_add_5 rfl gw_ci_1 ?_
  refine gw_iadd X 7 dJ2_add_6 rfl ?_
  refine gl_putI (q0 := 0) (fs := [.int m, .ref e, .int 1]) (Ws' := (gw_st [(b, .inr (11, [.int (m + (1 : Int32)), .ref e, .int 1])), (e, .inl (D.2 6, 10, .inr (.inr (.inr (.inr f)))))] Wr)) (ty := tyJ2 0) X 10 tyJ2 tyJ2_ok nmJ2 in_J2 gl_cl11 (gl_at rfl) 0 (by decide) q257 q258 rfl (tyJ2_ok 0 (by decide)) rfl rfl (Nat.le_of_ble_eq_true rfl) (gl_set rfl rfl) dJ2_add_7 rfl ?_
  refine gw_aload_n X 11 0 dJ2_add_10 rfl rfl rfl ?_
  refine gl_aload_nN X 12 1 dJ2_add_11 rfl rfl rfl ?_
  refine gw_aload_n X 13 0 dJ2_add_12 rfl rfl rfl ?_
  refine gl_get (q0 := 0) (fs := [.int (m + (1 : Int32)), .ref e, .int 1]) X 16 in_J2 gl_cl11 (gl_at rfl) 1 (by decide) q254 rfl rfl dJ2_add_13 rfl ?_
  refine gw_aload_n X 17 0 dJ2_add_16 rfl rfl rfl ?_
  refine gl_get (q0 := 0) (fs := [.int (m + (1 : Int32)), .ref e, .int 1]) X 20 in_J2 gl_cl11 (gl_at rfl) 2 (by decide) q255 rfl rfl dJ2_add_17 rfl ?_
  refine gl_split (w1 := [(b, .inr (11, [.int (m + (1 : Int32)), .ref e, .int 1])), (e, .inl (D.2 6, 10, .inr (.inr (.inr (.inr f)))))]) (w2 := []) rfl ?_
  refine gw_callVv X 23 [.null, .ref e, .int 1] (lm_J2_add_2_1_null (b := b) (m := m + (1 : Int32)) (e := e) (f := f)) lk_J2_131 ydv_J2_add_2 gl_cl11 (gl_ate (q0 := 0) rfl) rfl rfl rfl dJ2_add_20 rfl rfl rfl ?_
  refine gl_merge (w := [(b, .inr (11, [.int (m + (1 : Int32)), .ref e, .int 2])), (e, .inl (D.2 6, 10, .inr (.inr (.inr (.inr (va_up f 1 none))))))]) rfl ?_
  refine gw_iconst X 24 dJ2_add_23 rfl gw_ci_1 ?_
  exact gw_zret1 X dJ2_add_24 (fun _ h => ⟨rfl, h⟩) (Nat.le_of_ble_eq_true rfl) (Nat.le_of_ble_eq_true rfl)
abbrev rml_J2_add_2_2_null : Room := { frames := 0, cells := 0, slots := 0, locals := 0 }
set_option maxHeartbeats 4000000 in
theorem lm_J2_add_2_2_null {l : Launch} {D : gw_D} {Wr : va_W → Prop} {b : Nat} {m : Int32} {e : Nat} {f : Nat → Option Nat}  : gw_Ct D l yJ2_add_2 cJ2_add_2 4 none rml_J2_add_2_2_null [.ref b, .null, .ref e, .int 2] (gw_st [(b, .inr (11, [.int m, .ref e, .int 2])), (e, .inl (D.2 6, 10, .inr (.inr (.inr (.inr f)))))] Wr) (gw_pV (gw_st [(b, .inr (11, [.int m, .ref e, .int 3])), (e, .inl (D.2 6, 10, .inr (.inr (.inr (.inr (va_up f 2 none))))))] Wr)) := by
  refine gw_ct (own := RJ2) [(0, .ref b), (1, .null), (2, .ref e), (3, .int 2)] (by decide) rfl (Nat.le_of_ble_eq_true rfl) rfl ?_
  intro E X
  refine gw_iload_n X 1 3 dJ2_add_2_0 rfl rfl rfl ?_
  refine gw_aload_n X 2 2 dJ2_add_2_1 rfl rfl rfl ?_
  refine gl_alen (q0 := 1) (t0 := 6) X 3 (gl_at rfl) rfl (show Int32.ofNat 10 = 10 by decide) dJ2_add_2_2 rfl ?_
  refine gw_icmp_ne X 11 6 dJ2_add_2_3 rfl rfl (fun _ => ?_) (fun z => absurd z (by decide))
  refine gw_aload_n X 12 2 dJ2_add_2_11 rfl rfl rfl ?_
  refine gw_iload_n X 13 3 dJ2_add_2_12 rfl rfl rfl ?_
  refine gl_aload_nN X 14 1 dJ2_add_2_13 rfl rfl rfl ?_
  refine gl_aastN (q0 := 1) (Ws' := (gw_st [(b, .inr (11, [.int m, .ref e, .int 2])), (e, .inl (D.2 6, 10, .inr (.inr (.inr (.inr (va_up f 2 none))))))] Wr)) X 15 (t0 := 6) (gl_at rfl) rfl (gw_in rfl) (gl_set rfl rfl) dJ2_add_2_14 rfl ?_
  refine gw_aload_n X 16 0 dJ2_add_2_15 rfl rfl rfl ?_
  refine gw_iload_n X 17 3 dJ2_add_2_16 rfl rfl rfl ?_
  refine gw_iconst X 18 dJ2_add_2_17 rfl gw_ci_1 ?_
  refine gw_iadd X 19 dJ2_add_2_18 rfl ?_
  refine gl_topi (show (2 : Int32) + (1 : Int32) = (3 : Int32) by decide) ?_
  refine gl_put (q0 := 0) (fs := [.int m, .ref e, .int 2]) (Ws' := (gw_st [(b, .inr (11, [.int m, .ref e, .int 3])), (e, .inl (D.2 6, 10, .inr (.inr (.inr (.inr (va_up f 2 none))))))] Wr)) (ty := tyJ2 2) X 22 tyJ2 tyJ2_ok nmJ2 in_J2 gl_cl11 (gl_at rfl) 2 (by decide) q255 rfl rfl (tyJ2_ok 2 (by decide)) rfl rfl (Nat.le_of_ble_eq_true rfl) (gl_set rfl rfl) dJ2_add_2_19 rfl ?_
  exact gw_vret X dJ2_add_2_22 (fun _ h => ⟨rfl, h⟩) (Nat.le_of_ble_eq_true rfl) (Nat.le_of_ble_eq_true rfl)
abbrev rml_J2_add_2_null : Room := { frames := 1, cells := 0, slots := 0, locals := 23 }
set_option maxHeartbeats 4000000 in
theorem lm_J2_add_2_null {l : Launch} {D : gw_D} {Wr : va_W → Prop} {b : Nat} {m : Int32} {e : Nat} {f : Nat → Option Nat}  : gw_Ct D l yJ2_add cJ2_add 2 (some .boolean) rml_J2_add_2_null [.ref b, .null] (gw_st [(b, .inr (11, [.int m, .ref e, .int 2])), (e, .inl (D.2 6, 10, .inr (.inr (.inr (.inr f)))))] Wr) (gw_pI (gw_b true) (gw_st [(b, .inr (11, [.int (m + (1 : Int32)), .ref e, .int 3])), (e, .inl (D.2 6, 10, .inr (.inr (.inr (.inr (va_up f 2 none))))))] Wr)) := by
  refine gw_ct (own := RJ2) [(0, .ref b), (1, .null)] (by decide) rfl (Nat.le_of_ble_eq_true rfl) rfl ?_
  intro E X
  refine gw_aload_n X 1 0 dJ2_add_0 rfl rfl rfl ?_
  refine gw_dup X 2 dJ2_add_1 rfl rfl ?_
  refine gl_getI (q0 := 0) (fs := [.int m, .ref e, .int 2]) X 5 in_J2 gl_cl11 (gl_at rfl) 0 (by decide) q257 q258 rfl dJ2_add_2 rfl ?_
  refine gw_iconst X 6 dJ2_add_5 rfl gw_ci_1 ?_
  refine gw_iadd X 7 dJ2_add_6 rfl ?_
  refine gl_putI (q0 := 0) (fs := [.int m, .ref e, .int 2]) (Ws' := (gw_st [(b, .inr (11, [.int (m + (1 : Int32)), .ref e, .int 2])), (e, .inl (D.2 6, 10, .inr (.inr (.inr (.inr f)))))] Wr)) (ty := tyJ2 0) X 10 tyJ2 tyJ2_ok nmJ2 in_J2 gl_cl11 (gl_at rfl) 0 (by decide) q257 q258 rfl (tyJ2_ok 0 (by decide)) rfl rfl (Nat.le_of_ble_eq_true rfl) (gl_set rfl rfl) dJ2_add_7 rfl ?_
  refine gw_aload_n X 11 0 dJ2_add_10 rfl rfl rfl ?_
  refine gl_aload_nN X 12 1 dJ2_add_11 rfl rfl rfl ?_
  refine gw_aload_n X 13 0 dJ2_add_12 rfl rfl rfl ?_
  refine gl_get (q0 := 0) (fs := [.int (m + (1 : Int32)), .ref e, .int 2]) X 16 in_J2 gl_cl11 (gl_at rfl) 1 (by decide) q254 rfl rfl dJ2_add_13 rfl ?_
  refine gw_aload_n X 17 0 dJ2_add_16 rfl rfl rfl ?_
  refine gl_get (q0 := 0) (fs := [.int (m + (1 : Int32)), .ref e, .int 2]) X 20 in_J2 gl_cl11 (gl_at rfl) 2 (by decide) q255 rfl rfl dJ2_add_17 rfl ?_
  refine gl_split (w1 := [(b, .inr (11, [.int (m + (1 : Int32)), .ref e, .int 2])), (e, .inl (D.2 6, 10, .inr (.inr (.inr (.inr f)))))]) (w2 := []) rfl ?_
  refine gw_callVv X 23 [.null, .ref e, .int 2] (lm_J2_add_2_2_null (b := b) (m := m + (1 : Int32)) (e := e) (f := f)) lk_J2_131 ydv_J2_add_2 gl_cl11 (gl_ate (q0 := 0) rfl) rfl rfl rfl dJ2_add_20 rfl rfl rfl ?_
  refine gl_merge (w := [(b, .inr (11, [.int (m + (1 : Int32)), .ref e, .int 3])), (e, .inl (D.2 6, 10, .inr (.inr (.inr (.inr (va_up f 2 none))))))]) rfl ?_
  refine gw_iconst X 24 dJ2_add_23 rfl gw_ci_1 ?_
  exact gw_zret1 X dJ2_add_24 (fun _ h => ⟨rfl, h⟩) (Nat.le_of_ble_eq_true rfl) (Nat.le_of_ble_eq_true rfl)
abbrev rml_J6_checkIndex : Room := { frames := 0, cells := 0, slots := 0, locals := 0 }
set_option maxHeartbeats 4000000 in
theorem lm_J6_checkIndex {l : Launch} {D : gw_D} {Wr : va_W → Prop} {i n : Int32} (h0 : ¬ i < 0) (h1 : i < n) : gw_Ct D l yJ6_checkIndex cJ6_checkIndex 3 (some .int) rml_J6_checkIndex [.int i, .int n, .null] (gw_st [] Wr) (gw_pI i (gw_st [] Wr)) := by
  refine gw_ct (own := RJ6) [(0, .int i), (1, .int n), (2, .null)] (by decide) rfl (Nat.le_of_ble_eq_true rfl) rfl ?_
  intro E X
  refine gw_iload_n X 1 0 dJ6_checkIndex_0 rfl rfl rfl ?_
  refine gw_if_lt X 9 4 dJ6_checkIndex_1 rfl rfl (fun z => absurd z h0) (fun _ => ?_)
  refine gw_iload_n X 5 0 dJ6_checkIndex_4 rfl rfl rfl ?_
  refine gw_iload_n X 6 1 dJ6_checkIndex_5 rfl rfl rfl ?_
  refine gw_icmp_lt X 16 9 dJ6_checkIndex_6 rfl rfl (fun _ => ?_) (fun z => absurd h1 z)
  refine gw_iload_n X 17 0 dJ6_checkIndex_16 rfl rfl rfl ?_
  exact gw_iret X dJ6_checkIndex_17 (fun _ h => ⟨rfl, h⟩) (Nat.le_of_ble_eq_true rfl) (Nat.le_of_ble_eq_true rfl)
abbrev rml_J12_checkIndex : Room := { frames := 1, cells := 0, slots := 0, locals := 22 }
set_option maxHeartbeats 4000000 in
theorem lm_J12_checkIndex {l : Launch} {D : gw_D} {Wr : va_W → Prop} {i n : Int32} (h0 : ¬ i < 0) (h1 : i < n) : gw_Ct D l yJ12_checkIndex cJ12_checkIndex 2 (some .int) rml_J12_checkIndex [.int i, .int n] (gw_st [] Wr) (gw_pI i (gw_st [] Wr)) := by
  refine gw_ct (own := RJ12) [(0, .int i), (1, .int n)] (by decide) rfl (Nat.le_of_ble_eq_true rfl) rfl ?_
  intro E X
  refine gw_iload_n X 1 0 dJ12_checkIndex_0 rfl rfl rfl ?_
  refine gw_iload_n X 2 1 dJ12_checkIndex_1 rfl rfl rfl ?_
  refine gw_null X 3 dJ12_checkIndex_2 rfl ?_
  refine gl_split (w1 := []) (w2 := []) rfl ?_
  refine gw_callSi X 6 [.int i, .int n, .null] (lm_J6_checkIndex (i := i) (n := n) h0 h1) lk_J12_105 yd_J6_checkIndex rfl rfl rfl dJ12_checkIndex_3 rfl rfl rfl ?_
  refine gl_merge (w := []) rfl ?_
  exact gw_iret X dJ12_checkIndex_6 (fun _ h => ⟨rfl, h⟩) (Nat.le_of_ble_eq_true rfl) (Nat.le_of_ble_eq_true rfl)
abbrev rml_J2_elementData5 : Room := { frames := 0, cells := 0, slots := 0, locals := 0 }
set_option maxHeartbeats 4000000 in
theorem lm_J2_elementData5 {l : Launch} {D : gw_D} {Wr : va_W → Prop} {b e : Nat} {m : Int32} {f : Nat → Option Nat} {i : Int32} {x : Nat} (hin : vp_in i 10) (hx : f (Int32.toNatClampNeg i) = some x) : gw_Ct D l yJ2_elementData cJ2_elementData 2 (some (.object "java/lang/Object")) rml_J2_elementData5 [.ref b, .int i] (gw_st [(b, .inr (11, [.int m, .ref e, .int 5])), (e, .inl (D.2 6, 10, .inr (.inr (.inr (.inr f)))))] Wr) (fun v u => v = some (.ref x) ∧ (gw_st [(b, .inr (11, [.int m, .ref e, .int 5])), (e, .inl (D.2 6, 10, .inr (.inr (.inr (.inr f)))))] Wr) u) := by
  refine gw_ct (own := RJ2) [(0, .ref b), (1, .int i)] (by decide) rfl (Nat.le_of_ble_eq_true rfl) rfl ?_
  intro E X
  refine gw_aload_n X 1 0 dJ2_elementData_0 rfl rfl rfl ?_
  refine gl_get (q0 := 0) (fs := [.int m, .ref e, .int 5]) X 4 in_J2 gl_cl11 (gl_at rfl) 1 (by decide) q254 rfl rfl dJ2_elementData_1 rfl ?_
  refine gw_iload_n X 5 1 dJ2_elementData_4 rfl rfl rfl ?_
  refine gl_aald (v := .ref x) (q0 := 1) (t0 := 6) X 6 (gl_at rfl) rfl hin (by rw [hx]; rfl) dJ2_elementData_5 rfl ?_
  exact gw_aret X dJ2_elementData_6 (fun _ h => ⟨rfl, h⟩) (Nat.le_of_ble_eq_true rfl) (Nat.le_of_ble_eq_true rfl)
abbrev rml_J2_get5 : Room := { frames := 2, cells := 0, slots := 0, locals := 43 }
set_option maxHeartbeats 4000000 in
theorem lm_J2_get5 {l : Launch} {D : gw_D} {Wr : va_W → Prop} {b e : Nat} {m : Int32} {f : Nat → Option Nat} {i : Int32} {x : Nat} (h0 : ¬ i < 0) (h1 : i < 5) (hin : vp_in i 10) (hx : f (Int32.toNatClampNeg i) = some x) : gw_Ct D l yJ2_get cJ2_get 2 (some (.object "java/lang/Object")) rml_J2_get5 [.ref b, .int i] (gw_st [(b, .inr (11, [.int m, .ref e, .int 5])), (e, .inl (D.2 6, 10, .inr (.inr (.inr (.inr f)))))] Wr) (fun v u => v = some (.ref x) ∧ (gw_st [(b, .inr (11, [.int m, .ref e, .int 5])), (e, .inl (D.2 6, 10, .inr (.inr (.inr (.inr f)))))] Wr) u) := by
  refine gw_ct (own := RJ2) [(0, .ref b), (1, .int i)] (by decide) rfl (Nat.le_of_ble_eq_true rfl) rfl ?_
  intro E X
  refine gw_iload_n X 1 1 dJ2_get_0 rfl rfl rfl ?_
  refine gw_aload_n X 2 0 dJ2_get_1 rfl rfl rfl ?_
  refine gl_get (q0 := 0) (fs := [.int m, .ref e, .int 5]) X 5 in_J2 gl_cl11 (gl_at rfl) 2 (by decide) q255 rfl rfl dJ2_get_2 rfl ?_
  refine gl_split (w1 := []) (w2 := [(b, .inr (11, [.int m, .ref e, .int 5])), (e, .inl (D.2 6, 10, .inr (.inr (.inr (.inr f)))))]) rfl ?_
  refine gw_callSi X 8 [.int i, .int 5] (lm_J12_checkIndex (i := i) (n := 5) h0 h1) lk_J2_118 yd_J12_checkIndex rfl rfl rfl dJ2_get_5 rfl rfl rfl ?_
  refine gl_merge (w := [(b, .inr (11, [.int m, .ref e, .int 5])), (e, .inl (D.2 6, 10, .inr (.inr (.inr (.inr f)))))]) rfl ?_
  refine gw_pop X 9 dJ2_get_8 rfl rfl ?_
  refine gw_aload_n X 10 0 dJ2_get_9 rfl rfl rfl ?_
  refine gw_iload_n X 11 1 dJ2_get_10 rfl rfl rfl ?_
  refine gl_split (w1 := [(b, .inr (11, [.int m, .ref e, .int 5])), (e, .inl (D.2 6, 10, .inr (.inr (.inr (.inr f)))))]) (w2 := []) rfl ?_
  refine gw_callV X 14 [.int i] (lm_J2_elementData5 (b := b) (e := e) (m := m) (f := f) (i := i) (x := x) hin hx) lk_J2_123 ydv_J2_elementData gl_cl11 (gl_ate (q0 := 0) rfl) rfl rfl rfl dJ2_get_11 rfl ?_
  rintro v u ⟨rfl, hu⟩
  revert u
  show gw_W E 14 _ _ (gw_st [(b, .inr (11, [.int m, .ref e, .int 5])), (e, .inl (D.2 6, 10, .inr (.inr (.inr (.inr f)))))] (gw_st [] Wr)) _ _
  refine gl_merge (w := [(b, .inr (11, [.int m, .ref e, .int 5])), (e, .inl (D.2 6, 10, .inr (.inr (.inr (.inr f)))))]) rfl ?_
  exact gw_aret X dJ2_get_14 (fun _ h => ⟨rfl, h⟩) (Nat.le_of_ble_eq_true rfl) (Nat.le_of_ble_eq_true rfl)
abbrev rml_J2_elementData5n : Room := { frames := 0, cells := 0, slots := 0, locals := 0 }
set_option maxHeartbeats 4000000 in
theorem lm_J2_elementData5n {l : Launch} {D : gw_D} {Wr : va_W → Prop} {b e : Nat} {m : Int32} {f : Nat → Option Nat} {i : Int32} (hin : vp_in i 10) (hx : f (Int32.toNatClampNeg i) = none) : gw_Ct D l yJ2_elementData cJ2_elementData 2 (some (.object "java/lang/Object")) rml_J2_elementData5n [.ref b, .int i] (gw_st [(b, .inr (11, [.int m, .ref e, .int 5])), (e, .inl (D.2 6, 10, .inr (.inr (.inr (.inr f)))))] Wr) (fun v u => v = some (.null) ∧ (gw_st [(b, .inr (11, [.int m, .ref e, .int 5])), (e, .inl (D.2 6, 10, .inr (.inr (.inr (.inr f)))))] Wr) u) := by
  refine gw_ct (own := RJ2) [(0, .ref b), (1, .int i)] (by decide) rfl (Nat.le_of_ble_eq_true rfl) rfl ?_
  intro E X
  refine gw_aload_n X 1 0 dJ2_elementData_0 rfl rfl rfl ?_
  refine gl_get (q0 := 0) (fs := [.int m, .ref e, .int 5]) X 4 in_J2 gl_cl11 (gl_at rfl) 1 (by decide) q254 rfl rfl dJ2_elementData_1 rfl ?_
  refine gw_iload_n X 5 1 dJ2_elementData_4 rfl rfl rfl ?_
  refine gl_aald (v := .null) (q0 := 1) (t0 := 6) X 6 (gl_at rfl) rfl hin (by rw [hx]; rfl) dJ2_elementData_5 rfl ?_
  exact gl_aretN X dJ2_elementData_6 (fun _ h => ⟨rfl, h⟩) (Nat.le_of_ble_eq_true rfl) (Nat.le_of_ble_eq_true rfl)
abbrev rml_J2_get5n : Room := { frames := 2, cells := 0, slots := 0, locals := 43 }
set_option maxHeartbeats 4000000 in
theorem lm_J2_get5n {l : Launch} {D : gw_D} {Wr : va_W → Prop} {b e : Nat} {m : Int32} {f : Nat → Option Nat} {i : Int32} (h0 : ¬ i < 0) (h1 : i < 5) (hin : vp_in i 10) (hx : f (Int32.toNatClampNeg i) = none) : gw_Ct D l yJ2_get cJ2_get 2 (some (.object "java/lang/Object")) rml_J2_get5n [.ref b, .int i] (gw_st [(b, .inr (11, [.int m, .ref e, .int 5])), (e, .inl (D.2 6, 10, .inr (.inr (.inr (.inr f)))))] Wr) (fun v u => v = some (.null) ∧ (gw_st [(b, .inr (11, [.int m, .ref e, .int 5])), (e, .inl (D.2 6, 10, .inr (.inr (.inr (.inr f)))))] Wr) u) := by
  refine gw_ct (own := RJ2) [(0, .ref b), (1, .int i)] (by decide) rfl (Nat.le_of_ble_eq_true rfl) rfl ?_
  intro E X
  refine gw_iload_n X 1 1 dJ2_get_0 rfl rfl rfl ?_
  refine gw_aload_n X 2 0 dJ2_get_1 rfl rfl rfl ?_
  refine gl_get (q0 := 0) (fs := [.int m, .ref e, .int 5]) X 5 in_J2 gl_cl11 (gl_at rfl) 2 (by decide) q255 rfl rfl dJ2_get_2 rfl ?_
  refine gl_split (w1 := []) (w2 := [(b, .inr (11, [.int m, .ref e, .int 5])), (e, .inl (D.2 6, 10, .inr (.inr (.inr (.inr f)))))]) rfl ?_
  refine gw_callSi X 8 [.int i, .int 5] (lm_J12_checkIndex (i := i) (n := 5) h0 h1) lk_J2_118 yd_J12_checkIndex rfl rfl rfl dJ2_get_5 rfl rfl rfl ?_
  refine gl_merge (w := [(b, .inr (11, [.int m, .ref e, .int 5])), (e, .inl (D.2 6, 10, .inr (.inr (.inr (.inr f)))))]) rfl ?_
  refine gw_pop X 9 dJ2_get_8 rfl rfl ?_
  refine gw_aload_n X 10 0 dJ2_get_9 rfl rfl rfl ?_
  refine gw_iload_n X 11 1 dJ2_get_10 rfl rfl rfl ?_
  refine gl_split (w1 := [(b, .inr (11, [.int m, .ref e, .int 5])), (e, .inl (D.2 6, 10, .inr (.inr (.inr (.inr f)))))]) (w2 := []) rfl ?_
  refine gw_callV X 14 [.int i] (lm_J2_elementData5n (b := b) (e := e) (m := m) (f := f) (i := i) hin hx) lk_J2_123 ydv_J2_elementData gl_cl11 (gl_ate (q0 := 0) rfl) rfl rfl rfl dJ2_get_11 rfl ?_
  rintro v u ⟨rfl, hu⟩
  revert u
  show gw_W E 14 _ _ (gw_st [(b, .inr (11, [.int m, .ref e, .int 5])), (e, .inl (D.2 6, 10, .inr (.inr (.inr (.inr f)))))] (gw_st [] Wr)) _ _
  refine gl_merge (w := [(b, .inr (11, [.int m, .ref e, .int 5])), (e, .inl (D.2 6, 10, .inr (.inr (.inr (.inr f)))))]) rfl ?_
  exact gl_aretN X dJ2_get_14 (fun _ h => ⟨rfl, h⟩) (Nat.le_of_ble_eq_true rfl) (Nat.le_of_ble_eq_true rfl)
abbrev rml_J2_elementData3 : Room := { frames := 0, cells := 0, slots := 0, locals := 0 }
set_option maxHeartbeats 4000000 in
theorem lm_J2_elementData3 {l : Launch} {D : gw_D} {Wr : va_W → Prop} {b e : Nat} {m : Int32} {f : Nat → Option Nat} {i : Int32} {x : Nat} (hin : vp_in i 10) (hx : f (Int32.toNatClampNeg i) = some x) : gw_Ct D l yJ2_elementData cJ2_elementData 2 (some (.object "java/lang/Object")) rml_J2_elementData3 [.ref b, .int i] (gw_st [(b, .inr (11, [.int m, .ref e, .int 3])), (e, .inl (D.2 6, 10, .inr (.inr (.inr (.inr f)))))] Wr) (fun v u => v = some (.ref x) ∧ (gw_st [(b, .inr (11, [.int m, .ref e, .int 3])), (e, .inl (D.2 6, 10, .inr (.inr (.inr (.inr f)))))] Wr) u) := by
  refine gw_ct (own := RJ2) [(0, .ref b), (1, .int i)] (by decide) rfl (Nat.le_of_ble_eq_true rfl) rfl ?_
  intro E X
  refine gw_aload_n X 1 0 dJ2_elementData_0 rfl rfl rfl ?_
  refine gl_get (q0 := 0) (fs := [.int m, .ref e, .int 3]) X 4 in_J2 gl_cl11 (gl_at rfl) 1 (by decide) q254 rfl rfl dJ2_elementData_1 rfl ?_
  refine gw_iload_n X 5 1 dJ2_elementData_4 rfl rfl rfl ?_
  refine gl_aald (v := .ref x) (q0 := 1) (t0 := 6) X 6 (gl_at rfl) rfl hin (by rw [hx]; rfl) dJ2_elementData_5 rfl ?_
  exact gw_aret X dJ2_elementData_6 (fun _ h => ⟨rfl, h⟩) (Nat.le_of_ble_eq_true rfl) (Nat.le_of_ble_eq_true rfl)
abbrev rml_J2_get3 : Room := { frames := 2, cells := 0, slots := 0, locals := 43 }
set_option maxHeartbeats 4000000 in
theorem lm_J2_get3 {l : Launch} {D : gw_D} {Wr : va_W → Prop} {b e : Nat} {m : Int32} {f : Nat → Option Nat} {i : Int32} {x : Nat} (h0 : ¬ i < 0) (h1 : i < 3) (hin : vp_in i 10) (hx : f (Int32.toNatClampNeg i) = some x) : gw_Ct D l yJ2_get cJ2_get 2 (some (.object "java/lang/Object")) rml_J2_get3 [.ref b, .int i] (gw_st [(b, .inr (11, [.int m, .ref e, .int 3])), (e, .inl (D.2 6, 10, .inr (.inr (.inr (.inr f)))))] Wr) (fun v u => v = some (.ref x) ∧ (gw_st [(b, .inr (11, [.int m, .ref e, .int 3])), (e, .inl (D.2 6, 10, .inr (.inr (.inr (.inr f)))))] Wr) u) := by
  refine gw_ct (own := RJ2) [(0, .ref b), (1, .int i)] (by decide) rfl (Nat.le_of_ble_eq_true rfl) rfl ?_
  intro E X
  refine gw_iload_n X 1 1 dJ2_get_0 rfl rfl rfl ?_
  refine gw_aload_n X 2 0 dJ2_get_1 rfl rfl rfl ?_
  refine gl_get (q0 := 0) (fs := [.int m, .ref e, .int 3]) X 5 in_J2 gl_cl11 (gl_at rfl) 2 (by decide) q255 rfl rfl dJ2_get_2 rfl ?_
  refine gl_split (w1 := []) (w2 := [(b, .inr (11, [.int m, .ref e, .int 3])), (e, .inl (D.2 6, 10, .inr (.inr (.inr (.inr f)))))]) rfl ?_
  refine gw_callSi X 8 [.int i, .int 3] (lm_J12_checkIndex (i := i) (n := 3) h0 h1) lk_J2_118 yd_J12_checkIndex rfl rfl rfl dJ2_get_5 rfl rfl rfl ?_
  refine gl_merge (w := [(b, .inr (11, [.int m, .ref e, .int 3])), (e, .inl (D.2 6, 10, .inr (.inr (.inr (.inr f)))))]) rfl ?_
  refine gw_pop X 9 dJ2_get_8 rfl rfl ?_
  refine gw_aload_n X 10 0 dJ2_get_9 rfl rfl rfl ?_
  refine gw_iload_n X 11 1 dJ2_get_10 rfl rfl rfl ?_
  refine gl_split (w1 := [(b, .inr (11, [.int m, .ref e, .int 3])), (e, .inl (D.2 6, 10, .inr (.inr (.inr (.inr f)))))]) (w2 := []) rfl ?_
  refine gw_callV X 14 [.int i] (lm_J2_elementData3 (b := b) (e := e) (m := m) (f := f) (i := i) (x := x) hin hx) lk_J2_123 ydv_J2_elementData gl_cl11 (gl_ate (q0 := 0) rfl) rfl rfl rfl dJ2_get_11 rfl ?_
  rintro v u ⟨rfl, hu⟩
  revert u
  show gw_W E 14 _ _ (gw_st [(b, .inr (11, [.int m, .ref e, .int 3])), (e, .inl (D.2 6, 10, .inr (.inr (.inr (.inr f)))))] (gw_st [] Wr)) _ _
  refine gl_merge (w := [(b, .inr (11, [.int m, .ref e, .int 3])), (e, .inl (D.2 6, 10, .inr (.inr (.inr (.inr f)))))]) rfl ?_
  exact gw_aret X dJ2_get_14 (fun _ h => ⟨rfl, h⟩) (Nat.le_of_ble_eq_true rfl) (Nat.le_of_ble_eq_true rfl)
abbrev rml_J2_elementData3n : Room := { frames := 0, cells := 0, slots := 0, locals := 0 }
set_option maxHeartbeats 4000000 in
theorem lm_J2_elementData3n {l : Launch} {D : gw_D} {Wr : va_W → Prop} {b e : Nat} {m : Int32} {f : Nat → Option Nat} {i : Int32} (hin : vp_in i 10) (hx : f (Int32.toNatClampNeg i) = none) : gw_Ct D l yJ2_elementData cJ2_elementData 2 (some (.object "java/lang/Object")) rml_J2_elementData3n [.ref b, .int i] (gw_st [(b, .inr (11, [.int m, .ref e, .int 3])), (e, .inl (D.2 6, 10, .inr (.inr (.inr (.inr f)))))] Wr) (fun v u => v = some (.null) ∧ (gw_st [(b, .inr (11, [.int m, .ref e, .int 3])), (e, .inl (D.2 6, 10, .inr (.inr (.inr (.inr f)))))] Wr) u) := by
  refine gw_ct (own := RJ2) [(0, .ref b), (1, .int i)] (by decide) rfl (Nat.le_of_ble_eq_true rfl) rfl ?_
  intro E X
  refine gw_aload_n X 1 0 dJ2_elementData_0 rfl rfl rfl ?_
  refine gl_get (q0 := 0) (fs := [.int m, .ref e, .int 3]) X 4 in_J2 gl_cl11 (gl_at rfl) 1 (by decide) q254 rfl rfl dJ2_elementData_1 rfl ?_
  refine gw_iload_n X 5 1 dJ2_elementData_4 rfl rfl rfl ?_
  refine gl_aald (v := .null) (q0 := 1) (t0 := 6) X 6 (gl_at rfl) rfl hin (by rw [hx]; rfl) dJ2_elementData_5 rfl ?_
  exact gl_aretN X dJ2_elementData_6 (fun _ h => ⟨rfl, h⟩) (Nat.le_of_ble_eq_true rfl) (Nat.le_of_ble_eq_true rfl)
abbrev rml_J2_get3n : Room := { frames := 2, cells := 0, slots := 0, locals := 43 }
set_option maxHeartbeats 4000000 in
theorem lm_J2_get3n {l : Launch} {D : gw_D} {Wr : va_W → Prop} {b e : Nat} {m : Int32} {f : Nat → Option Nat} {i : Int32} (h0 : ¬ i < 0) (h1 : i < 3) (hin : vp_in i 10) (hx : f (Int32.toNatClampNeg i) = none) : gw_Ct D l yJ2_get cJ2_get 2 (some (.object "java/lang/Object")) rml_J2_get3n [.ref b, .int i] (gw_st [(b, .inr (11, [.int m, .ref e, .int 3])), (e, .inl (D.2 6, 10, .inr (.inr (.inr (.inr f)))))] Wr) (fun v u => v = some (.null) ∧ (gw_st [(b, .inr (11, [.int m, .ref e, .int 3])), (e, .inl (D.2 6, 10, .inr (.inr (.inr (.inr f)))))] Wr) u) := by
  refine gw_ct (own := RJ2) [(0, .ref b), (1, .int i)] (by decide) rfl (Nat.le_of_ble_eq_true rfl) rfl ?_
  intro E X
  refine gw_iload_n X 1 1 dJ2_get_0 rfl rfl rfl ?_
  refine gw_aload_n X 2 0 dJ2_get_1 rfl rfl rfl ?_
  refine gl_get (q0 := 0) (fs := [.int m, .ref e, .int 3]) X 5 in_J2 gl_cl11 (gl_at rfl) 2 (by decide) q255 rfl rfl dJ2_get_2 rfl ?_
  refine gl_split (w1 := []) (w2 := [(b, .inr (11, [.int m, .ref e, .int 3])), (e, .inl (D.2 6, 10, .inr (.inr (.inr (.inr f)))))]) rfl ?_
  refine gw_callSi X 8 [.int i, .int 3] (lm_J12_checkIndex (i := i) (n := 3) h0 h1) lk_J2_118 yd_J12_checkIndex rfl rfl rfl dJ2_get_5 rfl rfl rfl ?_
  refine gl_merge (w := [(b, .inr (11, [.int m, .ref e, .int 3])), (e, .inl (D.2 6, 10, .inr (.inr (.inr (.inr f)))))]) rfl ?_
  refine gw_pop X 9 dJ2_get_8 rfl rfl ?_
  refine gw_aload_n X 10 0 dJ2_get_9 rfl rfl rfl ?_
  refine gw_iload_n X 11 1 dJ2_get_10 rfl rfl rfl ?_
  refine gl_split (w1 := [(b, .inr (11, [.int m, .ref e, .int 3])), (e, .inl (D.2 6, 10, .inr (.inr (.inr (.inr f)))))]) (w2 := []) rfl ?_
  refine gw_callV X 14 [.int i] (lm_J2_elementData3n (b := b) (e := e) (m := m) (f := f) (i := i) hin hx) lk_J2_123 ydv_J2_elementData gl_cl11 (gl_ate (q0 := 0) rfl) rfl rfl rfl dJ2_get_11 rfl ?_
  rintro v u ⟨rfl, hu⟩
  revert u
  show gw_W E 14 _ _ (gw_st [(b, .inr (11, [.int m, .ref e, .int 3])), (e, .inl (D.2 6, 10, .inr (.inr (.inr (.inr f)))))] (gw_st [] Wr)) _ _
  refine gl_merge (w := [(b, .inr (11, [.int m, .ref e, .int 3])), (e, .inl (D.2 6, 10, .inr (.inr (.inr (.inr f)))))]) rfl ?_
  exact gl_aretN X dJ2_get_14 (fun _ h => ⟨rfl, h⟩) (Nat.le_of_ble_eq_true rfl) (Nat.le_of_ble_eq_true rfl)
abbrev rml_J2_size : Room := { frames := 0, cells := 0, slots := 0, locals := 0 }
set_option maxHeartbeats 4000000 in
theorem lm_J2_size {l : Launch} {D : gw_D} {Wr : va_W → Prop} {b e : Nat} {m c : Int32}  : gw_Ct D l yJ2_size cJ2_size 1 (some .int) rml_J2_size [.ref b] (gw_st [(b, .inr (11, [.int m, .ref e, .int c]))] Wr) (gw_pI c (gw_st [(b, .inr (11, [.int m, .ref e, .int c]))] Wr)) := by
  refine gw_ct (own := RJ2) [(0, .ref b)] (by decide) rfl (Nat.le_of_ble_eq_true rfl) rfl ?_
  intro E X
  refine gw_aload_n X 1 0 dJ2_size_0 rfl rfl rfl ?_
  refine gl_get (q0 := 0) (fs := [.int m, .ref e, .int c]) X 4 in_J2 gl_cl11 (gl_at rfl) 2 (by decide) q255 rfl rfl dJ2_size_1 rfl ?_
  exact gw_iret X dJ2_size_4 (fun _ h => ⟨rfl, h⟩) (Nat.le_of_ble_eq_true rfl) (Nat.le_of_ble_eq_true rfl)
abbrev rml_X6_init : Room := { frames := 1, cells := 0, slots := 0, locals := 20 }
set_option maxHeartbeats 4000000 in
theorem lm_X6_init {l : Launch} {D : gw_D} {Wr : va_W → Prop} {b : Nat}  : gw_Ct D l yX6_init cX6_init 1 none rml_X6_init [.ref b] (gw_st [] Wr) (gw_pV (gw_st [] Wr)) := by
  refine gw_ctI (own := RX6) [(0, .ref b)] (by decide) rfl rfl (Nat.le_of_ble_eq_true rfl) rfl ?_
  intro E X hI
  refine gw_aload_n X 1 0 dX6_init_0 rfl rfl rfl ?_
  refine gl_objInit X 4 q674 q177 q178 rfl rfl dX6_init_1 rfl ?_
  exact gw_vret X dX6_init_4 (fun _ h => ⟨rfl, h⟩) (Nat.le_of_ble_eq_true rfl) (Nat.le_of_ble_eq_true rfl)
abbrev rml_X7_init : Room := { frames := 2, cells := 0, slots := 0, locals := 40 }
set_option maxHeartbeats 4000000 in
theorem lm_X7_init {l : Launch} {D : gw_D} {Wr : va_W → Prop} {b h : Nat}  : gw_Ct D l yX7_init cX7_init 2 none rml_X7_init [.ref b, .ref h] (gw_st [(b, .inr (6, [.null]))] Wr) (gw_pV (gw_st [(b, .inr (6, [.ref h]))] Wr)) := by
  refine gw_ctI (own := RX7) [(0, .ref b), (1, .ref h)] (by decide) rfl rfl (Nat.le_of_ble_eq_true rfl) rfl ?_
  intro E X hI
  refine gw_aload_n X 1 0 dX7_init_0 rfl rfl rfl ?_
  refine gw_aload_n X 2 1 dX7_init_1 rfl rfl rfl ?_
  refine gl_putF (q0 := 0) (fs := [.null]) (Ws' := (gw_st [(b, .inr (6, [.ref h]))] Wr)) (ty := tyX7 0) hI X 5 tyX7 tyX7_ok nmX7 in_X7 gl_cl6 (gl_at rfl) 0 (by decide) q675 rfl rfl rfl (tyX7_ok 0 (by decide)) rfl rfl (Nat.le_of_ble_eq_true rfl) (gl_set rfl rfl) dX7_init_2 rfl ?_
  refine gw_aload_n X 6 0 dX7_init_5 rfl rfl rfl ?_
  refine gl_split (w1 := []) (w2 := [(b, .inr (6, [.ref h]))]) rfl ?_
  refine gl_callINv X 9 [] (lm_X6_init (b := b)) q671 (lw_meth q673) q672 q155 rfl yd_X6_init rfl rfl rfl dX7_init_6 rfl rfl rfl ?_
  refine gl_merge (w := [(b, .inr (6, [.ref h]))]) rfl ?_
  exact gw_vret X dX7_init_9 (fun _ h => ⟨rfl, h⟩) (Nat.le_of_ble_eq_true rfl) (Nat.le_of_ble_eq_true rfl)
abbrev rml_X9_init : Room := { frames := 2, cells := 0, slots := 0, locals := 40 }
set_option maxHeartbeats 4000000 in
theorem lm_X9_init {l : Launch} {D : gw_D} {Wr : va_W → Prop} {b h : Nat}  : gw_Ct D l yX9_init cX9_init 2 none rml_X9_init [.ref b, .ref h] (gw_st [(b, .inr (8, [.null]))] Wr) (gw_pV (gw_st [(b, .inr (8, [.ref h]))] Wr)) := by
  refine gw_ctI (own := RX9) [(0, .ref b), (1, .ref h)] (by decide) rfl rfl (Nat.le_of_ble_eq_true rfl) rfl ?_
  intro E X hI
  refine gw_aload_n X 1 0 dX9_init_0 rfl rfl rfl ?_
  refine gw_aload_n X 2 1 dX9_init_1 rfl rfl rfl ?_
  refine gl_putF (q0 := 0) (fs := [.null]) (Ws' := (gw_st [(b, .inr (8, [.ref h]))] Wr)) (ty := tyX9 0) hI X 5 tyX9 tyX9_ok nmX9 in_X9 gl_cl8 (gl_at rfl) 0 (by decide) q756 rfl rfl rfl (tyX9_ok 0 (by decide)) rfl rfl (Nat.le_of_ble_eq_true rfl) (gl_set rfl rfl) dX9_init_2 rfl ?_
  refine gw_aload_n X 6 0 dX9_init_5 rfl rfl rfl ?_
  refine gl_split (w1 := []) (w2 := [(b, .inr (8, [.ref h]))]) rfl ?_
  refine gl_callINv X 9 [] (lm_X6_init (b := b)) q755 (lw_meth q673) q672 q155 rfl yd_X6_init rfl rfl rfl dX9_init_6 rfl rfl rfl ?_
  refine gl_merge (w := [(b, .inr (8, [.ref h]))]) rfl ?_
  exact gw_vret X dX9_init_9 (fun _ h => ⟨rfl, h⟩) (Nat.le_of_ble_eq_true rfl) (Nat.le_of_ble_eq_true rfl)
abbrev rml_X10_init : Room := { frames := 2, cells := 0, slots := 0, locals := 40 }
set_option maxHeartbeats 4000000 in
theorem lm_X10_init {l : Launch} {D : gw_D} {Wr : va_W → Prop} {b h : Nat}  : gw_Ct D l yX10_init cX10_init 2 none rml_X10_init [.ref b, .ref h] (gw_st [(b, .inr (9, [.null]))] Wr) (gw_pV (gw_st [(b, .inr (9, [.ref h]))] Wr)) := by
  refine gw_ctI (own := RX10) [(0, .ref b), (1, .ref h)] (by decide) rfl rfl (Nat.le_of_ble_eq_true rfl) rfl ?_
  intro E X hI
  refine gw_aload_n X 1 0 dX10_init_0 rfl rfl rfl ?_
  refine gw_aload_n X 2 1 dX10_init_1 rfl rfl rfl ?_
  refine gl_putF (q0 := 0) (fs := [.null]) (Ws' := (gw_st [(b, .inr (9, [.ref h]))] Wr)) (ty := tyX10 0) hI X 5 tyX10 tyX10_ok nmX10 in_X10 gl_cl9 (gl_at rfl) 0 (by decide) q766 rfl rfl rfl (tyX10_ok 0 (by decide)) rfl rfl (Nat.le_of_ble_eq_true rfl) (gl_set rfl rfl) dX10_init_2 rfl ?_
  refine gw_aload_n X 6 0 dX10_init_5 rfl rfl rfl ?_
  refine gl_split (w1 := []) (w2 := [(b, .inr (9, [.ref h]))]) rfl ?_
  refine gl_callINv X 9 [] (lm_X6_init (b := b)) q765 (lw_meth q673) q672 q155 rfl yd_X6_init rfl rfl rfl dX10_init_6 rfl rfl rfl ?_
  refine gl_merge (w := [(b, .inr (9, [.ref h]))]) rfl ?_
  exact gw_vret X dX10_init_9 (fun _ h => ⟨rfl, h⟩) (Nat.le_of_ble_eq_true rfl) (Nat.le_of_ble_eq_true rfl)
abbrev rml_X11_init : Room := { frames := 2, cells := 0, slots := 0, locals := 40 }
set_option maxHeartbeats 4000000 in
theorem lm_X11_init {l : Launch} {D : gw_D} {Wr : va_W → Prop} {b h : Nat}  : gw_Ct D l yX11_init cX11_init 2 none rml_X11_init [.ref b, .ref h] (gw_st [(b, .inr (10, [.null]))] Wr) (gw_pV (gw_st [(b, .inr (10, [.ref h]))] Wr)) := by
  refine gw_ctI (own := RX11) [(0, .ref b), (1, .ref h)] (by decide) rfl rfl (Nat.le_of_ble_eq_true rfl) rfl ?_
  intro E X hI
  refine gw_aload_n X 1 0 dX11_init_0 rfl rfl rfl ?_
  refine gw_aload_n X 2 1 dX11_init_1 rfl rfl rfl ?_
  refine gl_putF (q0 := 0) (fs := [.null]) (Ws' := (gw_st [(b, .inr (10, [.ref h]))] Wr)) (ty := tyX11 0) hI X 5 tyX11 tyX11_ok nmX11 in_X11 gl_cl10 (gl_at rfl) 0 (by decide) q776 rfl rfl rfl (tyX11_ok 0 (by decide)) rfl rfl (Nat.le_of_ble_eq_true rfl) (gl_set rfl rfl) dX11_init_2 rfl ?_
  refine gw_aload_n X 6 0 dX11_init_5 rfl rfl rfl ?_
  refine gl_split (w1 := []) (w2 := [(b, .inr (10, [.ref h]))]) rfl ?_
  refine gl_callINv X 9 [] (lm_X6_init (b := b)) q775 (lw_meth q673) q672 q155 rfl yd_X6_init rfl rfl rfl dX11_init_6 rfl rfl rfl ?_
  refine gl_merge (w := [(b, .inr (10, [.ref h]))]) rfl ?_
  exact gw_vret X dX11_init_9 (fun _ h => ⟨rfl, h⟩) (Nat.le_of_ble_eq_true rfl) (Nat.le_of_ble_eq_true rfl)
abbrev rml_X1_init : Room := { frames := 1, cells := 5, slots := 72, locals := 20 }
set_option maxHeartbeats 4000000 in
theorem lm_X1_init {l : Launch} {D : gw_D} {Wr : va_W → Prop} {b : Nat}  : gw_Ct D l yX1_init cX1_init 1 none rml_X1_init [.ref b] (gw_st [(b, .inr (1, [.int 0, .int 0, .int 0, .int 0, .int 0, .int 0, .null, .null, .null, .null, .null]))] Wr) (fun v u => ∃ q1 q2 q3 q4 q5, v = none ∧ (gw_st [(q5, .inl (D.2 0, 40, .inl (fun _ => 0))), (q4, .inl (D.2 0, 8, .inl (fun _ => 0))), (q3, .inl (D.2 0, 8, .inl (fun _ => 0))), (q2, .inl (D.2 0, 8, .inl (fun _ => 0))), (q1, .inl (D.2 0, 8, .inl (fun _ => 0))), (b, .inr (1, [.int 0, .int 0, .int 0, .int 0, .int 0, .int 0, .ref q1, .ref q2, .ref q3, .ref q4, .ref q5]))] Wr) u) := by
  refine gw_ctI (own := RX1) [(0, .ref b)] (by decide) rfl rfl (Nat.le_of_ble_eq_true rfl) rfl ?_
  intro E X hI
  refine gw_aload_n X 1 0 dX1_init_0 rfl rfl rfl ?_
  refine gl_objInit X 4 q184 q177 q178 rfl rfl dX1_init_1 rfl ?_
  refine gw_aload_n X 5 0 dX1_init_4 rfl rfl rfl ?_
  refine gw_bipush X 7 dX1_init_5 rfl gw_cb_8 ?_
  refine gl_newa (atype := .int) (a0 := (8, .inl (fun _ => 0))) X 9 .int 0 q239 rfl rfl (fun _ _ h => h) (fun _ => rfl) (by decide) rfl (Nat.le_of_ble_eq_true rfl) (Nat.le_of_ble_eq_true rfl) (Nat.le_of_ble_eq_true rfl) dX1_init_7 rfl rfl rfl (fun q1 => ?_)
  refine gl_merge (w := [(q1, .inl (D.2 0, 8, .inl (fun _ => 0))), (b, .inr (1, [.int 0, .int 0, .int 0, .int 0, .int 0, .int 0, .null, .null, .null, .null, .null]))]) rfl ?_
  refine gl_putF (q0 := 1) (fs := [.int 0, .int 0, .int 0, .int 0, .int 0, .int 0, .null, .null, .null, .null, .null]) (Ws' := (gw_st [(q1, .inl (D.2 0, 8, .inl (fun _ => 0))), (b, .inr (1, [.int 0, .int 0, .int 0, .int 0, .int 0, .int 0, .ref q1, .null, .null, .null, .null]))] Wr)) (ty := tyX1 6) hI X 12 tyX1 tyX1_ok nmX1 in_X1 gl_cl1 (gl_at rfl) 6 (by decide) q202 rfl rfl rfl (tyX1_ok 6 (by decide)) rfl rfl (Nat.le_of_ble_eq_true rfl) (gl_set rfl rfl) dX1_init_9 rfl ?_
  refine gw_aload_n X 13 0 dX1_init_12 rfl rfl rfl ?_
  refine gw_bipush X 15 dX1_init_13 rfl gw_cb_8 ?_
  refine gl_newa (atype := .int) (a0 := (8, .inl (fun _ => 0))) X 17 .int 0 q239 rfl rfl (fun _ _ h => h) (fun _ => rfl) (by decide) rfl (Nat.le_of_ble_eq_true rfl) (Nat.le_of_ble_eq_true rfl) (Nat.le_of_ble_eq_true rfl) dX1_init_15 rfl rfl rfl (fun q2 => ?_)
  refine gl_merge (w := [(q2, .inl (D.2 0, 8, .inl (fun _ => 0))), (q1, .inl (D.2 0, 8, .inl (fun _ => 0))), (b, .inr (1, [.int 0, .int 0, .int 0, .int 0, .int 0, .int 0, .ref q1, .null, .null, .null, .null]))]) rfl ?_
  refine gl_putF (q0 := 2) (fs := [.int 0, .int 0, .int 0, .int 0, .int 0, .int 0, .ref q1, .null, .null, .null, .null]) (Ws' := (gw_st [(q2, .inl (D.2 0, 8, .inl (fun _ => 0))), (q1, .inl (D.2 0, 8, .inl (fun _ => 0))), (b, .inr (1, [.int 0, .int 0, .int 0, .int 0, .int 0, .int 0, .ref q1, .ref q2, .null, .null, .null]))] Wr)) (ty := tyX1 7) hI X 20 tyX1 tyX1_ok nmX1 in_X1 gl_cl1 (gl_at rfl) 7 (by decide) q205 rfl rfl rfl (tyX1_ok 7 (by decide)) rfl rfl (Nat.le_of_ble_eq_true rfl) (gl_set rfl rfl) dX1_init_17 rfl ?_
  refine gw_aload_n X 21 0 dX1_init_20 rfl rfl rfl ?_
  refine gw_bipush X 23 dX1_init_21 rfl gw_cb_8 ?_
  refine gl_newa (atype := .int) (a0 := (8, .inl (fun _ => 0))) X 25 .int 0 q239 rfl rfl (fun _ _ h => h) (fun _ => rfl) (by decide) rfl (Nat.le_of_ble_eq_true rfl) (Nat.le_of_ble_eq_true rfl) (Nat.le_of_ble_eq_true rfl) dX1_init_23 rfl rfl rfl (fun q3 => ?_)
  refine gl_merge (w := [(q3, .inl (D.2 0, 8, .inl (fun _ => 0))), (q2, .inl (D.2 0, 8, .inl (fun _ => 0))), (q1, .inl (D.2 0, 8, .inl (fun _ => 0))), (b, .inr (1, [.int 0, .int 0, .int 0, .int 0, .int 0, .int 0, .ref q1, .ref q2, .null, .null, .null]))]) rfl ?_
  refine gl_putF (q0 := 3) (fs := [.int 0, .int 0, .int 0, .int 0, .int 0, .int 0, .ref q1, .ref q2, .null, .null, .null]) (Ws' := (gw_st [(q3, .inl (D.2 0, 8, .inl (fun _ => 0))), (q2, .inl (D.2 0, 8, .inl (fun _ => 0))), (q1, .inl (D.2 0, 8, .inl (fun _ => 0))), (b, .inr (1, [.int 0, .int 0, .int 0, .int 0, .int 0, .int 0, .ref q1, .ref q2, .ref q3, .null, .null]))] Wr)) (ty := tyX1 8) hI X 28 tyX1 tyX1_ok nmX1 in_X1 gl_cl1 (gl_at rfl) 8 (by decide) q208 rfl rfl rfl (tyX1_ok 8 (by decide)) rfl rfl (Nat.le_of_ble_eq_true rfl) (gl_set rfl rfl) dX1_init_25 rfl ?_
  refine gw_aload_n X 29 0 dX1_init_28 rfl rfl rfl ?_
  refine gw_bipush X 31 dX1_init_29 rfl gw_cb_8 ?_
  refine gl_newa (atype := .int) (a0 := (8, .inl (fun _ => 0))) X 33 .int 0 q239 rfl rfl (fun _ _ h => h) (fun _ => rfl) (by decide) rfl (Nat.le_of_ble_eq_true rfl) (Nat.le_of_ble_eq_true rfl) (Nat.le_of_ble_eq_true rfl) dX1_init_31 rfl rfl rfl (fun q4 => ?_)
  refine gl_merge (w := [(q4, .inl (D.2 0, 8, .inl (fun _ => 0))), (q3, .inl (D.2 0, 8, .inl (fun _ => 0))), (q2, .inl (D.2 0, 8, .inl (fun _ => 0))), (q1, .inl (D.2 0, 8, .inl (fun _ => 0))), (b, .inr (1, [.int 0, .int 0, .int 0, .int 0, .int 0, .int 0, .ref q1, .ref q2, .ref q3, .null, .null]))]) rfl ?_
  refine gl_putF (q0 := 4) (fs := [.int 0, .int 0, .int 0, .int 0, .int 0, .int 0, .ref q1, .ref q2, .ref q3, .null, .null]) (Ws' := (gw_st [(q4, .inl (D.2 0, 8, .inl (fun _ => 0))), (q3, .inl (D.2 0, 8, .inl (fun _ => 0))), (q2, .inl (D.2 0, 8, .inl (fun _ => 0))), (q1, .inl (D.2 0, 8, .inl (fun _ => 0))), (b, .inr (1, [.int 0, .int 0, .int 0, .int 0, .int 0, .int 0, .ref q1, .ref q2, .ref q3, .ref q4, .null]))] Wr)) (ty := tyX1 9) hI X 36 tyX1 tyX1_ok nmX1 in_X1 gl_cl1 (gl_at rfl) 9 (by decide) q211 rfl rfl rfl (tyX1_ok 9 (by decide)) rfl rfl (Nat.le_of_ble_eq_true rfl) (gl_set rfl rfl) dX1_init_33 rfl ?_
  refine gw_aload_n X 37 0 dX1_init_36 rfl rfl rfl ?_
  refine gw_bipush X 39 dX1_init_37 rfl gw_cb_40 ?_
  refine gl_newa (atype := .int) (a0 := (40, .inl (fun _ => 0))) X 41 .int 0 q239 rfl rfl (fun _ _ h => h) (fun _ => rfl) (by decide) rfl (Nat.le_of_ble_eq_true rfl) (Nat.le_of_ble_eq_true rfl) (Nat.le_of_ble_eq_true rfl) dX1_init_39 rfl rfl rfl (fun q5 => ?_)
  refine gl_merge (w := [(q5, .inl (D.2 0, 40, .inl (fun _ => 0))), (q4, .inl (D.2 0, 8, .inl (fun _ => 0))), (q3, .inl (D.2 0, 8, .inl (fun _ => 0))), (q2, .inl (D.2 0, 8, .inl (fun _ => 0))), (q1, .inl (D.2 0, 8, .inl (fun _ => 0))), (b, .inr (1, [.int 0, .int 0, .int 0, .int 0, .int 0, .int 0, .ref q1, .ref q2, .ref q3, .ref q4, .null]))]) rfl ?_
  refine gl_putF (q0 := 5) (fs := [.int 0, .int 0, .int 0, .int 0, .int 0, .int 0, .ref q1, .ref q2, .ref q3, .ref q4, .null]) (Ws' := (gw_st [(q5, .inl (D.2 0, 40, .inl (fun _ => 0))), (q4, .inl (D.2 0, 8, .inl (fun _ => 0))), (q3, .inl (D.2 0, 8, .inl (fun _ => 0))), (q2, .inl (D.2 0, 8, .inl (fun _ => 0))), (q1, .inl (D.2 0, 8, .inl (fun _ => 0))), (b, .inr (1, [.int 0, .int 0, .int 0, .int 0, .int 0, .int 0, .ref q1, .ref q2, .ref q3, .ref q4, .ref q5]))] Wr)) (ty := tyX1 10) hI X 44 tyX1 tyX1_ok nmX1 in_X1 gl_cl1 (gl_at rfl) 10 (by decide) q214 rfl rfl rfl (tyX1_ok 10 (by decide)) rfl rfl (Nat.le_of_ble_eq_true rfl) (gl_set rfl rfl) dX1_init_41 rfl ?_
  exact gw_vret X dX1_init_44 (fun _ h => ⟨q1, q2, q3, q4, q5, rfl, h⟩) (Nat.le_of_ble_eq_true rfl) (Nat.le_of_ble_eq_true rfl)
abbrev rml_X2_init : Room := { frames := 1, cells := 0, slots := 0, locals := 20 }
set_option maxHeartbeats 4000000 in
theorem lm_X2_init {l : Launch} {D : gw_D} {Wr : va_W → Prop} {b : Nat}  : gw_Ct D l yX2_init cX2_init 1 none rml_X2_init [.ref b] (gw_st [] Wr) (gw_pV (gw_st [] Wr)) := by
  refine gw_ctI (own := RX2) [(0, .ref b)] (by decide) rfl rfl (Nat.le_of_ble_eq_true rfl) rfl ?_
  intro E X hI
  refine gw_aload_n X 1 0 dX2_init_0 rfl rfl rfl ?_
  refine gl_objInit X 4 q273 q177 q178 rfl rfl dX2_init_1 rfl ?_
  exact gw_vret X dX2_init_4 (fun _ h => ⟨rfl, h⟩) (Nat.le_of_ble_eq_true rfl) (Nat.le_of_ble_eq_true rfl)
abbrev rml_X3_init : Room := { frames := 1, cells := 14, slots := 3031, locals := 20 }
set_option maxHeartbeats 4000000 in
theorem lm_X3_init {l : Launch} {D : gw_D} {Wr : va_W → Prop} {b : Nat}  : gw_Ct D l yX3_init cX3_init 2 none rml_X3_init [.ref b] (gw_st [(b, .inr (3, [.int 0, .null, .null, .null, .null, .null, .int 0, .int 0, .int 0, .int 0, .int 0, .long 0, .int 0, .int 0, .int 0, .int 0, .null, .null, .null, .null, .null, .null, .null, .null, .int 0, .int 0, .int 0, .int 0, .null, .int 0, .int 0]))] Wr) (fun v u => ∃ q1 q2 q3 q4 q5 q6 q7 q8 q9 q10 q11 q12 q13 q14, v = none ∧ (gw_st [(q14, .inl (D.2 0, 576, .inl (fun _ => 0))), (q13, .inl (D.2 0, 8, .inl (fun _ => 0))), (q12, .inl (D.2 0, 8, .inl (fun _ => 0))), (q11, .inl (D.2 0, 8, .inl (fun _ => 0))), (q10, .inl (D.2 3, 3, .inl (fun _ => 0))), (q9, .inl (D.2 0, 1000, .inl (fun _ => 0))), (q8, .inl (D.2 0, 200, .inl (fun _ => 0))), (q7, .inl (D.2 0, 15, .inl (fun _ => 0))), (q6, .inl (D.2 0, 5, .inl (fun _ => 0))), (q5, .inl (D.2 1, 900, .inl (fun _ => 0))), (q4, .inl (D.2 2, 60, .inr (.inl (fun _ => 0)))), (q3, .inl (D.2 2, 240, .inr (.inl (fun _ => 0)))), (q2, .inl (D.2 0, 4, .inl (fun _ => 0))), (q1, .inl (D.2 0, 4, .inl (upd (upd (upd (upd (fun _ => 0) 0 (-1)) 1 (-1)) 2 (-1)) 3 (-1)))), (b, .inr (3, [.int 0, .ref q1, .ref q2, .ref q3, .ref q4, .ref q5, .int 0, .int 0, .int 0, .int 0, .int 0, .long 0, .int 0, .int 0, .int 0, .int (-1), .ref q6, .ref q7, .ref q8, .ref q9, .ref q10, .ref q11, .ref q12, .ref q13, .int 0, .int 0, .int 0, .int 0, .ref q14, .int 0, .int 0]))] Wr) u) := by
  refine gw_ctI (own := RX3) [(0, .ref b)] (by decide) rfl rfl (Nat.le_of_ble_eq_true rfl) rfl ?_
  intro E X hI
  refine gw_aload_n X 1 0 dX3_init_0 rfl rfl rfl ?_
  refine gl_objInit X 4 q1393 q177 q178 rfl rfl dX3_init_1 rfl ?_
  refine gw_aload_n X 5 0 dX3_init_4 rfl rfl rfl ?_
  refine gw_iconst X 6 dX3_init_5 rfl gw_ci_4 ?_
  refine gl_newa (atype := .int) (a0 := (4, .inl (fun _ => 0))) X 8 .int 0 q239 rfl rfl (fun _ _ h => h) (fun _ => rfl) (by decide) rfl (Nat.le_of_ble_eq_true rfl) (Nat.le_of_ble_eq_true rfl) (Nat.le_of_ble_eq_true rfl) dX3_init_6 rfl rfl rfl (fun q1 => ?_)
  refine gl_merge (w := [(q1, .inl (D.2 0, 4, .inl (fun _ => 0))), (b, .inr (3, [.int 0, .null, .null, .null, .null, .null, .int 0, .int 0, .int 0, .int 0, .int 0, .long 0, .int 0, .int 0, .int 0, .int 0, .null, .null, .null, .null, .null, .null, .null, .null, .int 0, .int 0, .int 0, .int 0, .null, .int 0, .int 0]))]) rfl ?_
  refine gl_putF (q0 := 1) (fs := [.int 0, .null, .null, .null, .null, .null, .int 0, .int 0, .int 0, .int 0, .int 0, .long 0, .int 0, .int 0, .int 0, .int 0, .null, .null, .null, .null, .null, .null, .null, .null, .int 0, .int 0, .int 0, .int 0, .null, .int 0, .int 0]) (Ws' := (gw_st [(q1, .inl (D.2 0, 4, .inl (fun _ => 0))), (b, .inr (3, [.int 0, .ref q1, .null, .null, .null, .null, .int 0, .int 0, .int 0, .int 0, .int 0, .long 0, .int 0, .int 0, .int 0, .int 0, .null, .null, .null, .null, .null, .null, .null, .null, .int 0, .int 0, .int 0, .int 0, .null, .int 0, .int 0]))] Wr)) (ty := tyX3 1) hI X 11 tyX3 tyX3_ok nmX3 in_X3 gl_cl3 (gl_at rfl) 1 (by decide) q1395 rfl rfl rfl (tyX3_ok 1 (by decide)) rfl rfl (Nat.le_of_ble_eq_true rfl) (gl_set rfl rfl) dX3_init_8 rfl ?_
  refine gw_aload_n X 12 0 dX3_init_11 rfl rfl rfl ?_
  refine gw_iconst X 13 dX3_init_12 rfl gw_ci_4 ?_
  refine gl_newa (atype := .int) (a0 := (4, .inl (fun _ => 0))) X 15 .int 0 q239 rfl rfl (fun _ _ h => h) (fun _ => rfl) (by decide) rfl (Nat.le_of_ble_eq_true rfl) (Nat.le_of_ble_eq_true rfl) (Nat.le_of_ble_eq_true rfl) dX3_init_13 rfl rfl rfl (fun q2 => ?_)
  refine gl_merge (w := [(q2, .inl (D.2 0, 4, .inl (fun _ => 0))), (q1, .inl (D.2 0, 4, .inl (fun _ => 0))), (b, .inr (3, [.int 0, .ref q1, .null, .null, .null, .null, .int 0, .int 0, .int 0, .int 0, .int 0, .long 0, .int 0, .int 0, .int 0, .int 0, .null, .null, .null, .null, .null, .null, .null, .null, .int 0, .int 0, .int 0, .int 0, .null, .int 0, .int 0]))]) rfl ?_
  refine gl_putF (q0 := 2) (fs := [.int 0, .ref q1, .null, .null, .null, .null, .int 0, .int 0, .int 0, .int 0, .int 0, .long 0, .int 0, .int 0, .int 0, .int 0, .null, .null, .null, .null, .null, .null, .null, .null, .int 0, .int 0, .int 0, .int 0, .null, .int 0, .int 0]) (Ws' := (gw_st [(q2, .inl (D.2 0, 4, .inl (fun _ => 0))), (q1, .inl (D.2 0, 4, .inl (fun _ => 0))), (b, .inr (3, [.int 0, .ref q1, .ref q2, .null, .null, .null, .int 0, .int 0, .int 0, .int 0, .int 0, .long 0, .int 0, .int 0, .int 0, .int 0, .null, .null, .null, .null, .null, .null, .null, .null, .int 0, .int 0, .int 0, .int 0, .null, .int 0, .int 0]))] Wr)) (ty := tyX3 2) hI X 18 tyX3 tyX3_ok nmX3 in_X3 gl_cl3 (gl_at rfl) 2 (by decide) q1396 rfl rfl rfl (tyX3_ok 2 (by decide)) rfl rfl (Nat.le_of_ble_eq_true rfl) (gl_set rfl rfl) dX3_init_15 rfl ?_
  refine gw_aload_n X 19 0 dX3_init_18 rfl rfl rfl ?_
  refine gw_sipush X 22 dX3_init_19 rfl gw_cs_240 ?_
  refine gl_newa (atype := .long) (a0 := (240, .inr (.inl (fun _ => 0)))) X 24 .long 2 q1341 rfl rfl (fun _ _ h => h) (fun _ => rfl) (by decide) rfl (Nat.le_of_ble_eq_true rfl) (Nat.le_of_ble_eq_true rfl) (Nat.le_of_ble_eq_true rfl) dX3_init_22 rfl rfl rfl (fun q3 => ?_)
  refine gl_merge (w := [(q3, .inl (D.2 2, 240, .inr (.inl (fun _ => 0)))), (q2, .inl (D.2 0, 4, .inl (fun _ => 0))), (q1, .inl (D.2 0, 4, .inl (fun _ => 0))), (b, .inr (3, [.int 0, .ref q1, .ref q2, .null, .null, .null, .int 0, .int 0, .int 0, .int 0, .int 0, .long 0, .int 0, .int 0, .int 0, .int 0, .null, .null, .null, .null, .null, .null, .null, .null, .int 0, .int 0, .int 0, .int 0, .null, .int 0, .int 0]))]) rfl ?_
  refine gl_putF (q0 := 3) (fs := [.int 0, .ref q1, .ref q2, .null, .null, .null, .int 0, .int 0, .int 0, .int 0, .int 0, .long 0, .int 0, .int 0, .int 0, .int 0, .null, .null, .null, .null, .null, .null, .null, .null, .int 0, .int 0, .int 0, .int 0, .null, .int 0, .int 0]) (Ws' := (gw_st [(q3, .inl (D.2 2, 240, .inr (.inl (fun _ => 0)))), (q2, .inl (D.2 0, 4, .inl (fun _ => 0))), (q1, .inl (D.2 0, 4, .inl (fun _ => 0))), (b, .inr (3, [.int 0, .ref q1, .ref q2, .ref q3, .null, .null, .int 0, .int 0, .int 0, .int 0, .int 0, .long 0, .int 0, .int 0, .int 0, .int 0, .null, .null, .null, .null, .null, .null, .null, .null, .int 0, .int 0, .int 0, .int 0, .null, .int 0, .int 0]))] Wr)) (ty := tyX3 3) hI X 27 tyX3 tyX3_ok nmX3 in_X3 gl_cl3 (gl_at rfl) 3 (by decide) q1397 rfl rfl rfl (tyX3_ok 3 (by decide)) rfl rfl (Nat.le_of_ble_eq_true rfl) (gl_set rfl rfl) dX3_init_24 rfl ?_
  refine gw_aload_n X 28 0 dX3_init_27 rfl rfl rfl ?_
  refine gw_bipush X 30 dX3_init_28 rfl gw_cb_60 ?_
  refine gl_newa (atype := .long) (a0 := (60, .inr (.inl (fun _ => 0)))) X 32 .long 2 q1341 rfl rfl (fun _ _ h => h) (fun _ => rfl) (by decide) rfl (Nat.le_of_ble_eq_true rfl) (Nat.le_of_ble_eq_true rfl) (Nat.le_of_ble_eq_true rfl) dX3_init_30 rfl rfl rfl (fun q4 => ?_)
  refine gl_merge (w := [(q4, .inl (D.2 2, 60, .inr (.inl (fun _ => 0)))), (q3, .inl (D.2 2, 240, .inr (.inl (fun _ => 0)))), (q2, .inl (D.2 0, 4, .inl (fun _ => 0))), (q1, .inl (D.2 0, 4, .inl (fun _ => 0))), (b, .inr (3, [.int 0, .ref q1, .ref q2, .ref q3, .null, .null, .int 0, .int 0, .int 0, .int 0, .int 0, .long 0, .int 0, .int 0, .int 0, .int 0, .null, .null, .null, .null, .null, .null, .null, .null, .int 0, .int 0, .int 0, .int 0, .null, .int 0, .int 0]))]) rfl ?_
  refine gl_putF (q0 := 4) (fs := [.int 0, .ref q1, .ref q2, .ref q3, .null, .null, .int 0, .int 0, .int 0, .int 0, .int 0, .long 0, .int 0, .int 0, .int 0, .int 0, .null, .null, .null, .null, .null, .null, .null, .null, .int 0, .int 0, .int 0, .int 0, .null, .int 0, .int 0]) (Ws' := (gw_st [(q4, .inl (D.2 2, 60, .inr (.inl (fun _ => 0)))), (q3, .inl (D.2 2, 240, .inr (.inl (fun _ => 0)))), (q2, .inl (D.2 0, 4, .inl (fun _ => 0))), (q1, .inl (D.2 0, 4, .inl (fun _ => 0))), (b, .inr (3, [.int 0, .ref q1, .ref q2, .ref q3, .ref q4, .null, .int 0, .int 0, .int 0, .int 0, .int 0, .long 0, .int 0, .int 0, .int 0, .int 0, .null, .null, .null, .null, .null, .null, .null, .null, .int 0, .int 0, .int 0, .int 0, .null, .int 0, .int 0]))] Wr)) (ty := tyX3 4) hI X 35 tyX3 tyX3_ok nmX3 in_X3 gl_cl3 (gl_at rfl) 4 (by decide) q1398 rfl rfl rfl (tyX3_ok 4 (by decide)) rfl rfl (Nat.le_of_ble_eq_true rfl) (gl_set rfl rfl) dX3_init_32 rfl ?_
  refine gw_aload_n X 36 0 dX3_init_35 rfl rfl rfl ?_
  refine gw_sipush X 39 dX3_init_36 rfl gw_cs_900 ?_
  refine gl_newa (atype := .byte) (a0 := (900, .inl (fun _ => 0))) X 41 .byte 1 q266 rfl rfl (fun _ _ h => h) (fun _ => rfl) (by decide) rfl (Nat.le_of_ble_eq_true rfl) (Nat.le_of_ble_eq_true rfl) (Nat.le_of_ble_eq_true rfl) dX3_init_39 rfl rfl rfl (fun q5 => ?_)
  refine gl_merge (w := [(q5, .inl (D.2 1, 900, .inl (fun _ => 0))), (q4, .inl (D.2 2, 60, .inr (.inl (fun _ => 0)))), (q3, .inl (D.2 2, 240, .inr (.inl (fun _ => 0)))), (q2, .inl (D.2 0, 4, .inl (fun _ => 0))), (q1, .inl (D.2 0, 4, .inl (fun _ => 0))), (b, .inr (3, [.int 0, .ref q1, .ref q2, .ref q3, .ref q4, .null, .int 0, .int 0, .int 0, .int 0, .int 0, .long 0, .int 0, .int 0, .int 0, .int 0, .null, .null, .null, .null, .null, .null, .null, .null, .int 0, .int 0, .int 0, .int 0, .null, .int 0, .int 0]))]) rfl ?_
  refine gl_putF (q0 := 5) (fs := [.int 0, .ref q1, .ref q2, .ref q3, .ref q4, .null, .int 0, .int 0, .int 0, .int 0, .int 0, .long 0, .int 0, .int 0, .int 0, .int 0, .null, .null, .null, .null, .null, .null, .null, .null, .int 0, .int 0, .int 0, .int 0, .null, .int 0, .int 0]) (Ws' := (gw_st [(q5, .inl (D.2 1, 900, .inl (fun _ => 0))), (q4, .inl (D.2 2, 60, .inr (.inl (fun _ => 0)))), (q3, .inl (D.2 2, 240, .inr (.inl (fun _ => 0)))), (q2, .inl (D.2 0, 4, .inl (fun _ => 0))), (q1, .inl (D.2 0, 4, .inl (fun _ => 0))), (b, .inr (3, [.int 0, .ref q1, .ref q2, .ref q3, .ref q4, .ref q5, .int 0, .int 0, .int 0, .int 0, .int 0, .long 0, .int 0, .int 0, .int 0, .int 0, .null, .null, .null, .null, .null, .null, .null, .null, .int 0, .int 0, .int 0, .int 0, .null, .int 0, .int 0]))] Wr)) (ty := tyX3 5) hI X 44 tyX3 tyX3_ok nmX3 in_X3 gl_cl3 (gl_at rfl) 5 (by decide) q1399 rfl rfl rfl (tyX3_ok 5 (by decide)) rfl rfl (Nat.le_of_ble_eq_true rfl) (gl_set rfl rfl) dX3_init_41 rfl ?_
  refine gw_aload_n X 45 0 dX3_init_44 rfl rfl rfl ?_
  refine gw_iconst X 46 dX3_init_45 rfl gw_ci_m1 ?_
  refine gl_put (q0 := 5) (fs := [.int 0, .ref q1, .ref q2, .ref q3, .ref q4, .ref q5, .int 0, .int 0, .int 0, .int 0, .int 0, .long 0, .int 0, .int 0, .int 0, .int 0, .null, .null, .null, .null, .null, .null, .null, .null, .int 0, .int 0, .int 0, .int 0, .null, .int 0, .int 0]) (Ws' := (gw_st [(q5, .inl (D.2 1, 900, .inl (fun _ => 0))), (q4, .inl (D.2 2, 60, .inr (.inl (fun _ => 0)))), (q3, .inl (D.2 2, 240, .inr (.inl (fun _ => 0)))), (q2, .inl (D.2 0, 4, .inl (fun _ => 0))), (q1, .inl (D.2 0, 4, .inl (fun _ => 0))), (b, .inr (3, [.int 0, .ref q1, .ref q2, .ref q3, .ref q4, .ref q5, .int 0, .int 0, .int 0, .int 0, .int 0, .long 0, .int 0, .int 0, .int 0, .int (-1), .null, .null, .null, .null, .null, .null, .null, .null, .int 0, .int 0, .int 0, .int 0, .null, .int 0, .int 0]))] Wr)) (ty := tyX3 15) X 49 tyX3 tyX3_ok nmX3 in_X3 gl_cl3 (gl_at rfl) 15 (by decide) q1409 rfl rfl (tyX3_ok 15 (by decide)) rfl rfl (Nat.le_of_ble_eq_true rfl) (gl_set rfl rfl) dX3_init_46 rfl ?_
  refine gw_aload_n X 50 0 dX3_init_49 rfl rfl rfl ?_
  refine gw_iconst X 51 dX3_init_50 rfl gw_ci_5 ?_
  refine gl_newa (atype := .int) (a0 := (5, .inl (fun _ => 0))) X 53 .int 0 q239 rfl rfl (fun _ _ h => h) (fun _ => rfl) (by decide) rfl (Nat.le_of_ble_eq_true rfl) (Nat.le_of_ble_eq_true rfl) (Nat.le_of_ble_eq_true rfl) dX3_init_51 rfl rfl rfl (fun q6 => ?_)
  refine gl_merge (w := [(q6, .inl (D.2 0, 5, .inl (fun _ => 0))), (q5, .inl (D.2 1, 900, .inl (fun _ => 0))), (q4, .inl (D.2 2, 60, .inr (.inl (fun _ => 0)))), (q3, .inl (D.2 2, 240, .inr (.inl (fun _ => 0)))), (q2, .inl (D.2 0, 4, .inl (fun _ => 0))), (q1, .inl (D.2 0, 4, .inl (fun _ => 0))), (b, .inr (3, [.int 0, .ref q1, .ref q2, .ref q3, .ref q4, .ref q5, .int 0, .int 0, .int 0, .int 0, .int 0, .long 0, .int 0, .int 0, .int 0, .int (-1), .null, .null, .null, .null, .null, .null, .null, .null, .int 0, .int 0, .int 0, .int 0, .null, .int 0, .int 0]))]) rfl ?_
  refine gl_putF (q0 := 6) (fs := [.int 0, .ref q1, .ref q2, .ref q3, .ref q4, .ref q5, .int 0, .int 0, .int 0, .int 0, .int 0, .long 0, .int 0, .int 0, .int 0, .int (-1), .null, .null, .null, .null, .null, .null, .null, .null, .int 0, .int 0, .int 0, .int 0, .null, .int 0, .int 0]) (Ws' := (gw_st [(q6, .inl (D.2 0, 5, .inl (fun _ => 0))), (q5, .inl (D.2 1, 900, .inl (fun _ => 0))), (q4, .inl (D.2 2, 60, .inr (.inl (fun _ => 0)))), (q3, .inl (D.2 2, 240, .inr (.inl (fun _ => 0)))), (q2, .inl (D.2 0, 4, .inl (fun _ => 0))), (q1, .inl (D.2 0, 4, .inl (fun _ => 0))), (b, .inr (3, [.int 0, .ref q1, .ref q2, .ref q3, .ref q4, .ref q5, .int 0, .int 0, .int 0, .int 0, .int 0, .long 0, .int 0, .int 0, .int 0, .int (-1), .ref q6, .null, .null, .null, .null, .null, .null, .null, .int 0, .int 0, .int 0, .int 0, .null, .int 0, .int 0]))] Wr)) (ty := tyX3 16) hI X 56 tyX3 tyX3_ok nmX3 in_X3 gl_cl3 (gl_at rfl) 16 (by decide) q1410 rfl rfl rfl (tyX3_ok 16 (by decide)) rfl rfl (Nat.le_of_ble_eq_true rfl) (gl_set rfl rfl) dX3_init_53 rfl ?_
  refine gw_aload_n X 57 0 dX3_init_56 rfl rfl rfl ?_
  refine gw_bipush X 59 dX3_init_57 rfl gw_cb_15 ?_
  refine gl_newa (atype := .int) (a0 := (15, .inl (fun _ => 0))) X 61 .int 0 q239 rfl rfl (fun _ _ h => h) (fun _ => rfl) (by decide) rfl (Nat.le_of_ble_eq_true rfl) (Nat.le_of_ble_eq_true rfl) (Nat.le_of_ble_eq_true rfl) dX3_init_59 rfl rfl rfl (fun q7 => ?_)
  refine gl_merge (w := [(q7, .inl (D.2 0, 15, .inl (fun _ => 0))), (q6, .inl (D.2 0, 5, .inl (fun _ => 0))), (q5, .inl (D.2 1, 900, .inl (fun _ => 0))), (q4, .inl (D.2 2, 60, .inr (.inl (fun _ => 0)))), (q3, .inl (D.2 2, 240, .inr (.inl (fun _ => 0)))), (q2, .inl (D.2 0, 4, .inl (fun _ => 0))), (q1, .inl (D.2 0, 4, .inl (fun _ => 0))), (b, .inr (3, [.int 0, .ref q1, .ref q2, .ref q3, .ref q4, .ref q5, .int 0, .int 0, .int 0, .int 0, .int 0, .long 0, .int 0, .int 0, .int 0, .int (-1), .ref q6, .null, .null, .null, .null, .null, .null, .null, .int 0, .int 0, .int 0, .int 0, .null, .int 0, .int 0]))]) rfl ?_
  refine gl_putF (q0 := 7) (fs := [.int 0, .ref q1, .ref q2, .ref q3, .ref q4, .ref q5, .int 0, .int 0, .int 0, .int 0, .int 0, .long 0, .int 0, .int 0, .int 0, .int (-1), .ref q6, .null, .null, .null, .null, .null, .null, .null, .int 0, .int 0, .int 0, .int 0, .null, .int 0, .int 0]) (Ws' := (gw_st [(q7, .inl (D.2 0, 15, .inl (fun _ => 0))), (q6, .inl (D.2 0, 5, .inl (fun _ => 0))), (q5, .inl (D.2 1, 900, .inl (fun _ => 0))), (q4, .inl (D.2 2, 60, .inr (.inl (fun _ => 0)))), (q3, .inl (D.2 2, 240, .inr (.inl (fun _ => 0)))), (q2, .inl (D.2 0, 4, .inl (fun _ => 0))), (q1, .inl (D.2 0, 4, .inl (fun _ => 0))), (b, .inr (3, [.int 0, .ref q1, .ref q2, .ref q3, .ref q4, .ref q5, .int 0, .int 0, .int 0, .int 0, .int 0, .long 0, .int 0, .int 0, .int 0, .int (-1), .ref q6, .ref q7, .null, .null, .null, .null, .null, .null, .int 0, .int 0, .int 0, .int 0, .null, .int 0, .int 0]))] Wr)) (ty := tyX3 17) hI X 64 tyX3 tyX3_ok nmX3 in_X3 gl_cl3 (gl_at rfl) 17 (by decide) q1411 rfl rfl rfl (tyX3_ok 17 (by decide)) rfl rfl (Nat.le_of_ble_eq_true rfl) (gl_set rfl rfl) dX3_init_61 rfl ?_
  refine gw_aload_n X 65 0 dX3_init_64 rfl rfl rfl ?_
  refine gw_sipush X 68 dX3_init_65 rfl gw_cs_200 ?_
  refine gl_newa (atype := .int) (a0 := (200, .inl (fun _ => 0))) X 70 .int 0 q239 rfl rfl (fun _ _ h => h) (fun _ => rfl) (by decide) rfl (Nat.le_of_ble_eq_true rfl) (Nat.le_of_ble_eq_true rfl) (Nat.le_of_ble_eq_true rfl) dX3_init_68 rfl rfl rfl (fun q8 => ?_)
  refine gl_merge (w := [(q8, .inl (D.2 0, 200, .inl (fun _ => 0))), (q7, .inl (D.2 0, 15, .inl (fun _ => 0))), (q6, .inl (D.2 0, 5, .inl (fun _ => 0))), (q5, .inl (D.2 1, 900, .inl (fun _ => 0))), (q4, .inl (D.2 2, 60, .inr (.inl (fun _ => 0)))), (q3, .inl (D.2 2, 240, .inr (.inl (fun _ => 0)))), (q2, .inl (D.2 0, 4, .inl (fun _ => 0))), (q1, .inl (D.2 0, 4, .inl (fun _ => 0))), (b, .inr (3, [.int 0, .ref q1, .ref q2, .ref q3, .ref q4, .ref q5, .int 0, .int 0, .int 0, .int 0, .int 0, .long 0, .int 0, .int 0, .int 0, .int (-1), .ref q6, .ref q7, .null, .null, .null, .null, .null, .null, .int 0, .int 0, .int 0, .int 0, .null, .int 0, .int 0]))]) rfl ?_
  refine gl_putF (q0 := 8) (fs := [.int 0, .ref q1, .ref q2, .ref q3, .ref q4, .ref q5, .int 0, .int 0, .int 0, .int 0, .int 0, .long 0, .int 0, .int 0, .int 0, .int (-1), .ref q6, .ref q7, .null, .null, .null, .null, .null, .null, .int 0, .int 0, .int 0, .int 0, .null, .int 0, .int 0]) (Ws' := (gw_st [(q8, .inl (D.2 0, 200, .inl (fun _ => 0))), (q7, .inl (D.2 0, 15, .inl (fun _ => 0))), (q6, .inl (D.2 0, 5, .inl (fun _ => 0))), (q5, .inl (D.2 1, 900, .inl (fun _ => 0))), (q4, .inl (D.2 2, 60, .inr (.inl (fun _ => 0)))), (q3, .inl (D.2 2, 240, .inr (.inl (fun _ => 0)))), (q2, .inl (D.2 0, 4, .inl (fun _ => 0))), (q1, .inl (D.2 0, 4, .inl (fun _ => 0))), (b, .inr (3, [.int 0, .ref q1, .ref q2, .ref q3, .ref q4, .ref q5, .int 0, .int 0, .int 0, .int 0, .int 0, .long 0, .int 0, .int 0, .int 0, .int (-1), .ref q6, .ref q7, .ref q8, .null, .null, .null, .null, .null, .int 0, .int 0, .int 0, .int 0, .null, .int 0, .int 0]))] Wr)) (ty := tyX3 18) hI X 73 tyX3 tyX3_ok nmX3 in_X3 gl_cl3 (gl_at rfl) 18 (by decide) q1412 rfl rfl rfl (tyX3_ok 18 (by decide)) rfl rfl (Nat.le_of_ble_eq_true rfl) (gl_set rfl rfl) dX3_init_70 rfl ?_
  refine gw_aload_n X 74 0 dX3_init_73 rfl rfl rfl ?_
  refine gw_sipush X 77 dX3_init_74 rfl gw_cs_1000 ?_
  refine gl_newa (atype := .int) (a0 := (1000, .inl (fun _ => 0))) X 79 .int 0 q239 rfl rfl (fun _ _ h => h) (fun _ => rfl) (by decide) rfl (Nat.le_of_ble_eq_true rfl) (Nat.le_of_ble_eq_true rfl) (Nat.le_of_ble_eq_true rfl) dX3_init_77 rfl rfl rfl (fun q9 => ?_)
  refine gl_merge (w := [(q9, .inl (D.2 0, 1000, .inl (fun _ => 0))), (q8, .inl (D.2 0, 200, .inl (fun _ => 0))), (q7, .inl (D.2 0, 15, .inl (fun _ => 0))), (q6, .inl (D.2 0, 5, .inl (fun _ => 0))), (q5, .inl (D.2 1, 900, .inl (fun _ => 0))), (q4, .inl (D.2 2, 60, .inr (.inl (fun _ => 0)))), (q3, .inl (D.2 2, 240, .inr (.inl (fun _ => 0)))), (q2, .inl (D.2 0, 4, .inl (fun _ => 0))), (q1, .inl (D.2 0, 4, .inl (fun _ => 0))), (b, .inr (3, [.int 0, .ref q1, .ref q2, .ref q3, .ref q4, .ref q5, .int 0, .int 0, .int 0, .int 0, .int 0, .long 0, .int 0, .int 0, .int 0, .int (-1), .ref q6, .ref q7, .ref q8, .null, .null, .null, .null, .null, .int 0, .int 0, .int 0, .int 0, .null, .int 0, .int 0]))]) rfl ?_
  refine gl_putF (q0 := 9) (fs := [.int 0, .ref q1, .ref q2, .ref q3, .ref q4, .ref q5, .int 0, .int 0, .int 0, .int 0, .int 0, .long 0, .int 0, .int 0, .int 0, .int (-1), .ref q6, .ref q7, .ref q8, .null, .null, .null, .null, .null, .int 0, .int 0, .int 0, .int 0, .null, .int 0, .int 0]) (Ws' := (gw_st [(q9, .inl (D.2 0, 1000, .inl (fun _ => 0))), (q8, .inl (D.2 0, 200, .inl (fun _ => 0))), (q7, .inl (D.2 0, 15, .inl (fun _ => 0))), (q6, .inl (D.2 0, 5, .inl (fun _ => 0))), (q5, .inl (D.2 1, 900, .inl (fun _ => 0))), (q4, .inl (D.2 2, 60, .inr (.inl (fun _ => 0)))), (q3, .inl (D.2 2, 240, .inr (.inl (fun _ => 0)))), (q2, .inl (D.2 0, 4, .inl (fun _ => 0))), (q1, .inl (D.2 0, 4, .inl (fun _ => 0))), (b, .inr (3, [.int 0, .ref q1, .ref q2, .ref q3, .ref q4, .ref q5, .int 0, .int 0, .int 0, .int 0, .int 0, .long 0, .int 0, .int 0, .int 0, .int (-1), .ref q6, .ref q7, .ref q8, .ref q9, .null, .null, .null, .null, .int 0, .int 0, .int 0, .int 0, .null, .int 0, .int 0]))] Wr)) (ty := tyX3 19) hI X 82 tyX3 tyX3_ok nmX3 in_X3 gl_cl3 (gl_at rfl) 19 (by decide) q1413 rfl rfl rfl (tyX3_ok 19 (by decide)) rfl rfl (Nat.le_of_ble_eq_true rfl) (gl_set rfl rfl) dX3_init_79 rfl ?_
  refine gw_aload_n X 83 0 dX3_init_82 rfl rfl rfl ?_
  refine gw_iconst X 84 dX3_init_83 rfl gw_ci_3 ?_
  refine gl_newa (atype := .boolean) (a0 := (3, .inl (fun _ => 0))) X 86 .boolean 3 q1488 rfl rfl (fun _ _ h => h) (fun _ => rfl) (by decide) rfl (Nat.le_of_ble_eq_true rfl) (Nat.le_of_ble_eq_true rfl) (Nat.le_of_ble_eq_true rfl) dX3_init_84 rfl rfl rfl (fun q10 => ?_)
  refine gl_merge (w := [(q10, .inl (D.2 3, 3, .inl (fun _ => 0))), (q9, .inl (D.2 0, 1000, .inl (fun _ => 0))), (q8, .inl (D.2 0, 200, .inl (fun _ => 0))), (q7, .inl (D.2 0, 15, .inl (fun _ => 0))), (q6, .inl (D.2 0, 5, .inl (fun _ => 0))), (q5, .inl (D.2 1, 900, .inl (fun _ => 0))), (q4, .inl (D.2 2, 60, .inr (.inl (fun _ => 0)))), (q3, .inl (D.2 2, 240, .inr (.inl (fun _ => 0)))), (q2, .inl (D.2 0, 4, .inl (fun _ => 0))), (q1, .inl (D.2 0, 4, .inl (fun _ => 0))), (b, .inr (3, [.int 0, .ref q1, .ref q2, .ref q3, .ref q4, .ref q5, .int 0, .int 0, .int 0, .int 0, .int 0, .long 0, .int 0, .int 0, .int 0, .int (-1), .ref q6, .ref q7, .ref q8, .ref q9, .null, .null, .null, .null, .int 0, .int 0, .int 0, .int 0, .null, .int 0, .int 0]))]) rfl ?_
  refine gl_putF (q0 := 10) (fs := [.int 0, .ref q1, .ref q2, .ref q3, .ref q4, .ref q5, .int 0, .int 0, .int 0, .int 0, .int 0, .long 0, .int 0, .int 0, .int 0, .int (-1), .ref q6, .ref q7, .ref q8, .ref q9, .null, .null, .null, .null, .int 0, .int 0, .int 0, .int 0, .null, .int 0, .int 0]) (Ws' := (gw_st [(q10, .inl (D.2 3, 3, .inl (fun _ => 0))), (q9, .inl (D.2 0, 1000, .inl (fun _ => 0))), (q8, .inl (D.2 0, 200, .inl (fun _ => 0))), (q7, .inl (D.2 0, 15, .inl (fun _ => 0))), (q6, .inl (D.2 0, 5, .inl (fun _ => 0))), (q5, .inl (D.2 1, 900, .inl (fun _ => 0))), (q4, .inl (D.2 2, 60, .inr (.inl (fun _ => 0)))), (q3, .inl (D.2 2, 240, .inr (.inl (fun _ => 0)))), (q2, .inl (D.2 0, 4, .inl (fun _ => 0))), (q1, .inl (D.2 0, 4, .inl (fun _ => 0))), (b, .inr (3, [.int 0, .ref q1, .ref q2, .ref q3, .ref q4, .ref q5, .int 0, .int 0, .int 0, .int 0, .int 0, .long 0, .int 0, .int 0, .int 0, .int (-1), .ref q6, .ref q7, .ref q8, .ref q9, .ref q10, .null, .null, .null, .int 0, .int 0, .int 0, .int 0, .null, .int 0, .int 0]))] Wr)) (ty := tyX3 20) hI X 89 tyX3 tyX3_ok nmX3 in_X3 gl_cl3 (gl_at rfl) 20 (by decide) q1414 rfl rfl rfl (tyX3_ok 20 (by decide)) rfl rfl (Nat.le_of_ble_eq_true rfl) (gl_set rfl rfl) dX3_init_86 rfl ?_
  refine gw_aload_n X 90 0 dX3_init_89 rfl rfl rfl ?_
  refine gw_bipush X 92 dX3_init_90 rfl gw_cb_8 ?_
  refine gl_newa (atype := .int) (a0 := (8, .inl (fun _ => 0))) X 94 .int 0 q239 rfl rfl (fun _ _ h => h) (fun _ => rfl) (by decide) rfl (Nat.le_of_ble_eq_true rfl) (Nat.le_of_ble_eq_true rfl) (Nat.le_of_ble_eq_true rfl) dX3_init_92 rfl rfl rfl (fun q11 => ?_)
  refine gl_merge (w := [(q11, .inl (D.2 0, 8, .inl (fun _ => 0))), (q10, .inl (D.2 3, 3, .inl (fun _ => 0))), (q9, .inl (D.2 0, 1000, .inl (fun _ => 0))), (q8, .inl (D.2 0, 200, .inl (fun _ => 0))), (q7, .inl (D.2 0, 15, .inl (fun _ => 0))), (q6, .inl (D.2 0, 5, .inl (fun _ => 0))), (q5, .inl (D.2 1, 900, .inl (fun _ => 0))), (q4, .inl (D.2 2, 60, .inr (.inl (fun _ => 0)))), (q3, .inl (D.2 2, 240, .inr (.inl (fun _ => 0)))), (q2, .inl (D.2 0, 4, .inl (fun _ => 0))), (q1, .inl (D.2 0, 4, .inl (fun _ => 0))), (b, .inr (3, [.int 0, .ref q1, .ref q2, .ref q3, .ref q4, .ref q5, .int 0, .int 0, .int 0, .int 0, .int 0, .long 0, .int 0, .int 0, .int 0, .int (-1), .ref q6, .ref q7, .ref q8, .ref q9, .ref q10, .null, .null, .null, .int 0, .int 0, .int 0, .int 0, .null, .int 0, .int 0]))]) rfl ?_
  refine gl_putF (q0 := 11) (fs := [.int 0, .ref q1, .ref q2, .ref q3, .ref q4, .ref q5, .int 0, .int 0, .int 0, .int 0, .int 0, .long 0, .int 0, .int 0, .int 0, .int (-1), .ref q6, .ref q7, .ref q8, .ref q9, .ref q10, .null, .null, .null, .int 0, .int 0, .int 0, .int 0, .null, .int 0, .int 0]) (Ws' := (gw_st [(q11, .inl (D.2 0, 8, .inl (fun _ => 0))), (q10, .inl (D.2 3, 3, .inl (fun _ => 0))), (q9, .inl (D.2 0, 1000, .inl (fun _ => 0))), (q8, .inl (D.2 0, 200, .inl (fun _ => 0))), (q7, .inl (D.2 0, 15, .inl (fun _ => 0))), (q6, .inl (D.2 0, 5, .inl (fun _ => 0))), (q5, .inl (D.2 1, 900, .inl (fun _ => 0))), (q4, .inl (D.2 2, 60, .inr (.inl (fun _ => 0)))), (q3, .inl (D.2 2, 240, .inr (.inl (fun _ => 0)))), (q2, .inl (D.2 0, 4, .inl (fun _ => 0))), (q1, .inl (D.2 0, 4, .inl (fun _ => 0))), (b, .inr (3, [.int 0, .ref q1, .ref q2, .ref q3, .ref q4, .ref q5, .int 0, .int 0, .int 0, .int 0, .int 0, .long 0, .int 0, .int 0, .int 0, .int (-1), .ref q6, .ref q7, .ref q8, .ref q9, .ref q10, .ref q11, .null, .null, .int 0, .int 0, .int 0, .int 0, .null, .int 0, .int 0]))] Wr)) (ty := tyX3 21) hI X 97 tyX3 tyX3_ok nmX3 in_X3 gl_cl3 (gl_at rfl) 21 (by decide) q1415 rfl rfl rfl (tyX3_ok 21 (by decide)) rfl rfl (Nat.le_of_ble_eq_true rfl) (gl_set rfl rfl) dX3_init_94 rfl ?_
  refine gw_aload_n X 98 0 dX3_init_97 rfl rfl rfl ?_
  refine gw_bipush X 100 dX3_init_98 rfl gw_cb_8 ?_
  refine gl_newa (atype := .int) (a0 := (8, .inl (fun _ => 0))) X 102 .int 0 q239 rfl rfl (fun _ _ h => h) (fun _ => rfl) (by decide) rfl (Nat.le_of_ble_eq_true rfl) (Nat.le_of_ble_eq_true rfl) (Nat.le_of_ble_eq_true rfl) dX3_init_100 rfl rfl rfl (fun q12 => ?_)
  refine gl_merge (w := [(q12, .inl (D.2 0, 8, .inl (fun _ => 0))), (q11, .inl (D.2 0, 8, .inl (fun _ => 0))), (q10, .inl (D.2 3, 3, .inl (fun _ => 0))), (q9, .inl (D.2 0, 1000, .inl (fun _ => 0))), (q8, .inl (D.2 0, 200, .inl (fun _ => 0))), (q7, .inl (D.2 0, 15, .inl (fun _ => 0))), (q6, .inl (D.2 0, 5, .inl (fun _ => 0))), (q5, .inl (D.2 1, 900, .inl (fun _ => 0))), (q4, .inl (D.2 2, 60, .inr (.inl (fun _ => 0)))), (q3, .inl (D.2 2, 240, .inr (.inl (fun _ => 0)))), (q2, .inl (D.2 0, 4, .inl (fun _ => 0))), (q1, .inl (D.2 0, 4, .inl (fun _ => 0))), (b, .inr (3, [.int 0, .ref q1, .ref q2, .ref q3, .ref q4, .ref q5, .int 0, .int 0, .int 0, .int 0, .int 0, .long 0, .int 0, .int 0, .int 0, .int (-1), .ref q6, .ref q7, .ref q8, .ref q9, .ref q10, .ref q11, .null, .null, .int 0, .int 0, .int 0, .int 0, .null, .int 0, .int 0]))]) rfl ?_
  refine gl_putF (q0 := 12) (fs := [.int 0, .ref q1, .ref q2, .ref q3, .ref q4, .ref q5, .int 0, .int 0, .int 0, .int 0, .int 0, .long 0, .int 0, .int 0, .int 0, .int (-1), .ref q6, .ref q7, .ref q8, .ref q9, .ref q10, .ref q11, .null, .null, .int 0, .int 0, .int 0, .int 0, .null, .int 0, .int 0]) (Ws' := (gw_st [(q12, .inl (D.2 0, 8, .inl (fun _ => 0))), (q11, .inl (D.2 0, 8, .inl (fun _ => 0))), (q10, .inl (D.2 3, 3, .inl (fun _ => 0))), (q9, .inl (D.2 0, 1000, .inl (fun _ => 0))), (q8, .inl (D.2 0, 200, .inl (fun _ => 0))), (q7, .inl (D.2 0, 15, .inl (fun _ => 0))), (q6, .inl (D.2 0, 5, .inl (fun _ => 0))), (q5, .inl (D.2 1, 900, .inl (fun _ => 0))), (q4, .inl (D.2 2, 60, .inr (.inl (fun _ => 0)))), (q3, .inl (D.2 2, 240, .inr (.inl (fun _ => 0)))), (q2, .inl (D.2 0, 4, .inl (fun _ => 0))), (q1, .inl (D.2 0, 4, .inl (fun _ => 0))), (b, .inr (3, [.int 0, .ref q1, .ref q2, .ref q3, .ref q4, .ref q5, .int 0, .int 0, .int 0, .int 0, .int 0, .long 0, .int 0, .int 0, .int 0, .int (-1), .ref q6, .ref q7, .ref q8, .ref q9, .ref q10, .ref q11, .ref q12, .null, .int 0, .int 0, .int 0, .int 0, .null, .int 0, .int 0]))] Wr)) (ty := tyX3 22) hI X 105 tyX3 tyX3_ok nmX3 in_X3 gl_cl3 (gl_at rfl) 22 (by decide) q1416 rfl rfl rfl (tyX3_ok 22 (by decide)) rfl rfl (Nat.le_of_ble_eq_true rfl) (gl_set rfl rfl) dX3_init_102 rfl ?_
  refine gw_aload_n X 106 0 dX3_init_105 rfl rfl rfl ?_
  refine gw_bipush X 108 dX3_init_106 rfl gw_cb_8 ?_
  refine gl_newa (atype := .int) (a0 := (8, .inl (fun _ => 0))) X 110 .int 0 q239 rfl rfl (fun _ _ h => h) (fun _ => rfl) (by decide) rfl (Nat.le_of_ble_eq_true rfl) (Nat.le_of_ble_eq_true rfl) (Nat.le_of_ble_eq_true rfl) dX3_init_108 rfl rfl rfl (fun q13 => ?_)
  refine gl_merge (w := [(q13, .inl (D.2 0, 8, .inl (fun _ => 0))), (q12, .inl (D.2 0, 8, .inl (fun _ => 0))), (q11, .inl (D.2 0, 8, .inl (fun _ => 0))), (q10, .inl (D.2 3, 3, .inl (fun _ => 0))), (q9, .inl (D.2 0, 1000, .inl (fun _ => 0))), (q8, .inl (D.2 0, 200, .inl (fun _ => 0))), (q7, .inl (D.2 0, 15, .inl (fun _ => 0))), (q6, .inl (D.2 0, 5, .inl (fun _ => 0))), (q5, .inl (D.2 1, 900, .inl (fun _ => 0))), (q4, .inl (D.2 2, 60, .inr (.inl (fun _ => 0)))), (q3, .inl (D.2 2, 240, .inr (.inl (fun _ => 0)))), (q2, .inl (D.2 0, 4, .inl (fun _ => 0))), (q1, .inl (D.2 0, 4, .inl (fun _ => 0))), (b, .inr (3, [.int 0, .ref q1, .ref q2, .ref q3, .ref q4, .ref q5, .int 0, .int 0, .int 0, .int 0, .int 0, .long 0, .int 0, .int 0, .int 0, .int (-1), .ref q6, .ref q7, .ref q8, .ref q9, .ref q10, .ref q11, .ref q12, .null, .int 0, .int 0, .int 0, .int 0, .null, .int 0, .int 0]))]) rfl ?_
  refine gl_putF (q0 := 13) (fs := [.int 0, .ref q1, .ref q2, .ref q3, .ref q4, .ref q5, .int 0, .int 0, .int 0, .int 0, .int 0, .long 0, .int 0, .int 0, .int 0, .int (-1), .ref q6, .ref q7, .ref q8, .ref q9, .ref q10, .ref q11, .ref q12, .null, .int 0, .int 0, .int 0, .int 0, .null, .int 0, .int 0]) (Ws' := (gw_st [(q13, .inl (D.2 0, 8, .inl (fun _ => 0))), (q12, .inl (D.2 0, 8, .inl (fun _ => 0))), (q11, .inl (D.2 0, 8, .inl (fun _ => 0))), (q10, .inl (D.2 3, 3, .inl (fun _ => 0))), (q9, .inl (D.2 0, 1000, .inl (fun _ => 0))), (q8, .inl (D.2 0, 200, .inl (fun _ => 0))), (q7, .inl (D.2 0, 15, .inl (fun _ => 0))), (q6, .inl (D.2 0, 5, .inl (fun _ => 0))), (q5, .inl (D.2 1, 900, .inl (fun _ => 0))), (q4, .inl (D.2 2, 60, .inr (.inl (fun _ => 0)))), (q3, .inl (D.2 2, 240, .inr (.inl (fun _ => 0)))), (q2, .inl (D.2 0, 4, .inl (fun _ => 0))), (q1, .inl (D.2 0, 4, .inl (fun _ => 0))), (b, .inr (3, [.int 0, .ref q1, .ref q2, .ref q3, .ref q4, .ref q5, .int 0, .int 0, .int 0, .int 0, .int 0, .long 0, .int 0, .int 0, .int 0, .int (-1), .ref q6, .ref q7, .ref q8, .ref q9, .ref q10, .ref q11, .ref q12, .ref q13, .int 0, .int 0, .int 0, .int 0, .null, .int 0, .int 0]))] Wr)) (ty := tyX3 23) hI X 113 tyX3 tyX3_ok nmX3 in_X3 gl_cl3 (gl_at rfl) 23 (by decide) q1417 rfl rfl rfl (tyX3_ok 23 (by decide)) rfl rfl (Nat.le_of_ble_eq_true rfl) (gl_set rfl rfl) dX3_init_110 rfl ?_
  refine gw_aload_n X 114 0 dX3_init_113 rfl rfl rfl ?_
  refine gw_sipush X 117 dX3_init_114 rfl gw_cs_576 ?_
  refine gl_newa (atype := .int) (a0 := (576, .inl (fun _ => 0))) X 119 .int 0 q239 rfl rfl (fun _ _ h => h) (fun _ => rfl) (by decide) rfl (Nat.le_of_ble_eq_true rfl) (Nat.le_of_ble_eq_true rfl) (Nat.le_of_ble_eq_true rfl) dX3_init_117 rfl rfl rfl (fun q14 => ?_)
  refine gl_merge (w := [(q14, .inl (D.2 0, 576, .inl (fun _ => 0))), (q13, .inl (D.2 0, 8, .inl (fun _ => 0))), (q12, .inl (D.2 0, 8, .inl (fun _ => 0))), (q11, .inl (D.2 0, 8, .inl (fun _ => 0))), (q10, .inl (D.2 3, 3, .inl (fun _ => 0))), (q9, .inl (D.2 0, 1000, .inl (fun _ => 0))), (q8, .inl (D.2 0, 200, .inl (fun _ => 0))), (q7, .inl (D.2 0, 15, .inl (fun _ => 0))), (q6, .inl (D.2 0, 5, .inl (fun _ => 0))), (q5, .inl (D.2 1, 900, .inl (fun _ => 0))), (q4, .inl (D.2 2, 60, .inr (.inl (fun _ => 0)))), (q3, .inl (D.2 2, 240, .inr (.inl (fun _ => 0)))), (q2, .inl (D.2 0, 4, .inl (fun _ => 0))), (q1, .inl (D.2 0, 4, .inl (fun _ => 0))), (b, .inr (3, [.int 0, .ref q1, .ref q2, .ref q3, .ref q4, .ref q5, .int 0, .int 0, .int 0, .int 0, .int 0, .long 0, .int 0, .int 0, .int 0, .int (-1), .ref q6, .ref q7, .ref q8, .ref q9, .ref q10, .ref q11, .ref q12, .ref q13, .int 0, .int 0, .int 0, .int 0, .null, .int 0, .int 0]))]) rfl ?_
  refine gl_putF (q0 := 14) (fs := [.int 0, .ref q1, .ref q2, .ref q3, .ref q4, .ref q5, .int 0, .int 0, .int 0, .int 0, .int 0, .long 0, .int 0, .int 0, .int 0, .int (-1), .ref q6, .ref q7, .ref q8, .ref q9, .ref q10, .ref q11, .ref q12, .ref q13, .int 0, .int 0, .int 0, .int 0, .null, .int 0, .int 0]) (Ws' := (gw_st [(q14, .inl (D.2 0, 576, .inl (fun _ => 0))), (q13, .inl (D.2 0, 8, .inl (fun _ => 0))), (q12, .inl (D.2 0, 8, .inl (fun _ => 0))), (q11, .inl (D.2 0, 8, .inl (fun _ => 0))), (q10, .inl (D.2 3, 3, .inl (fun _ => 0))), (q9, .inl (D.2 0, 1000, .inl (fun _ => 0))), (q8, .inl (D.2 0, 200, .inl (fun _ => 0))), (q7, .inl (D.2 0, 15, .inl (fun _ => 0))), (q6, .inl (D.2 0, 5, .inl (fun _ => 0))), (q5, .inl (D.2 1, 900, .inl (fun _ => 0))), (q4, .inl (D.2 2, 60, .inr (.inl (fun _ => 0)))), (q3, .inl (D.2 2, 240, .inr (.inl (fun _ => 0)))), (q2, .inl (D.2 0, 4, .inl (fun _ => 0))), (q1, .inl (D.2 0, 4, .inl (fun _ => 0))), (b, .inr (3, [.int 0, .ref q1, .ref q2, .ref q3, .ref q4, .ref q5, .int 0, .int 0, .int 0, .int 0, .int 0, .long 0, .int 0, .int 0, .int 0, .int (-1), .ref q6, .ref q7, .ref q8, .ref q9, .ref q10, .ref q11, .ref q12, .ref q13, .int 0, .int 0, .int 0, .int 0, .ref q14, .int 0, .int 0]))] Wr)) (ty := tyX3 28) hI X 122 tyX3 tyX3_ok nmX3 in_X3 gl_cl3 (gl_at rfl) 28 (by decide) q1422 rfl rfl rfl (tyX3_ok 28 (by decide)) rfl rfl (Nat.le_of_ble_eq_true rfl) (gl_set rfl rfl) dX3_init_119 rfl ?_
  refine gw_iconst X 123 dX3_init_122 rfl gw_ci_0 ?_
  refine gw_istore_n X 124 [(1, .int 0), (0, .ref b)] dX3_init_123 rfl rfl (by decide) rfl ?_
  refine gw_iload_n X 125 0 dX3_init_124 rfl rfl rfl ?_
  refine gw_iconst X 126 dX3_init_125 rfl gw_ci_4 ?_
  refine gw_icmp_ge X 142 129 dX3_init_126 rfl rfl (fun z => absurd z (by decide)) (fun _ => ?_)
  refine gw_aload_n X 130 1 dX3_init_129 rfl rfl rfl ?_
  refine gl_get (q0 := 14) (fs := [.int 0, .ref q1, .ref q2, .ref q3, .ref q4, .ref q5, .int 0, .int 0, .int 0, .int 0, .int 0, .long 0, .int 0, .int 0, .int 0, .int (-1), .ref q6, .ref q7, .ref q8, .ref q9, .ref q10, .ref q11, .ref q12, .ref q13, .int 0, .int 0, .int 0, .int 0, .ref q14, .int 0, .int 0]) X 133 in_X3 gl_cl3 (gl_at rfl) 1 (by decide) q1395 rfl rfl dX3_init_130 rfl ?_
  refine gw_iload_n X 134 0 dX3_init_133 rfl rfl rfl ?_
  refine gw_iconst X 135 dX3_init_134 rfl gw_ci_m1 ?_
  refine gl_iast (q0 := 13) (Ws' := (gw_st [(q14, .inl (D.2 0, 576, .inl (fun _ => 0))), (q13, .inl (D.2 0, 8, .inl (fun _ => 0))), (q12, .inl (D.2 0, 8, .inl (fun _ => 0))), (q11, .inl (D.2 0, 8, .inl (fun _ => 0))), (q10, .inl (D.2 3, 3, .inl (fun _ => 0))), (q9, .inl (D.2 0, 1000, .inl (fun _ => 0))), (q8, .inl (D.2 0, 200, .inl (fun _ => 0))), (q7, .inl (D.2 0, 15, .inl (fun _ => 0))), (q6, .inl (D.2 0, 5, .inl (fun _ => 0))), (q5, .inl (D.2 1, 900, .inl (fun _ => 0))), (q4, .inl (D.2 2, 60, .inr (.inl (fun _ => 0)))), (q3, .inl (D.2 2, 240, .inr (.inl (fun _ => 0)))), (q2, .inl (D.2 0, 4, .inl (fun _ => 0))), (q1, .inl (D.2 0, 4, .inl (upd (fun _ => 0) 0 (-1)))), (b, .inr (3, [.int 0, .ref q1, .ref q2, .ref q3, .ref q4, .ref q5, .int 0, .int 0, .int 0, .int 0, .int 0, .long 0, .int 0, .int 0, .int 0, .int (-1), .ref q6, .ref q7, .ref q8, .ref q9, .ref q10, .ref q11, .ref q12, .ref q13, .int 0, .int 0, .int 0, .int 0, .ref q14, .int 0, .int 0]))] Wr)) X 136 (gl_at rfl) (gw_in rfl) (gl_set rfl rfl) dX3_init_135 rfl ?_
  refine gw_iinc X 139 0 [(1, .int ((0 : Int32) + 1)), (0, .ref b)] dX3_init_136 rfl rfl gw_ci_1 (by decide) rfl ?_
  refine gl_lveq (lv' := [(1, .int 1), (0, .ref b)]) (show ((0 : Int32) + 1 : Int32) = 1 by decide) rfl ?_
  refine gw_goto X 124 dX3_init_139 rfl ?_
  refine gw_iload_n X 125 0 dX3_init_124 rfl rfl rfl ?_
  refine gw_iconst X 126 dX3_init_125 rfl gw_ci_4 ?_
  refine gw_icmp_ge X 142 129 dX3_init_126 rfl rfl (fun z => absurd z (by decide)) (fun _ => ?_)
  refine gw_aload_n X 130 1 dX3_init_129 rfl rfl rfl ?_
  refine gl_get (q0 := 14) (fs := [.int 0, .ref q1, .ref q2, .ref q3, .ref q4, .ref q5, .int 0, .int 0, .int 0, .int 0, .int 0, .long 0, .int 0, .int 0, .int 0, .int (-1), .ref q6, .ref q7, .ref q8, .ref q9, .ref q10, .ref q11, .ref q12, .ref q13, .int 0, .int 0, .int 0, .int 0, .ref q14, .int 0, .int 0]) X 133 in_X3 gl_cl3 (gl_at rfl) 1 (by decide) q1395 rfl rfl dX3_init_130 rfl ?_
  refine gw_iload_n X 134 0 dX3_init_133 rfl rfl rfl ?_
  refine gw_iconst X 135 dX3_init_134 rfl gw_ci_m1 ?_
  refine gl_iast (q0 := 13) (Ws' := (gw_st [(q14, .inl (D.2 0, 576, .inl (fun _ => 0))), (q13, .inl (D.2 0, 8, .inl (fun _ => 0))), (q12, .inl (D.2 0, 8, .inl (fun _ => 0))), (q11, .inl (D.2 0, 8, .inl (fun _ => 0))), (q10, .inl (D.2 3, 3, .inl (fun _ => 0))), (q9, .inl (D.2 0, 1000, .inl (fun _ => 0))), (q8, .inl (D.2 0, 200, .inl (fun _ => 0))), (q7, .inl (D.2 0, 15, .inl (fun _ => 0))), (q6, .inl (D.2 0, 5, .inl (fun _ => 0))), (q5, .inl (D.2 1, 900, .inl (fun _ => 0))), (q4, .inl (D.2 2, 60, .inr (.inl (fun _ => 0)))), (q3, .inl (D.2 2, 240, .inr (.inl (fun _ => 0)))), (q2, .inl (D.2 0, 4, .inl (fun _ => 0))), (q1, .inl (D.2 0, 4, .inl (upd (upd (fun _ => 0) 0 (-1)) 1 (-1)))), (b, .inr (3, [.int 0, .ref q1, .ref q2, .ref q3, .ref q4, .ref q5, .int 0, .int 0, .int 0, .int 0, .int 0, .long 0, .int 0, .int 0, .int 0, .int (-1), .ref q6, .ref q7, .ref q8, .ref q9, .ref q10, .ref q11, .ref q12, .ref q13, .int 0, .int 0, .int 0, .int 0, .ref q14, .int 0, .int 0]))] Wr)) X 136 (gl_at rfl) (gw_in rfl) (gl_set rfl rfl) dX3_init_135 rfl ?_
  refine gw_iinc X 139 0 [(1, .int ((1 : Int32) + 1)), (0, .ref b)] dX3_init_136 rfl rfl gw_ci_1 (by decide) rfl ?_
  refine gl_lveq (lv' := [(1, .int 2), (0, .ref b)]) (show ((1 : Int32) + 1 : Int32) = 2 by decide) rfl ?_
  refine gw_goto X 124 dX3_init_139 rfl ?_
  refine gw_iload_n X 125 0 dX3_init_124 rfl rfl rfl ?_
  refine gw_iconst X 126 dX3_init_125 rfl gw_ci_4 ?_
  refine gw_icmp_ge X 142 129 dX3_init_126 rfl rfl (fun z => absurd z (by decide)) (fun _ => ?_)
  refine gw_aload_n X 130 1 dX3_init_129 rfl rfl rfl ?_
  refine gl_get (q0 := 14) (fs := [.int 0, .ref q1, .ref q2, .ref q3, .ref q4, .ref q5, .int 0, .int 0, .int 0, .int 0, .int 0, .long 0, .int 0, .int 0, .int 0, .int (-1), .ref q6, .ref q7, .ref q8, .ref q9, .ref q10, .ref q11, .ref q12, .ref q13, .int 0, .int 0, .int 0, .int 0, .ref q14, .int 0, .int 0]) X 133 in_X3 gl_cl3 (gl_at rfl) 1 (by decide) q1395 rfl rfl dX3_init_130 rfl ?_
  refine gw_iload_n X 134 0 dX3_init_133 rfl rfl rfl ?_
  refine gw_iconst X 135 dX3_init_134 rfl gw_ci_m1 ?_
  refine gl_iast (q0 := 13) (Ws' := (gw_st [(q14, .inl (D.2 0, 576, .inl (fun _ => 0))), (q13, .inl (D.2 0, 8, .inl (fun _ => 0))), (q12, .inl (D.2 0, 8, .inl (fun _ => 0))), (q11, .inl (D.2 0, 8, .inl (fun _ => 0))), (q10, .inl (D.2 3, 3, .inl (fun _ => 0))), (q9, .inl (D.2 0, 1000, .inl (fun _ => 0))), (q8, .inl (D.2 0, 200, .inl (fun _ => 0))), (q7, .inl (D.2 0, 15, .inl (fun _ => 0))), (q6, .inl (D.2 0, 5, .inl (fun _ => 0))), (q5, .inl (D.2 1, 900, .inl (fun _ => 0))), (q4, .inl (D.2 2, 60, .inr (.inl (fun _ => 0)))), (q3, .inl (D.2 2, 240, .inr (.inl (fun _ => 0)))), (q2, .inl (D.2 0, 4, .inl (fun _ => 0))), (q1, .inl (D.2 0, 4, .inl (upd (upd (upd (fun _ => 0) 0 (-1)) 1 (-1)) 2 (-1)))), (b, .inr (3, [.int 0, .ref q1, .ref q2, .ref q3, .ref q4, .ref q5, .int 0, .int 0, .int 0, .int 0, .int 0, .long 0, .int 0, .int 0, .int 0, .int (-1), .ref q6, .ref q7, .ref q8, .ref q9, .ref q10, .ref q11, .ref q12, .ref q13, .int 0, .int 0, .int 0, .int 0, .ref q14, .int 0, .int 0]))] Wr)) X 136 (gl_at rfl) (gw_in rfl) (gl_set rfl rfl) dX3_init_135 rfl ?_
  refine gw_iinc X 139 0 [(1, .int ((2 : Int32) + 1)), (0, .ref b)] dX3_init_136 rfl rfl gw_ci_1 (by decide) rfl ?_
  refine gl_lveq (lv' := [(1, .int 3), (0, .ref b)]) (show ((2 : Int32) + 1 : Int32) = 3 by decide) rfl ?_
  refine gw_goto X 124 dX3_init_139 rfl ?_
  refine gw_iload_n X 125 0 dX3_init_124 rfl rfl rfl ?_
  refine gw_iconst X 126 dX3_init_125 rfl gw_ci_4 ?_
  refine gw_icmp_ge X 142 129 dX3_init_126 rfl rfl (fun z => absurd z (by decide)) (fun _ => ?_)
  refine gw_aload_n X 130 1 dX3_init_129 rfl rfl rfl ?_
  refine gl_get (q0 := 14) (fs := [.int 0, .ref q1, .ref q2, .ref q3, .ref q4, .ref q5, .int 0, .int 0, .int 0, .int 0, .int 0, .long 0, .int 0, .int 0, .int 0, .int (-1), .ref q6, .ref q7, .ref q8, .ref q9, .ref q10, .ref q11, .ref q12, .ref q13, .int 0, .int 0, .int 0, .int 0, .ref q14, .int 0, .int 0]) X 133 in_X3 gl_cl3 (gl_at rfl) 1 (by decide) q1395 rfl rfl dX3_init_130 rfl ?_
  refine gw_iload_n X 134 0 dX3_init_133 rfl rfl rfl ?_
  refine gw_iconst X 135 dX3_init_134 rfl gw_ci_m1 ?_
  refine gl_iast (q0 := 13) (Ws' := (gw_st [(q14, .inl (D.2 0, 576, .inl (fun _ => 0))), (q13, .inl (D.2 0, 8, .inl (fun _ => 0))), (q12, .inl (D.2 0, 8, .inl (fun _ => 0))), (q11, .inl (D.2 0, 8, .inl (fun _ => 0))), (q10, .inl (D.2 3, 3, .inl (fun _ => 0))), (q9, .inl (D.2 0, 1000, .inl (fun _ => 0))), (q8, .inl (D.2 0, 200, .inl (fun _ => 0))), (q7, .inl (D.2 0, 15, .inl (fun _ => 0))), (q6, .inl (D.2 0, 5, .inl (fun _ => 0))), (q5, .inl (D.2 1, 900, .inl (fun _ => 0))), (q4, .inl (D.2 2, 60, .inr (.inl (fun _ => 0)))), (q3, .inl (D.2 2, 240, .inr (.inl (fun _ => 0)))), (q2, .inl (D.2 0, 4, .inl (fun _ => 0))), (q1, .inl (D.2 0, 4, .inl (upd (upd (upd (upd (fun _ => 0) 0 (-1)) 1 (-1)) 2 (-1)) 3 (-1)))), (b, .inr (3, [.int 0, .ref q1, .ref q2, .ref q3, .ref q4, .ref q5, .int 0, .int 0, .int 0, .int 0, .int 0, .long 0, .int 0, .int 0, .int 0, .int (-1), .ref q6, .ref q7, .ref q8, .ref q9, .ref q10, .ref q11, .ref q12, .ref q13, .int 0, .int 0, .int 0, .int 0, .ref q14, .int 0, .int 0]))] Wr)) X 136 (gl_at rfl) (gw_in rfl) (gl_set rfl rfl) dX3_init_135 rfl ?_
  refine gw_iinc X 139 0 [(1, .int ((3 : Int32) + 1)), (0, .ref b)] dX3_init_136 rfl rfl gw_ci_1 (by decide) rfl ?_
  refine gl_lveq (lv' := [(1, .int 4), (0, .ref b)]) (show ((3 : Int32) + 1 : Int32) = 4 by decide) rfl ?_
  refine gw_goto X 124 dX3_init_139 rfl ?_
  refine gw_iload_n X 125 0 dX3_init_124 rfl rfl rfl ?_
  refine gw_iconst X 126 dX3_init_125 rfl gw_ci_4 ?_
  refine gw_icmp_ge X 142 129 dX3_init_126 rfl rfl (fun _ => ?_) (fun z => absurd (by decide) z)
  exact gw_vret X dX3_init_142 (fun _ h => ⟨q1, q2, q3, q4, q5, q6, q7, q8, q9, q10, q11, q12, q13, q14, rfl, h⟩) (Nat.le_of_ble_eq_true rfl) (Nat.le_of_ble_eq_true rfl)
abbrev rml_X0_init : Room := { frames := 4, cells := 20, slots := 1085, locals := 80 }
set_option maxHeartbeats 4000000 in
theorem lm_X0_init {l : Launch} {D : gw_D} {Wr : va_W → Prop} {b : Nat}  : gw_Ct D l yX0_init cX0_init 1 none rml_X0_init [.ref b] (gw_st [(b, .inr (0, [.null, .null, .int 0, .int 0, .int 0, .int 0, .int 0, .int 0, .int 0, .null, .null, .null, .null, .null, .null, .int 0, .int 0, .int 0, .int 0, .int 0, .null, .null, .null]))] Wr) (fun v u => ∃ q1 y2_1 y2_2 y2_3 y2_4 y2_5 q3 q4 q5 q6 q7 q9 q10 q11 q12 q13 q15 q17 q19 q21, v = none ∧ (gw_st [(q21, .inr (11, [.int 0, .ref (D.2 100), .int 0])), (q19, .inr (2, [.null])), (q17, .inr (2, [.null])), (q15, .inr (2, [.null])), (q13, .inr (2, [.null])), (q12, .inl (D.2 5, 4, .inr (.inr (.inr (.inr (va_up (va_up (va_up (va_up (fun _ => none) 0 (some q13)) 1 (some q15)) 2 (some q17)) 3 (some q19))))))), (q11, .inl (D.2 0, 8, .inl (fun _ => 0))), (q10, .inl (D.2 0, 8, .inl (fun _ => 0))), (q9, .inl (D.2 0, 48, .inl (fun _ => 0))), (q7, .inr (11, [.int 0, .ref (D.2 100), .int 0])), (q6, .inl (D.2 0, 8, .inl (fun _ => 0))), (q5, .inl (D.2 0, 8, .inl (fun _ => 0))), (q4, .inl (D.2 0, 8, .inl (fun _ => 0))), (q3, .inl (D.2 1, 900, .inl (fun _ => 0))), (y2_5, .inl (D.2 0, 40, .inl (fun _ => 0))), (y2_4, .inl (D.2 0, 8, .inl (fun _ => 0))), (y2_3, .inl (D.2 0, 8, .inl (fun _ => 0))), (y2_2, .inl (D.2 0, 8, .inl (fun _ => 0))), (y2_1, .inl (D.2 0, 8, .inl (fun _ => 0))), (q1, .inr (1, [.int 0, .int 0, .int 0, .int 0, .int 0, .int 0, .ref y2_1, .ref y2_2, .ref y2_3, .ref y2_4, .ref y2_5])), (b, .inr (0, [.ref q1, .ref q3, .int 0, .int 0, .int (-1), .int 0, .int 0, .int 0, .int 0, .ref q4, .ref q5, .ref q6, .ref q7, .ref q9, .ref q10, .int 0, .int 0, .int 0, .int 0, .int 0, .ref q11, .ref q12, .ref q21]))] Wr) u) := by
  refine gw_ctI (own := RX0) [(0, .ref b)] (by decide) rfl rfl (Nat.le_of_ble_eq_true rfl) rfl ?_
  intro E X hI
  refine gw_aload_n X 1 0 dX0_init_0 rfl rfl rfl ?_
  refine gl_objInit X 4 q176 q177 q178 rfl rfl dX0_init_1 rfl ?_
  refine gw_aload_n X 5 0 dX0_init_4 rfl rfl rfl ?_
  refine gl_new (fs := [.int 0, .int 0, .int 0, .int 0, .int 0, .int 0, .null, .null, .null, .null, .null]) X 8 tyX1 tyX1_ok in_X1 gl_cl1 q179 q180 q137 gl_dfX1 rfl dX0_init_5 rfl rfl rfl (fun q1 => ?_)
  refine gl_merge (w := [(q1, .inr (1, [.int 0, .int 0, .int 0, .int 0, .int 0, .int 0, .null, .null, .null, .null, .null])), (b, .inr (0, [.null, .null, .int 0, .int 0, .int 0, .int 0, .int 0, .int 0, .int 0, .null, .null, .null, .null, .null, .null, .int 0, .int 0, .int 0, .int 0, .int 0, .null, .null, .null]))]) rfl ?_
  refine gw_dup X 9 dX0_init_8 rfl rfl ?_
  refine gl_split (w1 := [(q1, .inr (1, [.int 0, .int 0, .int 0, .int 0, .int 0, .int 0, .null, .null, .null, .null, .null]))]) (w2 := [(b, .inr (0, [.null, .null, .int 0, .int 0, .int 0, .int 0, .int 0, .int 0, .int 0, .null, .null, .null, .null, .null, .null, .int 0, .int 0, .int 0, .int 0, .int 0, .null, .null, .null]))]) rfl ?_
  refine gl_callIN X 12 [] (lm_X1_init (b := q1)) q181 (lw_meth q183) q182 q137 rfl yd_X1_init rfl rfl rfl dX0_init_9 rfl ?_
  rintro v u ⟨y2_1, y2_2, y2_3, y2_4, y2_5, rfl, hu⟩
  revert u
  show gw_W E 12 _ (_) (gw_st [(y2_5, .inl (D.2 0, 40, .inl (fun _ => 0))), (y2_4, .inl (D.2 0, 8, .inl (fun _ => 0))), (y2_3, .inl (D.2 0, 8, .inl (fun _ => 0))), (y2_2, .inl (D.2 0, 8, .inl (fun _ => 0))), (y2_1, .inl (D.2 0, 8, .inl (fun _ => 0))), (q1, .inr (1, [.int 0, .int 0, .int 0, .int 0, .int 0, .int 0, .ref y2_1, .ref y2_2, .ref y2_3, .ref y2_4, .ref y2_5]))] (gw_st [(b, .inr (0, [.null, .null, .int 0, .int 0, .int 0, .int 0, .int 0, .int 0, .int 0, .null, .null, .null, .null, .null, .null, .int 0, .int 0, .int 0, .int 0, .int 0, .null, .null, .null]))] Wr)) 6 83
  refine gl_merge (w := [(y2_5, .inl (D.2 0, 40, .inl (fun _ => 0))), (y2_4, .inl (D.2 0, 8, .inl (fun _ => 0))), (y2_3, .inl (D.2 0, 8, .inl (fun _ => 0))), (y2_2, .inl (D.2 0, 8, .inl (fun _ => 0))), (y2_1, .inl (D.2 0, 8, .inl (fun _ => 0))), (q1, .inr (1, [.int 0, .int 0, .int 0, .int 0, .int 0, .int 0, .ref y2_1, .ref y2_2, .ref y2_3, .ref y2_4, .ref y2_5])), (b, .inr (0, [.null, .null, .int 0, .int 0, .int 0, .int 0, .int 0, .int 0, .int 0, .null, .null, .null, .null, .null, .null, .int 0, .int 0, .int 0, .int 0, .int 0, .null, .null, .null]))]) rfl ?_
  refine gl_put (q0 := 6) (fs := [.null, .null, .int 0, .int 0, .int 0, .int 0, .int 0, .int 0, .int 0, .null, .null, .null, .null, .null, .null, .int 0, .int 0, .int 0, .int 0, .int 0, .null, .null, .null]) (Ws' := (gw_st [(y2_5, .inl (D.2 0, 40, .inl (fun _ => 0))), (y2_4, .inl (D.2 0, 8, .inl (fun _ => 0))), (y2_3, .inl (D.2 0, 8, .inl (fun _ => 0))), (y2_2, .inl (D.2 0, 8, .inl (fun _ => 0))), (y2_1, .inl (D.2 0, 8, .inl (fun _ => 0))), (q1, .inr (1, [.int 0, .int 0, .int 0, .int 0, .int 0, .int 0, .ref y2_1, .ref y2_2, .ref y2_3, .ref y2_4, .ref y2_5])), (b, .inr (0, [.ref q1, .null, .int 0, .int 0, .int 0, .int 0, .int 0, .int 0, .int 0, .null, .null, .null, .null, .null, .null, .int 0, .int 0, .int 0, .int 0, .int 0, .null, .null, .null]))] Wr)) (ty := tyX0 0) X 15 tyX0 tyX0_ok nmX0 in_X0 gl_cl0 (gl_at rfl) 0 (by decide) q280 rfl rfl (tyX0_ok 0 (by decide)) rfl rfl (Nat.le_of_ble_eq_true rfl) (gl_set rfl rfl) dX0_init_12 rfl ?_
  refine gw_aload_n X 16 0 dX0_init_15 rfl rfl rfl ?_
  refine gw_sipush X 19 dX0_init_16 rfl gw_cs_900 ?_
  refine gl_newa (atype := .byte) (a0 := (900, .inl (fun _ => 0))) X 21 .byte 1 q266 rfl rfl (fun _ _ h => h) (fun _ => rfl) (by decide) rfl (Nat.le_of_ble_eq_true rfl) (Nat.le_of_ble_eq_true rfl) (Nat.le_of_ble_eq_true rfl) dX0_init_19 rfl rfl rfl (fun q3 => ?_)
  refine gl_merge (w := [(q3, .inl (D.2 1, 900, .inl (fun _ => 0))), (y2_5, .inl (D.2 0, 40, .inl (fun _ => 0))), (y2_4, .inl (D.2 0, 8, .inl (fun _ => 0))), (y2_3, .inl (D.2 0, 8, .inl (fun _ => 0))), (y2_2, .inl (D.2 0, 8, .inl (fun _ => 0))), (y2_1, .inl (D.2 0, 8, .inl (fun _ => 0))), (q1, .inr (1, [.int 0, .int 0, .int 0, .int 0, .int 0, .int 0, .ref y2_1, .ref y2_2, .ref y2_3, .ref y2_4, .ref y2_5])), (b, .inr (0, [.ref q1, .null, .int 0, .int 0, .int 0, .int 0, .int 0, .int 0, .int 0, .null, .null, .null, .null, .null, .null, .int 0, .int 0, .int 0, .int 0, .int 0, .null, .null, .null]))]) rfl ?_
  refine gl_putF (q0 := 7) (fs := [.ref q1, .null, .int 0, .int 0, .int 0, .int 0, .int 0, .int 0, .int 0, .null, .null, .null, .null, .null, .null, .int 0, .int 0, .int 0, .int 0, .int 0, .null, .null, .null]) (Ws' := (gw_st [(q3, .inl (D.2 1, 900, .inl (fun _ => 0))), (y2_5, .inl (D.2 0, 40, .inl (fun _ => 0))), (y2_4, .inl (D.2 0, 8, .inl (fun _ => 0))), (y2_3, .inl (D.2 0, 8, .inl (fun _ => 0))), (y2_2, .inl (D.2 0, 8, .inl (fun _ => 0))), (y2_1, .inl (D.2 0, 8, .inl (fun _ => 0))), (q1, .inr (1, [.int 0, .int 0, .int 0, .int 0, .int 0, .int 0, .ref y2_1, .ref y2_2, .ref y2_3, .ref y2_4, .ref y2_5])), (b, .inr (0, [.ref q1, .ref q3, .int 0, .int 0, .int 0, .int 0, .int 0, .int 0, .int 0, .null, .null, .null, .null, .null, .null, .int 0, .int 0, .int 0, .int 0, .int 0, .null, .null, .null]))] Wr)) (ty := tyX0 1) hI X 24 tyX0 tyX0_ok nmX0 in_X0 gl_cl0 (gl_at rfl) 1 (by decide) q282 rfl rfl rfl (tyX0_ok 1 (by decide)) rfl rfl (Nat.le_of_ble_eq_true rfl) (gl_set rfl rfl) dX0_init_21 rfl ?_
  refine gw_aload_n X 25 0 dX0_init_24 rfl rfl rfl ?_
  refine gw_iconst X 26 dX0_init_25 rfl gw_ci_m1 ?_
  refine gl_put (q0 := 7) (fs := [.ref q1, .ref q3, .int 0, .int 0, .int 0, .int 0, .int 0, .int 0, .int 0, .null, .null, .null, .null, .null, .null, .int 0, .int 0, .int 0, .int 0, .int 0, .null, .null, .null]) (Ws' := (gw_st [(q3, .inl (D.2 1, 900, .inl (fun _ => 0))), (y2_5, .inl (D.2 0, 40, .inl (fun _ => 0))), (y2_4, .inl (D.2 0, 8, .inl (fun _ => 0))), (y2_3, .inl (D.2 0, 8, .inl (fun _ => 0))), (y2_2, .inl (D.2 0, 8, .inl (fun _ => 0))), (y2_1, .inl (D.2 0, 8, .inl (fun _ => 0))), (q1, .inr (1, [.int 0, .int 0, .int 0, .int 0, .int 0, .int 0, .ref y2_1, .ref y2_2, .ref y2_3, .ref y2_4, .ref y2_5])), (b, .inr (0, [.ref q1, .ref q3, .int 0, .int 0, .int (-1), .int 0, .int 0, .int 0, .int 0, .null, .null, .null, .null, .null, .null, .int 0, .int 0, .int 0, .int 0, .int 0, .null, .null, .null]))] Wr)) (ty := tyX0 4) X 29 tyX0 tyX0_ok nmX0 in_X0 gl_cl0 (gl_at rfl) 4 (by decide) q286 rfl rfl (tyX0_ok 4 (by decide)) rfl rfl (Nat.le_of_ble_eq_true rfl) (gl_set rfl rfl) dX0_init_26 rfl ?_
  refine gw_aload_n X 30 0 dX0_init_29 rfl rfl rfl ?_
  refine gw_bipush X 32 dX0_init_30 rfl gw_cb_8 ?_
  refine gl_newa (atype := .int) (a0 := (8, .inl (fun _ => 0))) X 34 .int 0 q239 rfl rfl (fun _ _ h => h) (fun _ => rfl) (by decide) rfl (Nat.le_of_ble_eq_true rfl) (Nat.le_of_ble_eq_true rfl) (Nat.le_of_ble_eq_true rfl) dX0_init_32 rfl rfl rfl (fun q4 => ?_)
  refine gl_merge (w := [(q4, .inl (D.2 0, 8, .inl (fun _ => 0))), (q3, .inl (D.2 1, 900, .inl (fun _ => 0))), (y2_5, .inl (D.2 0, 40, .inl (fun _ => 0))), (y2_4, .inl (D.2 0, 8, .inl (fun _ => 0))), (y2_3, .inl (D.2 0, 8, .inl (fun _ => 0))), (y2_2, .inl (D.2 0, 8, .inl (fun _ => 0))), (y2_1, .inl (D.2 0, 8, .inl (fun _ => 0))), (q1, .inr (1, [.int 0, .int 0, .int 0, .int 0, .int 0, .int 0, .ref y2_1, .ref y2_2, .ref y2_3, .ref y2_4, .ref y2_5])), (b, .inr (0, [.ref q1, .ref q3, .int 0, .int 0, .int (-1), .int 0, .int 0, .int 0, .int 0, .null, .null, .null, .null, .null, .null, .int 0, .int 0, .int 0, .int 0, .int 0, .null, .null, .null]))]) rfl ?_
  refine gl_putF (q0 := 8) (fs := [.ref q1, .ref q3, .int 0, .int 0, .int (-1), .int 0, .int 0, .int 0, .int 0, .null, .null, .null, .null, .null, .null, .int 0, .int 0, .int 0, .int 0, .int 0, .null, .null, .null]) (Ws' := (gw_st [(q4, .inl (D.2 0, 8, .inl (fun _ => 0))), (q3, .inl (D.2 1, 900, .inl (fun _ => 0))), (y2_5, .inl (D.2 0, 40, .inl (fun _ => 0))), (y2_4, .inl (D.2 0, 8, .inl (fun _ => 0))), (y2_3, .inl (D.2 0, 8, .inl (fun _ => 0))), (y2_2, .inl (D.2 0, 8, .inl (fun _ => 0))), (y2_1, .inl (D.2 0, 8, .inl (fun _ => 0))), (q1, .inr (1, [.int 0, .int 0, .int 0, .int 0, .int 0, .int 0, .ref y2_1, .ref y2_2, .ref y2_3, .ref y2_4, .ref y2_5])), (b, .inr (0, [.ref q1, .ref q3, .int 0, .int 0, .int (-1), .int 0, .int 0, .int 0, .int 0, .ref q4, .null, .null, .null, .null, .null, .int 0, .int 0, .int 0, .int 0, .int 0, .null, .null, .null]))] Wr)) (ty := tyX0 9) hI X 37 tyX0 tyX0_ok nmX0 in_X0 gl_cl0 (gl_at rfl) 9 (by decide) q303 rfl rfl rfl (tyX0_ok 9 (by decide)) rfl rfl (Nat.le_of_ble_eq_true rfl) (gl_set rfl rfl) dX0_init_34 rfl ?_
  refine gw_aload_n X 38 0 dX0_init_37 rfl rfl rfl ?_
  refine gw_bipush X 40 dX0_init_38 rfl gw_cb_8 ?_
  refine gl_newa (atype := .int) (a0 := (8, .inl (fun _ => 0))) X 42 .int 0 q239 rfl rfl (fun _ _ h => h) (fun _ => rfl) (by decide) rfl (Nat.le_of_ble_eq_true rfl) (Nat.le_of_ble_eq_true rfl) (Nat.le_of_ble_eq_true rfl) dX0_init_40 rfl rfl rfl (fun q5 => ?_)
  refine gl_merge (w := [(q5, .inl (D.2 0, 8, .inl (fun _ => 0))), (q4, .inl (D.2 0, 8, .inl (fun _ => 0))), (q3, .inl (D.2 1, 900, .inl (fun _ => 0))), (y2_5, .inl (D.2 0, 40, .inl (fun _ => 0))), (y2_4, .inl (D.2 0, 8, .inl (fun _ => 0))), (y2_3, .inl (D.2 0, 8, .inl (fun _ => 0))), (y2_2, .inl (D.2 0, 8, .inl (fun _ => 0))), (y2_1, .inl (D.2 0, 8, .inl (fun _ => 0))), (q1, .inr (1, [.int 0, .int 0, .int 0, .int 0, .int 0, .int 0, .ref y2_1, .ref y2_2, .ref y2_3, .ref y2_4, .ref y2_5])), (b, .inr (0, [.ref q1, .ref q3, .int 0, .int 0, .int (-1), .int 0, .int 0, .int 0, .int 0, .ref q4, .null, .null, .null, .null, .null, .int 0, .int 0, .int 0, .int 0, .int 0, .null, .null, .null]))]) rfl ?_
  refine gl_putF (q0 := 9) (fs := [.ref q1, .ref q3, .int 0, .int 0, .int (-1), .int 0, .int 0, .int 0, .int 0, .ref q4, .null, .null, .null, .null, .null, .int 0, .int 0, .int 0, .int 0, .int 0, .null, .null, .null]) (Ws' := (gw_st [(q5, .inl (D.2 0, 8, .inl (fun _ => 0))), (q4, .inl (D.2 0, 8, .inl (fun _ => 0))), (q3, .inl (D.2 1, 900, .inl (fun _ => 0))), (y2_5, .inl (D.2 0, 40, .inl (fun _ => 0))), (y2_4, .inl (D.2 0, 8, .inl (fun _ => 0))), (y2_3, .inl (D.2 0, 8, .inl (fun _ => 0))), (y2_2, .inl (D.2 0, 8, .inl (fun _ => 0))), (y2_1, .inl (D.2 0, 8, .inl (fun _ => 0))), (q1, .inr (1, [.int 0, .int 0, .int 0, .int 0, .int 0, .int 0, .ref y2_1, .ref y2_2, .ref y2_3, .ref y2_4, .ref y2_5])), (b, .inr (0, [.ref q1, .ref q3, .int 0, .int 0, .int (-1), .int 0, .int 0, .int 0, .int 0, .ref q4, .ref q5, .null, .null, .null, .null, .int 0, .int 0, .int 0, .int 0, .int 0, .null, .null, .null]))] Wr)) (ty := tyX0 10) hI X 45 tyX0 tyX0_ok nmX0 in_X0 gl_cl0 (gl_at rfl) 10 (by decide) q305 rfl rfl rfl (tyX0_ok 10 (by decide)) rfl rfl (Nat.le_of_ble_eq_true rfl) (gl_set rfl rfl) dX0_init_42 rfl ?_
  refine gw_aload_n X 46 0 dX0_init_45 rfl rfl rfl ?_
  refine gw_bipush X 48 dX0_init_46 rfl gw_cb_8 ?_
  refine gl_newa (atype := .int) (a0 := (8, .inl (fun _ => 0))) X 50 .int 0 q239 rfl rfl (fun _ _ h => h) (fun _ => rfl) (by decide) rfl (Nat.le_of_ble_eq_true rfl) (Nat.le_of_ble_eq_true rfl) (Nat.le_of_ble_eq_true rfl) dX0_init_48 rfl rfl rfl (fun q6 => ?_)
  refine gl_merge (w := [(q6, .inl (D.2 0, 8, .inl (fun _ => 0))), (q5, .inl (D.2 0, 8, .inl (fun _ => 0))), (q4, .inl (D.2 0, 8, .inl (fun _ => 0))), (q3, .inl (D.2 1, 900, .inl (fun _ => 0))), (y2_5, .inl (D.2 0, 40, .inl (fun _ => 0))), (y2_4, .inl (D.2 0, 8, .inl (fun _ => 0))), (y2_3, .inl (D.2 0, 8, .inl (fun _ => 0))), (y2_2, .inl (D.2 0, 8, .inl (fun _ => 0))), (y2_1, .inl (D.2 0, 8, .inl (fun _ => 0))), (q1, .inr (1, [.int 0, .int 0, .int 0, .int 0, .int 0, .int 0, .ref y2_1, .ref y2_2, .ref y2_3, .ref y2_4, .ref y2_5])), (b, .inr (0, [.ref q1, .ref q3, .int 0, .int 0, .int (-1), .int 0, .int 0, .int 0, .int 0, .ref q4, .ref q5, .null, .null, .null, .null, .int 0, .int 0, .int 0, .int 0, .int 0, .null, .null, .null]))]) rfl ?_
  refine gl_putF (q0 := 10) (fs := [.ref q1, .ref q3, .int 0, .int 0, .int (-1), .int 0, .int 0, .int 0, .int 0, .ref q4, .ref q5, .null, .null, .null, .null, .int 0, .int 0, .int 0, .int 0, .int 0, .null, .null, .null]) (Ws' := (gw_st [(q6, .inl (D.2 0, 8, .inl (fun _ => 0))), (q5, .inl (D.2 0, 8, .inl (fun _ => 0))), (q4, .inl (D.2 0, 8, .inl (fun _ => 0))), (q3, .inl (D.2 1, 900, .inl (fun _ => 0))), (y2_5, .inl (D.2 0, 40, .inl (fun _ => 0))), (y2_4, .inl (D.2 0, 8, .inl (fun _ => 0))), (y2_3, .inl (D.2 0, 8, .inl (fun _ => 0))), (y2_2, .inl (D.2 0, 8, .inl (fun _ => 0))), (y2_1, .inl (D.2 0, 8, .inl (fun _ => 0))), (q1, .inr (1, [.int 0, .int 0, .int 0, .int 0, .int 0, .int 0, .ref y2_1, .ref y2_2, .ref y2_3, .ref y2_4, .ref y2_5])), (b, .inr (0, [.ref q1, .ref q3, .int 0, .int 0, .int (-1), .int 0, .int 0, .int 0, .int 0, .ref q4, .ref q5, .ref q6, .null, .null, .null, .int 0, .int 0, .int 0, .int 0, .int 0, .null, .null, .null]))] Wr)) (ty := tyX0 11) hI X 53 tyX0 tyX0_ok nmX0 in_X0 gl_cl0 (gl_at rfl) 11 (by decide) q308 rfl rfl rfl (tyX0_ok 11 (by decide)) rfl rfl (Nat.le_of_ble_eq_true rfl) (gl_set rfl rfl) dX0_init_50 rfl ?_
  refine gw_aload_n X 54 0 dX0_init_53 rfl rfl rfl ?_
  refine gl_new (fs := [.int 0, .null, .int 0]) X 57 tyJ2 tyJ2_ok in_J2 gl_cl11 q240 q241 q140 gl_dfJ2 rfl dX0_init_54 rfl rfl rfl (fun q7 => ?_)
  refine gl_merge (w := [(q7, .inr (11, [.int 0, .null, .int 0])), (q6, .inl (D.2 0, 8, .inl (fun _ => 0))), (q5, .inl (D.2 0, 8, .inl (fun _ => 0))), (q4, .inl (D.2 0, 8, .inl (fun _ => 0))), (q3, .inl (D.2 1, 900, .inl (fun _ => 0))), (y2_5, .inl (D.2 0, 40, .inl (fun _ => 0))), (y2_4, .inl (D.2 0, 8, .inl (fun _ => 0))), (y2_3, .inl (D.2 0, 8, .inl (fun _ => 0))), (y2_2, .inl (D.2 0, 8, .inl (fun _ => 0))), (y2_1, .inl (D.2 0, 8, .inl (fun _ => 0))), (q1, .inr (1, [.int 0, .int 0, .int 0, .int 0, .int 0, .int 0, .ref y2_1, .ref y2_2, .ref y2_3, .ref y2_4, .ref y2_5])), (b, .inr (0, [.ref q1, .ref q3, .int 0, .int 0, .int (-1), .int 0, .int 0, .int 0, .int 0, .ref q4, .ref q5, .ref q6, .null, .null, .null, .int 0, .int 0, .int 0, .int 0, .int 0, .null, .null, .null]))]) rfl ?_
  refine gw_dup X 58 dX0_init_57 rfl rfl ?_
  refine gl_split (w1 := [(q7, .inr (11, [.int 0, .null, .int 0]))]) (w2 := [(q6, .inl (D.2 0, 8, .inl (fun _ => 0))), (q5, .inl (D.2 0, 8, .inl (fun _ => 0))), (q4, .inl (D.2 0, 8, .inl (fun _ => 0))), (q3, .inl (D.2 1, 900, .inl (fun _ => 0))), (y2_5, .inl (D.2 0, 40, .inl (fun _ => 0))), (y2_4, .inl (D.2 0, 8, .inl (fun _ => 0))), (y2_3, .inl (D.2 0, 8, .inl (fun _ => 0))), (y2_2, .inl (D.2 0, 8, .inl (fun _ => 0))), (y2_1, .inl (D.2 0, 8, .inl (fun _ => 0))), (q1, .inr (1, [.int 0, .int 0, .int 0, .int 0, .int 0, .int 0, .ref y2_1, .ref y2_2, .ref y2_3, .ref y2_4, .ref y2_5])), (b, .inr (0, [.ref q1, .ref q3, .int 0, .int 0, .int (-1), .int 0, .int 0, .int 0, .int 0, .ref q4, .ref q5, .ref q6, .null, .null, .null, .int 0, .int 0, .int 0, .int 0, .int 0, .null, .null, .null]))]) rfl ?_
  refine gl_callIv X 61 [] (lm_J2_init (b := q7)) q242 (lw_meth q244) q243 q140 rfl yd_J2_init rfl rfl rfl dX0_init_58 rfl rfl rfl ?_
  refine gl_merge (w := [(q7, .inr (11, [.int 0, .ref (D.2 100), .int 0])), (q6, .inl (D.2 0, 8, .inl (fun _ => 0))), (q5, .inl (D.2 0, 8, .inl (fun _ => 0))), (q4, .inl (D.2 0, 8, .inl (fun _ => 0))), (q3, .inl (D.2 1, 900, .inl (fun _ => 0))), (y2_5, .inl (D.2 0, 40, .inl (fun _ => 0))), (y2_4, .inl (D.2 0, 8, .inl (fun _ => 0))), (y2_3, .inl (D.2 0, 8, .inl (fun _ => 0))), (y2_2, .inl (D.2 0, 8, .inl (fun _ => 0))), (y2_1, .inl (D.2 0, 8, .inl (fun _ => 0))), (q1, .inr (1, [.int 0, .int 0, .int 0, .int 0, .int 0, .int 0, .ref y2_1, .ref y2_2, .ref y2_3, .ref y2_4, .ref y2_5])), (b, .inr (0, [.ref q1, .ref q3, .int 0, .int 0, .int (-1), .int 0, .int 0, .int 0, .int 0, .ref q4, .ref q5, .ref q6, .null, .null, .null, .int 0, .int 0, .int 0, .int 0, .int 0, .null, .null, .null]))]) rfl ?_
  refine gl_putF (q0 := 11) (fs := [.ref q1, .ref q3, .int 0, .int 0, .int (-1), .int 0, .int 0, .int 0, .int 0, .ref q4, .ref q5, .ref q6, .null, .null, .null, .int 0, .int 0, .int 0, .int 0, .int 0, .null, .null, .null]) (Ws' := (gw_st [(q7, .inr (11, [.int 0, .ref (D.2 100), .int 0])), (q6, .inl (D.2 0, 8, .inl (fun _ => 0))), (q5, .inl (D.2 0, 8, .inl (fun _ => 0))), (q4, .inl (D.2 0, 8, .inl (fun _ => 0))), (q3, .inl (D.2 1, 900, .inl (fun _ => 0))), (y2_5, .inl (D.2 0, 40, .inl (fun _ => 0))), (y2_4, .inl (D.2 0, 8, .inl (fun _ => 0))), (y2_3, .inl (D.2 0, 8, .inl (fun _ => 0))), (y2_2, .inl (D.2 0, 8, .inl (fun _ => 0))), (y2_1, .inl (D.2 0, 8, .inl (fun _ => 0))), (q1, .inr (1, [.int 0, .int 0, .int 0, .int 0, .int 0, .int 0, .ref y2_1, .ref y2_2, .ref y2_3, .ref y2_4, .ref y2_5])), (b, .inr (0, [.ref q1, .ref q3, .int 0, .int 0, .int (-1), .int 0, .int 0, .int 0, .int 0, .ref q4, .ref q5, .ref q6, .ref q7, .null, .null, .int 0, .int 0, .int 0, .int 0, .int 0, .null, .null, .null]))] Wr)) (ty := tyX0 12) hI X 64 tyX0 tyX0_ok nmX0 in_X0 gl_cl0 (gl_at rfl) 12 (by decide) q309 rfl rfl rfl (tyX0_ok 12 (by decide)) rfl rfl (Nat.le_of_ble_eq_true rfl) (gl_set rfl rfl) dX0_init_61 rfl ?_
  refine gw_aload_n X 65 0 dX0_init_64 rfl rfl rfl ?_
  refine gw_bipush X 67 dX0_init_65 rfl gw_cb_48 ?_
  refine gl_newa (atype := .int) (a0 := (48, .inl (fun _ => 0))) X 69 .int 0 q239 rfl rfl (fun _ _ h => h) (fun _ => rfl) (by decide) rfl (Nat.le_of_ble_eq_true rfl) (Nat.le_of_ble_eq_true rfl) (Nat.le_of_ble_eq_true rfl) dX0_init_67 rfl rfl rfl (fun q9 => ?_)
  refine gl_merge (w := [(q9, .inl (D.2 0, 48, .inl (fun _ => 0))), (q7, .inr (11, [.int 0, .ref (D.2 100), .int 0])), (q6, .inl (D.2 0, 8, .inl (fun _ => 0))), (q5, .inl (D.2 0, 8, .inl (fun _ => 0))), (q4, .inl (D.2 0, 8, .inl (fun _ => 0))), (q3, .inl (D.2 1, 900, .inl (fun _ => 0))), (y2_5, .inl (D.2 0, 40, .inl (fun _ => 0))), (y2_4, .inl (D.2 0, 8, .inl (fun _ => 0))), (y2_3, .inl (D.2 0, 8, .inl (fun _ => 0))), (y2_2, .inl (D.2 0, 8, .inl (fun _ => 0))), (y2_1, .inl (D.2 0, 8, .inl (fun _ => 0))), (q1, .inr (1, [.int 0, .int 0, .int 0, .int 0, .int 0, .int 0, .ref y2_1, .ref y2_2, .ref y2_3, .ref y2_4, .ref y2_5])), (b, .inr (0, [.ref q1, .ref q3, .int 0, .int 0, .int (-1), .int 0, .int 0, .int 0, .int 0, .ref q4, .ref q5, .ref q6, .ref q7, .null, .null, .int 0, .int 0, .int 0, .int 0, .int 0, .null, .null, .null]))]) rfl ?_
  refine gl_putF (q0 := 12) (fs := [.ref q1, .ref q3, .int 0, .int 0, .int (-1), .int 0, .int 0, .int 0, .int 0, .ref q4, .ref q5, .ref q6, .ref q7, .null, .null, .int 0, .int 0, .int 0, .int 0, .int 0, .null, .null, .null]) (Ws' := (gw_st [(q9, .inl (D.2 0, 48, .inl (fun _ => 0))), (q7, .inr (11, [.int 0, .ref (D.2 100), .int 0])), (q6, .inl (D.2 0, 8, .inl (fun _ => 0))), (q5, .inl (D.2 0, 8, .inl (fun _ => 0))), (q4, .inl (D.2 0, 8, .inl (fun _ => 0))), (q3, .inl (D.2 1, 900, .inl (fun _ => 0))), (y2_5, .inl (D.2 0, 40, .inl (fun _ => 0))), (y2_4, .inl (D.2 0, 8, .inl (fun _ => 0))), (y2_3, .inl (D.2 0, 8, .inl (fun _ => 0))), (y2_2, .inl (D.2 0, 8, .inl (fun _ => 0))), (y2_1, .inl (D.2 0, 8, .inl (fun _ => 0))), (q1, .inr (1, [.int 0, .int 0, .int 0, .int 0, .int 0, .int 0, .ref y2_1, .ref y2_2, .ref y2_3, .ref y2_4, .ref y2_5])), (b, .inr (0, [.ref q1, .ref q3, .int 0, .int 0, .int (-1), .int 0, .int 0, .int 0, .int 0, .ref q4, .ref q5, .ref q6, .ref q7, .ref q9, .null, .int 0, .int 0, .int 0, .int 0, .int 0, .null, .null, .null]))] Wr)) (ty := tyX0 13) hI X 72 tyX0 tyX0_ok nmX0 in_X0 gl_cl0 (gl_at rfl) 13 (by decide) q310 rfl rfl rfl (tyX0_ok 13 (by decide)) rfl rfl (Nat.le_of_ble_eq_true rfl) (gl_set rfl rfl) dX0_init_69 rfl ?_
  refine gw_aload_n X 73 0 dX0_init_72 rfl rfl rfl ?_
  refine gw_bipush X 75 dX0_init_73 rfl gw_cb_8 ?_
  refine gl_newa (atype := .int) (a0 := (8, .inl (fun _ => 0))) X 77 .int 0 q239 rfl rfl (fun _ _ h => h) (fun _ => rfl) (by decide) rfl (Nat.le_of_ble_eq_true rfl) (Nat.le_of_ble_eq_true rfl) (Nat.le_of_ble_eq_true rfl) dX0_init_75 rfl rfl rfl (fun q10 => ?_)
  refine gl_merge (w := [(q10, .inl (D.2 0, 8, .inl (fun _ => 0))), (q9, .inl (D.2 0, 48, .inl (fun _ => 0))), (q7, .inr (11, [.int 0, .ref (D.2 100), .int 0])), (q6, .inl (D.2 0, 8, .inl (fun _ => 0))), (q5, .inl (D.2 0, 8, .inl (fun _ => 0))), (q4, .inl (D.2 0, 8, .inl (fun _ => 0))), (q3, .inl (D.2 1, 900, .inl (fun _ => 0))), (y2_5, .inl (D.2 0, 40, .inl (fun _ => 0))), (y2_4, .inl (D.2 0, 8, .inl (fun _ => 0))), (y2_3, .inl (D.2 0, 8, .inl (fun _ => 0))), (y2_2, .inl (D.2 0, 8, .inl (fun _ => 0))), (y2_1, .inl (D.2 0, 8, .inl (fun _ => 0))), (q1, .inr (1, [.int 0, .int 0, .int 0, .int 0, .int 0, .int 0, .ref y2_1, .ref y2_2, .ref y2_3, .ref y2_4, .ref y2_5])), (b, .inr (0, [.ref q1, .ref q3, .int 0, .int 0, .int (-1), .int 0, .int 0, .int 0, .int 0, .ref q4, .ref q5, .ref q6, .ref q7, .ref q9, .null, .int 0, .int 0, .int 0, .int 0, .int 0, .null, .null, .null]))]) rfl ?_
  refine gl_putF (q0 := 13) (fs := [.ref q1, .ref q3, .int 0, .int 0, .int (-1), .int 0, .int 0, .int 0, .int 0, .ref q4, .ref q5, .ref q6, .ref q7, .ref q9, .null, .int 0, .int 0, .int 0, .int 0, .int 0, .null, .null, .null]) (Ws' := (gw_st [(q10, .inl (D.2 0, 8, .inl (fun _ => 0))), (q9, .inl (D.2 0, 48, .inl (fun _ => 0))), (q7, .inr (11, [.int 0, .ref (D.2 100), .int 0])), (q6, .inl (D.2 0, 8, .inl (fun _ => 0))), (q5, .inl (D.2 0, 8, .inl (fun _ => 0))), (q4, .inl (D.2 0, 8, .inl (fun _ => 0))), (q3, .inl (D.2 1, 900, .inl (fun _ => 0))), (y2_5, .inl (D.2 0, 40, .inl (fun _ => 0))), (y2_4, .inl (D.2 0, 8, .inl (fun _ => 0))), (y2_3, .inl (D.2 0, 8, .inl (fun _ => 0))), (y2_2, .inl (D.2 0, 8, .inl (fun _ => 0))), (y2_1, .inl (D.2 0, 8, .inl (fun _ => 0))), (q1, .inr (1, [.int 0, .int 0, .int 0, .int 0, .int 0, .int 0, .ref y2_1, .ref y2_2, .ref y2_3, .ref y2_4, .ref y2_5])), (b, .inr (0, [.ref q1, .ref q3, .int 0, .int 0, .int (-1), .int 0, .int 0, .int 0, .int 0, .ref q4, .ref q5, .ref q6, .ref q7, .ref q9, .ref q10, .int 0, .int 0, .int 0, .int 0, .int 0, .null, .null, .null]))] Wr)) (ty := tyX0 14) hI X 80 tyX0 tyX0_ok nmX0 in_X0 gl_cl0 (gl_at rfl) 14 (by decide) q311 rfl rfl rfl (tyX0_ok 14 (by decide)) rfl rfl (Nat.le_of_ble_eq_true rfl) (gl_set rfl rfl) dX0_init_77 rfl ?_
  refine gw_aload_n X 81 0 dX0_init_80 rfl rfl rfl ?_
  refine gw_bipush X 83 dX0_init_81 rfl gw_cb_8 ?_
  refine gl_newa (atype := .int) (a0 := (8, .inl (fun _ => 0))) X 85 .int 0 q239 rfl rfl (fun _ _ h => h) (fun _ => rfl) (by decide) rfl (Nat.le_of_ble_eq_true rfl) (Nat.le_of_ble_eq_true rfl) (Nat.le_of_ble_eq_true rfl) dX0_init_83 rfl rfl rfl (fun q11 => ?_)
  refine gl_merge (w := [(q11, .inl (D.2 0, 8, .inl (fun _ => 0))), (q10, .inl (D.2 0, 8, .inl (fun _ => 0))), (q9, .inl (D.2 0, 48, .inl (fun _ => 0))), (q7, .inr (11, [.int 0, .ref (D.2 100), .int 0])), (q6, .inl (D.2 0, 8, .inl (fun _ => 0))), (q5, .inl (D.2 0, 8, .inl (fun _ => 0))), (q4, .inl (D.2 0, 8, .inl (fun _ => 0))), (q3, .inl (D.2 1, 900, .inl (fun _ => 0))), (y2_5, .inl (D.2 0, 40, .inl (fun _ => 0))), (y2_4, .inl (D.2 0, 8, .inl (fun _ => 0))), (y2_3, .inl (D.2 0, 8, .inl (fun _ => 0))), (y2_2, .inl (D.2 0, 8, .inl (fun _ => 0))), (y2_1, .inl (D.2 0, 8, .inl (fun _ => 0))), (q1, .inr (1, [.int 0, .int 0, .int 0, .int 0, .int 0, .int 0, .ref y2_1, .ref y2_2, .ref y2_3, .ref y2_4, .ref y2_5])), (b, .inr (0, [.ref q1, .ref q3, .int 0, .int 0, .int (-1), .int 0, .int 0, .int 0, .int 0, .ref q4, .ref q5, .ref q6, .ref q7, .ref q9, .ref q10, .int 0, .int 0, .int 0, .int 0, .int 0, .null, .null, .null]))]) rfl ?_
  refine gl_putF (q0 := 14) (fs := [.ref q1, .ref q3, .int 0, .int 0, .int (-1), .int 0, .int 0, .int 0, .int 0, .ref q4, .ref q5, .ref q6, .ref q7, .ref q9, .ref q10, .int 0, .int 0, .int 0, .int 0, .int 0, .null, .null, .null]) (Ws' := (gw_st [(q11, .inl (D.2 0, 8, .inl (fun _ => 0))), (q10, .inl (D.2 0, 8, .inl (fun _ => 0))), (q9, .inl (D.2 0, 48, .inl (fun _ => 0))), (q7, .inr (11, [.int 0, .ref (D.2 100), .int 0])), (q6, .inl (D.2 0, 8, .inl (fun _ => 0))), (q5, .inl (D.2 0, 8, .inl (fun _ => 0))), (q4, .inl (D.2 0, 8, .inl (fun _ => 0))), (q3, .inl (D.2 1, 900, .inl (fun _ => 0))), (y2_5, .inl (D.2 0, 40, .inl (fun _ => 0))), (y2_4, .inl (D.2 0, 8, .inl (fun _ => 0))), (y2_3, .inl (D.2 0, 8, .inl (fun _ => 0))), (y2_2, .inl (D.2 0, 8, .inl (fun _ => 0))), (y2_1, .inl (D.2 0, 8, .inl (fun _ => 0))), (q1, .inr (1, [.int 0, .int 0, .int 0, .int 0, .int 0, .int 0, .ref y2_1, .ref y2_2, .ref y2_3, .ref y2_4, .ref y2_5])), (b, .inr (0, [.ref q1, .ref q3, .int 0, .int 0, .int (-1), .int 0, .int 0, .int 0, .int 0, .ref q4, .ref q5, .ref q6, .ref q7, .ref q9, .ref q10, .int 0, .int 0, .int 0, .int 0, .int 0, .ref q11, .null, .null]))] Wr)) (ty := tyX0 20) hI X 88 tyX0 tyX0_ok nmX0 in_X0 gl_cl0 (gl_at rfl) 20 (by decide) q317 rfl rfl rfl (tyX0_ok 20 (by decide)) rfl rfl (Nat.le_of_ble_eq_true rfl) (gl_set rfl rfl) dX0_init_85 rfl ?_
  refine gw_aload_n X 89 0 dX0_init_88 rfl rfl rfl ?_
  refine gw_iconst X 90 dX0_init_89 rfl gw_ci_4 ?_
  refine gl_anew (N := 4) X 93 5 q267 (fun _ h => h.1) rfl (by decide) rfl (Nat.le_of_ble_eq_true rfl) (Nat.le_of_ble_eq_true rfl) (Nat.le_of_ble_eq_true rfl) dX0_init_90 rfl rfl rfl (fun q12 => ?_)
  refine gl_merge (w := [(q12, .inl (D.2 5, 4, .inr (.inr (.inr (.inr (fun _ => none)))))), (q11, .inl (D.2 0, 8, .inl (fun _ => 0))), (q10, .inl (D.2 0, 8, .inl (fun _ => 0))), (q9, .inl (D.2 0, 48, .inl (fun _ => 0))), (q7, .inr (11, [.int 0, .ref (D.2 100), .int 0])), (q6, .inl (D.2 0, 8, .inl (fun _ => 0))), (q5, .inl (D.2 0, 8, .inl (fun _ => 0))), (q4, .inl (D.2 0, 8, .inl (fun _ => 0))), (q3, .inl (D.2 1, 900, .inl (fun _ => 0))), (y2_5, .inl (D.2 0, 40, .inl (fun _ => 0))), (y2_4, .inl (D.2 0, 8, .inl (fun _ => 0))), (y2_3, .inl (D.2 0, 8, .inl (fun _ => 0))), (y2_2, .inl (D.2 0, 8, .inl (fun _ => 0))), (y2_1, .inl (D.2 0, 8, .inl (fun _ => 0))), (q1, .inr (1, [.int 0, .int 0, .int 0, .int 0, .int 0, .int 0, .ref y2_1, .ref y2_2, .ref y2_3, .ref y2_4, .ref y2_5])), (b, .inr (0, [.ref q1, .ref q3, .int 0, .int 0, .int (-1), .int 0, .int 0, .int 0, .int 0, .ref q4, .ref q5, .ref q6, .ref q7, .ref q9, .ref q10, .int 0, .int 0, .int 0, .int 0, .int 0, .ref q11, .null, .null]))]) rfl ?_
  refine gw_dup X 94 dX0_init_93 rfl rfl ?_
  refine gw_iconst X 95 dX0_init_94 rfl gw_ci_0 ?_
  refine gl_new (fs := [.null]) X 98 tyX2 tyX2_ok in_X2 gl_cl2 q267 q269 q141 gl_dfX2 rfl dX0_init_95 rfl rfl rfl (fun q13 => ?_)
  refine gl_merge (w := [(q13, .inr (2, [.null])), (q12, .inl (D.2 5, 4, .inr (.inr (.inr (.inr (fun _ => none)))))), (q11, .inl (D.2 0, 8, .inl (fun _ => 0))), (q10, .inl (D.2 0, 8, .inl (fun _ => 0))), (q9, .inl (D.2 0, 48, .inl (fun _ => 0))), (q7, .inr (11, [.int 0, .ref (D.2 100), .int 0])), (q6, .inl (D.2 0, 8, .inl (fun _ => 0))), (q5, .inl (D.2 0, 8, .inl (fun _ => 0))), (q4, .inl (D.2 0, 8, .inl (fun _ => 0))), (q3, .inl (D.2 1, 900, .inl (fun _ => 0))), (y2_5, .inl (D.2 0, 40, .inl (fun _ => 0))), (y2_4, .inl (D.2 0, 8, .inl (fun _ => 0))), (y2_3, .inl (D.2 0, 8, .inl (fun _ => 0))), (y2_2, .inl (D.2 0, 8, .inl (fun _ => 0))), (y2_1, .inl (D.2 0, 8, .inl (fun _ => 0))), (q1, .inr (1, [.int 0, .int 0, .int 0, .int 0, .int 0, .int 0, .ref y2_1, .ref y2_2, .ref y2_3, .ref y2_4, .ref y2_5])), (b, .inr (0, [.ref q1, .ref q3, .int 0, .int 0, .int (-1), .int 0, .int 0, .int 0, .int 0, .ref q4, .ref q5, .ref q6, .ref q7, .ref q9, .ref q10, .int 0, .int 0, .int 0, .int 0, .int 0, .ref q11, .null, .null]))]) rfl ?_
  refine gw_dup X 99 dX0_init_98 rfl rfl ?_
  refine gl_split (w1 := []) (w2 := [(q13, .inr (2, [.null])), (q12, .inl (D.2 5, 4, .inr (.inr (.inr (.inr (fun _ => none)))))), (q11, .inl (D.2 0, 8, .inl (fun _ => 0))), (q10, .inl (D.2 0, 8, .inl (fun _ => 0))), (q9, .inl (D.2 0, 48, .inl (fun _ => 0))), (q7, .inr (11, [.int 0, .ref (D.2 100), .int 0])), (q6, .inl (D.2 0, 8, .inl (fun _ => 0))), (q5, .inl (D.2 0, 8, .inl (fun _ => 0))), (q4, .inl (D.2 0, 8, .inl (fun _ => 0))), (q3, .inl (D.2 1, 900, .inl (fun _ => 0))), (y2_5, .inl (D.2 0, 40, .inl (fun _ => 0))), (y2_4, .inl (D.2 0, 8, .inl (fun _ => 0))), (y2_3, .inl (D.2 0, 8, .inl (fun _ => 0))), (y2_2, .inl (D.2 0, 8, .inl (fun _ => 0))), (y2_1, .inl (D.2 0, 8, .inl (fun _ => 0))), (q1, .inr (1, [.int 0, .int 0, .int 0, .int 0, .int 0, .int 0, .ref y2_1, .ref y2_2, .ref y2_3, .ref y2_4, .ref y2_5])), (b, .inr (0, [.ref q1, .ref q3, .int 0, .int 0, .int (-1), .int 0, .int 0, .int 0, .int 0, .ref q4, .ref q5, .ref q6, .ref q7, .ref q9, .ref q10, .int 0, .int 0, .int 0, .int 0, .int 0, .ref q11, .null, .null]))]) rfl ?_
  refine gl_callINv X 102 [] (lm_X2_init (b := q13)) q270 (lw_meth q272) q271 q141 rfl yd_X2_init rfl rfl rfl dX0_init_99 rfl rfl rfl ?_
  refine gl_merge (w := [(q13, .inr (2, [.null])), (q12, .inl (D.2 5, 4, .inr (.inr (.inr (.inr (fun _ => none)))))), (q11, .inl (D.2 0, 8, .inl (fun _ => 0))), (q10, .inl (D.2 0, 8, .inl (fun _ => 0))), (q9, .inl (D.2 0, 48, .inl (fun _ => 0))), (q7, .inr (11, [.int 0, .ref (D.2 100), .int 0])), (q6, .inl (D.2 0, 8, .inl (fun _ => 0))), (q5, .inl (D.2 0, 8, .inl (fun _ => 0))), (q4, .inl (D.2 0, 8, .inl (fun _ => 0))), (q3, .inl (D.2 1, 900, .inl (fun _ => 0))), (y2_5, .inl (D.2 0, 40, .inl (fun _ => 0))), (y2_4, .inl (D.2 0, 8, .inl (fun _ => 0))), (y2_3, .inl (D.2 0, 8, .inl (fun _ => 0))), (y2_2, .inl (D.2 0, 8, .inl (fun _ => 0))), (y2_1, .inl (D.2 0, 8, .inl (fun _ => 0))), (q1, .inr (1, [.int 0, .int 0, .int 0, .int 0, .int 0, .int 0, .ref y2_1, .ref y2_2, .ref y2_3, .ref y2_4, .ref y2_5])), (b, .inr (0, [.ref q1, .ref q3, .int 0, .int 0, .int (-1), .int 0, .int 0, .int 0, .int 0, .ref q4, .ref q5, .ref q6, .ref q7, .ref q9, .ref q10, .int 0, .int 0, .int 0, .int 0, .int 0, .ref q11, .null, .null]))]) rfl ?_
  refine gl_aast (q0 := 1) (qk := 0) (Ws' := (gw_st [(q13, .inr (2, [.null])), (q12, .inl (D.2 5, 4, .inr (.inr (.inr (.inr (va_up (fun _ => none) 0 (some q13))))))), (q11, .inl (D.2 0, 8, .inl (fun _ => 0))), (q10, .inl (D.2 0, 8, .inl (fun _ => 0))), (q9, .inl (D.2 0, 48, .inl (fun _ => 0))), (q7, .inr (11, [.int 0, .ref (D.2 100), .int 0])), (q6, .inl (D.2 0, 8, .inl (fun _ => 0))), (q5, .inl (D.2 0, 8, .inl (fun _ => 0))), (q4, .inl (D.2 0, 8, .inl (fun _ => 0))), (q3, .inl (D.2 1, 900, .inl (fun _ => 0))), (y2_5, .inl (D.2 0, 40, .inl (fun _ => 0))), (y2_4, .inl (D.2 0, 8, .inl (fun _ => 0))), (y2_3, .inl (D.2 0, 8, .inl (fun _ => 0))), (y2_2, .inl (D.2 0, 8, .inl (fun _ => 0))), (y2_1, .inl (D.2 0, 8, .inl (fun _ => 0))), (q1, .inr (1, [.int 0, .int 0, .int 0, .int 0, .int 0, .int 0, .ref y2_1, .ref y2_2, .ref y2_3, .ref y2_4, .ref y2_5])), (b, .inr (0, [.ref q1, .ref q3, .int 0, .int 0, .int (-1), .int 0, .int 0, .int 0, .int 0, .ref q4, .ref q5, .ref q6, .ref q7, .ref q9, .ref q10, .int 0, .int 0, .int 0, .int 0, .int 0, .ref q11, .null, .null]))] Wr)) X 103 (t0 := 5) (gl_at rfl) rfl (gl_at rfl) gl_cl2 (gw_in rfl) (gl_set rfl rfl) dX0_init_102 rfl ?_
  refine gw_dup X 104 dX0_init_103 rfl rfl ?_
  refine gw_iconst X 105 dX0_init_104 rfl gw_ci_1 ?_
  refine gl_new (fs := [.null]) X 108 tyX2 tyX2_ok in_X2 gl_cl2 q267 q269 q141 gl_dfX2 rfl dX0_init_105 rfl rfl rfl (fun q15 => ?_)
  refine gl_merge (w := [(q15, .inr (2, [.null])), (q13, .inr (2, [.null])), (q12, .inl (D.2 5, 4, .inr (.inr (.inr (.inr (va_up (fun _ => none) 0 (some q13))))))), (q11, .inl (D.2 0, 8, .inl (fun _ => 0))), (q10, .inl (D.2 0, 8, .inl (fun _ => 0))), (q9, .inl (D.2 0, 48, .inl (fun _ => 0))), (q7, .inr (11, [.int 0, .ref (D.2 100), .int 0])), (q6, .inl (D.2 0, 8, .inl (fun _ => 0))), (q5, .inl (D.2 0, 8, .inl (fun _ => 0))), (q4, .inl (D.2 0, 8, .inl (fun _ => 0))), (q3, .inl (D.2 1, 900, .inl (fun _ => 0))), (y2_5, .inl (D.2 0, 40, .inl (fun _ => 0))), (y2_4, .inl (D.2 0, 8, .inl (fun _ => 0))), (y2_3, .inl (D.2 0, 8, .inl (fun _ => 0))), (y2_2, .inl (D.2 0, 8, .inl (fun _ => 0))), (y2_1, .inl (D.2 0, 8, .inl (fun _ => 0))), (q1, .inr (1, [.int 0, .int 0, .int 0, .int 0, .int 0, .int 0, .ref y2_1, .ref y2_2, .ref y2_3, .ref y2_4, .ref y2_5])), (b, .inr (0, [.ref q1, .ref q3, .int 0, .int 0, .int (-1), .int 0, .int 0, .int 0, .int 0, .ref q4, .ref q5, .ref q6, .ref q7, .ref q9, .ref q10, .int 0, .int 0, .int 0, .int 0, .int 0, .ref q11, .null, .null]))]) rfl ?_
  refine gw_dup X 109 dX0_init_108 rfl rfl ?_
  refine gl_split (w1 := []) (w2 := [(q15, .inr (2, [.null])), (q13, .inr (2, [.null])), (q12, .inl (D.2 5, 4, .inr (.inr (.inr (.inr (va_up (fun _ => none) 0 (some q13))))))), (q11, .inl (D.2 0, 8, .inl (fun _ => 0))), (q10, .inl (D.2 0, 8, .inl (fun _ => 0))), (q9, .inl (D.2 0, 48, .inl (fun _ => 0))), (q7, .inr (11, [.int 0, .ref (D.2 100), .int 0])), (q6, .inl (D.2 0, 8, .inl (fun _ => 0))), (q5, .inl (D.2 0, 8, .inl (fun _ => 0))), (q4, .inl (D.2 0, 8, .inl (fun _ => 0))), (q3, .inl (D.2 1, 900, .inl (fun _ => 0))), (y2_5, .inl (D.2 0, 40, .inl (fun _ => 0))), (y2_4, .inl (D.2 0, 8, .inl (fun _ => 0))), (y2_3, .inl (D.2 0, 8, .inl (fun _ => 0))), (y2_2, .inl (D.2 0, 8, .inl (fun _ => 0))), (y2_1, .inl (D.2 0, 8, .inl (fun _ => 0))), (q1, .inr (1, [.int 0, .int 0, .int 0, .int 0, .int 0, .int 0, .ref y2_1, .ref y2_2, .ref y2_3, .ref y2_4, .ref y2_5])), (b, .inr (0, [.ref q1, .ref q3, .int 0, .int 0, .int (-1), .int 0, .int 0, .int 0, .int 0, .ref q4, .ref q5, .ref q6, .ref q7, .ref q9, .ref q10, .int 0, .int 0, .int 0, .int 0, .int 0, .ref q11, .null, .null]))]) rfl ?_
  refine gl_callINv X 112 [] (lm_X2_init (b := q15)) q270 (lw_meth q272) q271 q141 rfl yd_X2_init rfl rfl rfl dX0_init_109 rfl rfl rfl ?_
  refine gl_merge (w := [(q15, .inr (2, [.null])), (q13, .inr (2, [.null])), (q12, .inl (D.2 5, 4, .inr (.inr (.inr (.inr (va_up (fun _ => none) 0 (some q13))))))), (q11, .inl (D.2 0, 8, .inl (fun _ => 0))), (q10, .inl (D.2 0, 8, .inl (fun _ => 0))), (q9, .inl (D.2 0, 48, .inl (fun _ => 0))), (q7, .inr (11, [.int 0, .ref (D.2 100), .int 0])), (q6, .inl (D.2 0, 8, .inl (fun _ => 0))), (q5, .inl (D.2 0, 8, .inl (fun _ => 0))), (q4, .inl (D.2 0, 8, .inl (fun _ => 0))), (q3, .inl (D.2 1, 900, .inl (fun _ => 0))), (y2_5, .inl (D.2 0, 40, .inl (fun _ => 0))), (y2_4, .inl (D.2 0, 8, .inl (fun _ => 0))), (y2_3, .inl (D.2 0, 8, .inl (fun _ => 0))), (y2_2, .inl (D.2 0, 8, .inl (fun _ => 0))), (y2_1, .inl (D.2 0, 8, .inl (fun _ => 0))), (q1, .inr (1, [.int 0, .int 0, .int 0, .int 0, .int 0, .int 0, .ref y2_1, .ref y2_2, .ref y2_3, .ref y2_4, .ref y2_5])), (b, .inr (0, [.ref q1, .ref q3, .int 0, .int 0, .int (-1), .int 0, .int 0, .int 0, .int 0, .ref q4, .ref q5, .ref q6, .ref q7, .ref q9, .ref q10, .int 0, .int 0, .int 0, .int 0, .int 0, .ref q11, .null, .null]))]) rfl ?_
  refine gl_aast (q0 := 2) (qk := 0) (Ws' := (gw_st [(q15, .inr (2, [.null])), (q13, .inr (2, [.null])), (q12, .inl (D.2 5, 4, .inr (.inr (.inr (.inr (va_up (va_up (fun _ => none) 0 (some q13)) 1 (some q15))))))), (q11, .inl (D.2 0, 8, .inl (fun _ => 0))), (q10, .inl (D.2 0, 8, .inl (fun _ => 0))), (q9, .inl (D.2 0, 48, .inl (fun _ => 0))), (q7, .inr (11, [.int 0, .ref (D.2 100), .int 0])), (q6, .inl (D.2 0, 8, .inl (fun _ => 0))), (q5, .inl (D.2 0, 8, .inl (fun _ => 0))), (q4, .inl (D.2 0, 8, .inl (fun _ => 0))), (q3, .inl (D.2 1, 900, .inl (fun _ => 0))), (y2_5, .inl (D.2 0, 40, .inl (fun _ => 0))), (y2_4, .inl (D.2 0, 8, .inl (fun _ => 0))), (y2_3, .inl (D.2 0, 8, .inl (fun _ => 0))), (y2_2, .inl (D.2 0, 8, .inl (fun _ => 0))), (y2_1, .inl (D.2 0, 8, .inl (fun _ => 0))), (q1, .inr (1, [.int 0, .int 0, .int 0, .int 0, .int 0, .int 0, .ref y2_1, .ref y2_2, .ref y2_3, .ref y2_4, .ref y2_5])), (b, .inr (0, [.ref q1, .ref q3, .int 0, .int 0, .int (-1), .int 0, .int 0, .int 0, .int 0, .ref q4, .ref q5, .ref q6, .ref q7, .ref q9, .ref q10, .int 0, .int 0, .int 0, .int 0, .int 0, .ref q11, .null, .null]))] Wr)) X 113 (t0 := 5) (gl_at rfl) rfl (gl_at rfl) gl_cl2 (gw_in rfl) (gl_set rfl rfl) dX0_init_112 rfl ?_
  refine gw_dup X 114 dX0_init_113 rfl rfl ?_
  refine gw_iconst X 115 dX0_init_114 rfl gw_ci_2 ?_
  refine gl_new (fs := [.null]) X 118 tyX2 tyX2_ok in_X2 gl_cl2 q267 q269 q141 gl_dfX2 rfl dX0_init_115 rfl rfl rfl (fun q17 => ?_)
  refine gl_merge (w := [(q17, .inr (2, [.null])), (q15, .inr (2, [.null])), (q13, .inr (2, [.null])), (q12, .inl (D.2 5, 4, .inr (.inr (.inr (.inr (va_up (va_up (fun _ => none) 0 (some q13)) 1 (some q15))))))), (q11, .inl (D.2 0, 8, .inl (fun _ => 0))), (q10, .inl (D.2 0, 8, .inl (fun _ => 0))), (q9, .inl (D.2 0, 48, .inl (fun _ => 0))), (q7, .inr (11, [.int 0, .ref (D.2 100), .int 0])), (q6, .inl (D.2 0, 8, .inl (fun _ => 0))), (q5, .inl (D.2 0, 8, .inl (fun _ => 0))), (q4, .inl (D.2 0, 8, .inl (fun _ => 0))), (q3, .inl (D.2 1, 900, .inl (fun _ => 0))), (y2_5, .inl (D.2 0, 40, .inl (fun _ => 0))), (y2_4, .inl (D.2 0, 8, .inl (fun _ => 0))), (y2_3, .inl (D.2 0, 8, .inl (fun _ => 0))), (y2_2, .inl (D.2 0, 8, .inl (fun _ => 0))), (y2_1, .inl (D.2 0, 8, .inl (fun _ => 0))), (q1, .inr (1, [.int 0, .int 0, .int 0, .int 0, .int 0, .int 0, .ref y2_1, .ref y2_2, .ref y2_3, .ref y2_4, .ref y2_5])), (b, .inr (0, [.ref q1, .ref q3, .int 0, .int 0, .int (-1), .int 0, .int 0, .int 0, .int 0, .ref q4, .ref q5, .ref q6, .ref q7, .ref q9, .ref q10, .int 0, .int 0, .int 0, .int 0, .int 0, .ref q11, .null, .null]))]) rfl ?_
  refine gw_dup X 119 dX0_init_118 rfl rfl ?_
  refine gl_split (w1 := []) (w2 := [(q17, .inr (2, [.null])), (q15, .inr (2, [.null])), (q13, .inr (2, [.null])), (q12, .inl (D.2 5, 4, .inr (.inr (.inr (.inr (va_up (va_up (fun _ => none) 0 (some q13)) 1 (some q15))))))), (q11, .inl (D.2 0, 8, .inl (fun _ => 0))), (q10, .inl (D.2 0, 8, .inl (fun _ => 0))), (q9, .inl (D.2 0, 48, .inl (fun _ => 0))), (q7, .inr (11, [.int 0, .ref (D.2 100), .int 0])), (q6, .inl (D.2 0, 8, .inl (fun _ => 0))), (q5, .inl (D.2 0, 8, .inl (fun _ => 0))), (q4, .inl (D.2 0, 8, .inl (fun _ => 0))), (q3, .inl (D.2 1, 900, .inl (fun _ => 0))), (y2_5, .inl (D.2 0, 40, .inl (fun _ => 0))), (y2_4, .inl (D.2 0, 8, .inl (fun _ => 0))), (y2_3, .inl (D.2 0, 8, .inl (fun _ => 0))), (y2_2, .inl (D.2 0, 8, .inl (fun _ => 0))), (y2_1, .inl (D.2 0, 8, .inl (fun _ => 0))), (q1, .inr (1, [.int 0, .int 0, .int 0, .int 0, .int 0, .int 0, .ref y2_1, .ref y2_2, .ref y2_3, .ref y2_4, .ref y2_5])), (b, .inr (0, [.ref q1, .ref q3, .int 0, .int 0, .int (-1), .int 0, .int 0, .int 0, .int 0, .ref q4, .ref q5, .ref q6, .ref q7, .ref q9, .ref q10, .int 0, .int 0, .int 0, .int 0, .int 0, .ref q11, .null, .null]))]) rfl ?_
  refine gl_callINv X 122 [] (lm_X2_init (b := q17)) q270 (lw_meth q272) q271 q141 rfl yd_X2_init rfl rfl rfl dX0_init_119 rfl rfl rfl ?_
  refine gl_merge (w := [(q17, .inr (2, [.null])), (q15, .inr (2, [.null])), (q13, .inr (2, [.null])), (q12, .inl (D.2 5, 4, .inr (.inr (.inr (.inr (va_up (va_up (fun _ => none) 0 (some q13)) 1 (some q15))))))), (q11, .inl (D.2 0, 8, .inl (fun _ => 0))), (q10, .inl (D.2 0, 8, .inl (fun _ => 0))), (q9, .inl (D.2 0, 48, .inl (fun _ => 0))), (q7, .inr (11, [.int 0, .ref (D.2 100), .int 0])), (q6, .inl (D.2 0, 8, .inl (fun _ => 0))), (q5, .inl (D.2 0, 8, .inl (fun _ => 0))), (q4, .inl (D.2 0, 8, .inl (fun _ => 0))), (q3, .inl (D.2 1, 900, .inl (fun _ => 0))), (y2_5, .inl (D.2 0, 40, .inl (fun _ => 0))), (y2_4, .inl (D.2 0, 8, .inl (fun _ => 0))), (y2_3, .inl (D.2 0, 8, .inl (fun _ => 0))), (y2_2, .inl (D.2 0, 8, .inl (fun _ => 0))), (y2_1, .inl (D.2 0, 8, .inl (fun _ => 0))), (q1, .inr (1, [.int 0, .int 0, .int 0, .int 0, .int 0, .int 0, .ref y2_1, .ref y2_2, .ref y2_3, .ref y2_4, .ref y2_5])), (b, .inr (0, [.ref q1, .ref q3, .int 0, .int 0, .int (-1), .int 0, .int 0, .int 0, .int 0, .ref q4, .ref q5, .ref q6, .ref q7, .ref q9, .ref q10, .int 0, .int 0, .int 0, .int 0, .int 0, .ref q11, .null, .null]))]) rfl ?_
  refine gl_aast (q0 := 3) (qk := 0) (Ws' := (gw_st [(q17, .inr (2, [.null])), (q15, .inr (2, [.null])), (q13, .inr (2, [.null])), (q12, .inl (D.2 5, 4, .inr (.inr (.inr (.inr (va_up (va_up (va_up (fun _ => none) 0 (some q13)) 1 (some q15)) 2 (some q17))))))), (q11, .inl (D.2 0, 8, .inl (fun _ => 0))), (q10, .inl (D.2 0, 8, .inl (fun _ => 0))), (q9, .inl (D.2 0, 48, .inl (fun _ => 0))), (q7, .inr (11, [.int 0, .ref (D.2 100), .int 0])), (q6, .inl (D.2 0, 8, .inl (fun _ => 0))), (q5, .inl (D.2 0, 8, .inl (fun _ => 0))), (q4, .inl (D.2 0, 8, .inl (fun _ => 0))), (q3, .inl (D.2 1, 900, .inl (fun _ => 0))), (y2_5, .inl (D.2 0, 40, .inl (fun _ => 0))), (y2_4, .inl (D.2 0, 8, .inl (fun _ => 0))), (y2_3, .inl (D.2 0, 8, .inl (fun _ => 0))), (y2_2, .inl (D.2 0, 8, .inl (fun _ => 0))), (y2_1, .inl (D.2 0, 8, .inl (fun _ => 0))), (q1, .inr (1, [.int 0, .int 0, .int 0, .int 0, .int 0, .int 0, .ref y2_1, .ref y2_2, .ref y2_3, .ref y2_4, .ref y2_5])), (b, .inr (0, [.ref q1, .ref q3, .int 0, .int 0, .int (-1), .int 0, .int 0, .int 0, .int 0, .ref q4, .ref q5, .ref q6, .ref q7, .ref q9, .ref q10, .int 0, .int 0, .int 0, .int 0, .int 0, .ref q11, .null, .null]))] Wr)) X 123 (t0 := 5) (gl_at rfl) rfl (gl_at rfl) gl_cl2 (gw_in rfl) (gl_set rfl rfl) dX0_init_122 rfl ?_
  refine gw_dup X 124 dX0_init_123 rfl rfl ?_
  refine gw_iconst X 125 dX0_init_124 rfl gw_ci_3 ?_
  refine gl_new (fs := [.null]) X 128 tyX2 tyX2_ok in_X2 gl_cl2 q267 q269 q141 gl_dfX2 rfl dX0_init_125 rfl rfl rfl (fun q19 => ?_)
  refine gl_merge (w := [(q19, .inr (2, [.null])), (q17, .inr (2, [.null])), (q15, .inr (2, [.null])), (q13, .inr (2, [.null])), (q12, .inl (D.2 5, 4, .inr (.inr (.inr (.inr (va_up (va_up (va_up (fun _ => none) 0 (some q13)) 1 (some q15)) 2 (some q17))))))), (q11, .inl (D.2 0, 8, .inl (fun _ => 0))), (q10, .inl (D.2 0, 8, .inl (fun _ => 0))), (q9, .inl (D.2 0, 48, .inl (fun _ => 0))), (q7, .inr (11, [.int 0, .ref (D.2 100), .int 0])), (q6, .inl (D.2 0, 8, .inl (fun _ => 0))), (q5, .inl (D.2 0, 8, .inl (fun _ => 0))), (q4, .inl (D.2 0, 8, .inl (fun _ => 0))), (q3, .inl (D.2 1, 900, .inl (fun _ => 0))), (y2_5, .inl (D.2 0, 40, .inl (fun _ => 0))), (y2_4, .inl (D.2 0, 8, .inl (fun _ => 0))), (y2_3, .inl (D.2 0, 8, .inl (fun _ => 0))), (y2_2, .inl (D.2 0, 8, .inl (fun _ => 0))), (y2_1, .inl (D.2 0, 8, .inl (fun _ => 0))), (q1, .inr (1, [.int 0, .int 0, .int 0, .int 0, .int 0, .int 0, .ref y2_1, .ref y2_2, .ref y2_3, .ref y2_4, .ref y2_5])), (b, .inr (0, [.ref q1, .ref q3, .int 0, .int 0, .int (-1), .int 0, .int 0, .int 0, .int 0, .ref q4, .ref q5, .ref q6, .ref q7, .ref q9, .ref q10, .int 0, .int 0, .int 0, .int 0, .int 0, .ref q11, .null, .null]))]) rfl ?_
  refine gw_dup X 129 dX0_init_128 rfl rfl ?_
  refine gl_split (w1 := []) (w2 := [(q19, .inr (2, [.null])), (q17, .inr (2, [.null])), (q15, .inr (2, [.null])), (q13, .inr (2, [.null])), (q12, .inl (D.2 5, 4, .inr (.inr (.inr (.inr (va_up (va_up (va_up (fun _ => none) 0 (some q13)) 1 (some q15)) 2 (some q17))))))), (q11, .inl (D.2 0, 8, .inl (fun _ => 0))), (q10, .inl (D.2 0, 8, .inl (fun _ => 0))), (q9, .inl (D.2 0, 48, .inl (fun _ => 0))), (q7, .inr (11, [.int 0, .ref (D.2 100), .int 0])), (q6, .inl (D.2 0, 8, .inl (fun _ => 0))), (q5, .inl (D.2 0, 8, .inl (fun _ => 0))), (q4, .inl (D.2 0, 8, .inl (fun _ => 0))), (q3, .inl (D.2 1, 900, .inl (fun _ => 0))), (y2_5, .inl (D.2 0, 40, .inl (fun _ => 0))), (y2_4, .inl (D.2 0, 8, .inl (fun _ => 0))), (y2_3, .inl (D.2 0, 8, .inl (fun _ => 0))), (y2_2, .inl (D.2 0, 8, .inl (fun _ => 0))), (y2_1, .inl (D.2 0, 8, .inl (fun _ => 0))), (q1, .inr (1, [.int 0, .int 0, .int 0, .int 0, .int 0, .int 0, .ref y2_1, .ref y2_2, .ref y2_3, .ref y2_4, .ref y2_5])), (b, .inr (0, [.ref q1, .ref q3, .int 0, .int 0, .int (-1), .int 0, .int 0, .int 0, .int 0, .ref q4, .ref q5, .ref q6, .ref q7, .ref q9, .ref q10, .int 0, .int 0, .int 0, .int 0, .int 0, .ref q11, .null, .null]))]) rfl ?_
  refine gl_callINv X 132 [] (lm_X2_init (b := q19)) q270 (lw_meth q272) q271 q141 rfl yd_X2_init rfl rfl rfl dX0_init_129 rfl rfl rfl ?_
  refine gl_merge (w := [(q19, .inr (2, [.null])), (q17, .inr (2, [.null])), (q15, .inr (2, [.null])), (q13, .inr (2, [.null])), (q12, .inl (D.2 5, 4, .inr (.inr (.inr (.inr (va_up (va_up (va_up (fun _ => none) 0 (some q13)) 1 (some q15)) 2 (some q17))))))), (q11, .inl (D.2 0, 8, .inl (fun _ => 0))), (q10, .inl (D.2 0, 8, .inl (fun _ => 0))), (q9, .inl (D.2 0, 48, .inl (fun _ => 0))), (q7, .inr (11, [.int 0, .ref (D.2 100), .int 0])), (q6, .inl (D.2 0, 8, .inl (fun _ => 0))), (q5, .inl (D.2 0, 8, .inl (fun _ => 0))), (q4, .inl (D.2 0, 8, .inl (fun _ => 0))), (q3, .inl (D.2 1, 900, .inl (fun _ => 0))), (y2_5, .inl (D.2 0, 40, .inl (fun _ => 0))), (y2_4, .inl (D.2 0, 8, .inl (fun _ => 0))), (y2_3, .inl (D.2 0, 8, .inl (fun _ => 0))), (y2_2, .inl (D.2 0, 8, .inl (fun _ => 0))), (y2_1, .inl (D.2 0, 8, .inl (fun _ => 0))), (q1, .inr (1, [.int 0, .int 0, .int 0, .int 0, .int 0, .int 0, .ref y2_1, .ref y2_2, .ref y2_3, .ref y2_4, .ref y2_5])), (b, .inr (0, [.ref q1, .ref q3, .int 0, .int 0, .int (-1), .int 0, .int 0, .int 0, .int 0, .ref q4, .ref q5, .ref q6, .ref q7, .ref q9, .ref q10, .int 0, .int 0, .int 0, .int 0, .int 0, .ref q11, .null, .null]))]) rfl ?_
  refine gl_aast (q0 := 4) (qk := 0) (Ws' := (gw_st [(q19, .inr (2, [.null])), (q17, .inr (2, [.null])), (q15, .inr (2, [.null])), (q13, .inr (2, [.null])), (q12, .inl (D.2 5, 4, .inr (.inr (.inr (.inr (va_up (va_up (va_up (va_up (fun _ => none) 0 (some q13)) 1 (some q15)) 2 (some q17)) 3 (some q19))))))), (q11, .inl (D.2 0, 8, .inl (fun _ => 0))), (q10, .inl (D.2 0, 8, .inl (fun _ => 0))), (q9, .inl (D.2 0, 48, .inl (fun _ => 0))), (q7, .inr (11, [.int 0, .ref (D.2 100), .int 0])), (q6, .inl (D.2 0, 8, .inl (fun _ => 0))), (q5, .inl (D.2 0, 8, .inl (fun _ => 0))), (q4, .inl (D.2 0, 8, .inl (fun _ => 0))), (q3, .inl (D.2 1, 900, .inl (fun _ => 0))), (y2_5, .inl (D.2 0, 40, .inl (fun _ => 0))), (y2_4, .inl (D.2 0, 8, .inl (fun _ => 0))), (y2_3, .inl (D.2 0, 8, .inl (fun _ => 0))), (y2_2, .inl (D.2 0, 8, .inl (fun _ => 0))), (y2_1, .inl (D.2 0, 8, .inl (fun _ => 0))), (q1, .inr (1, [.int 0, .int 0, .int 0, .int 0, .int 0, .int 0, .ref y2_1, .ref y2_2, .ref y2_3, .ref y2_4, .ref y2_5])), (b, .inr (0, [.ref q1, .ref q3, .int 0, .int 0, .int (-1), .int 0, .int 0, .int 0, .int 0, .ref q4, .ref q5, .ref q6, .ref q7, .ref q9, .ref q10, .int 0, .int 0, .int 0, .int 0, .int 0, .ref q11, .null, .null]))] Wr)) X 133 (t0 := 5) (gl_at rfl) rfl (gl_at rfl) gl_cl2 (gw_in rfl) (gl_set rfl rfl) dX0_init_132 rfl ?_
  refine gl_putF (q0 := 19) (fs := [.ref q1, .ref q3, .int 0, .int 0, .int (-1), .int 0, .int 0, .int 0, .int 0, .ref q4, .ref q5, .ref q6, .ref q7, .ref q9, .ref q10, .int 0, .int 0, .int 0, .int 0, .int 0, .ref q11, .null, .null]) (Ws' := (gw_st [(q19, .inr (2, [.null])), (q17, .inr (2, [.null])), (q15, .inr (2, [.null])), (q13, .inr (2, [.null])), (q12, .inl (D.2 5, 4, .inr (.inr (.inr (.inr (va_up (va_up (va_up (va_up (fun _ => none) 0 (some q13)) 1 (some q15)) 2 (some q17)) 3 (some q19))))))), (q11, .inl (D.2 0, 8, .inl (fun _ => 0))), (q10, .inl (D.2 0, 8, .inl (fun _ => 0))), (q9, .inl (D.2 0, 48, .inl (fun _ => 0))), (q7, .inr (11, [.int 0, .ref (D.2 100), .int 0])), (q6, .inl (D.2 0, 8, .inl (fun _ => 0))), (q5, .inl (D.2 0, 8, .inl (fun _ => 0))), (q4, .inl (D.2 0, 8, .inl (fun _ => 0))), (q3, .inl (D.2 1, 900, .inl (fun _ => 0))), (y2_5, .inl (D.2 0, 40, .inl (fun _ => 0))), (y2_4, .inl (D.2 0, 8, .inl (fun _ => 0))), (y2_3, .inl (D.2 0, 8, .inl (fun _ => 0))), (y2_2, .inl (D.2 0, 8, .inl (fun _ => 0))), (y2_1, .inl (D.2 0, 8, .inl (fun _ => 0))), (q1, .inr (1, [.int 0, .int 0, .int 0, .int 0, .int 0, .int 0, .ref y2_1, .ref y2_2, .ref y2_3, .ref y2_4, .ref y2_5])), (b, .inr (0, [.ref q1, .ref q3, .int 0, .int 0, .int (-1), .int 0, .int 0, .int 0, .int 0, .ref q4, .ref q5, .ref q6, .ref q7, .ref q9, .ref q10, .int 0, .int 0, .int 0, .int 0, .int 0, .ref q11, .ref q12, .null]))] Wr)) (ty := tyX0 21) hI X 136 tyX0 tyX0_ok nmX0 in_X0 gl_cl0 (gl_at rfl) 21 (by decide) q318 rfl rfl rfl (tyX0_ok 21 (by decide)) rfl rfl (Nat.le_of_ble_eq_true rfl) (gl_set rfl rfl) dX0_init_133 rfl ?_
  refine gw_aload_n X 137 0 dX0_init_136 rfl rfl rfl ?_
  refine gl_new (fs := [.int 0, .null, .int 0]) X 140 tyJ2 tyJ2_ok in_J2 gl_cl11 q240 q241 q140 gl_dfJ2 rfl dX0_init_137 rfl rfl rfl (fun q21 => ?_)
  refine gl_merge (w := [(q21, .inr (11, [.int 0, .null, .int 0])), (q19, .inr (2, [.null])), (q17, .inr (2, [.null])), (q15, .inr (2, [.null])), (q13, .inr (2, [.null])), (q12, .inl (D.2 5, 4, .inr (.inr (.inr (.inr (va_up (va_up (va_up (va_up (fun _ => none) 0 (some q13)) 1 (some q15)) 2 (some q17)) 3 (some q19))))))), (q11, .inl (D.2 0, 8, .inl (fun _ => 0))), (q10, .inl (D.2 0, 8, .inl (fun _ => 0))), (q9, .inl (D.2 0, 48, .inl (fun _ => 0))), (q7, .inr (11, [.int 0, .ref (D.2 100), .int 0])), (q6, .inl (D.2 0, 8, .inl (fun _ => 0))), (q5, .inl (D.2 0, 8, .inl (fun _ => 0))), (q4, .inl (D.2 0, 8, .inl (fun _ => 0))), (q3, .inl (D.2 1, 900, .inl (fun _ => 0))), (y2_5, .inl (D.2 0, 40, .inl (fun _ => 0))), (y2_4, .inl (D.2 0, 8, .inl (fun _ => 0))), (y2_3, .inl (D.2 0, 8, .inl (fun _ => 0))), (y2_2, .inl (D.2 0, 8, .inl (fun _ => 0))), (y2_1, .inl (D.2 0, 8, .inl (fun _ => 0))), (q1, .inr (1, [.int 0, .int 0, .int 0, .int 0, .int 0, .int 0, .ref y2_1, .ref y2_2, .ref y2_3, .ref y2_4, .ref y2_5])), (b, .inr (0, [.ref q1, .ref q3, .int 0, .int 0, .int (-1), .int 0, .int 0, .int 0, .int 0, .ref q4, .ref q5, .ref q6, .ref q7, .ref q9, .ref q10, .int 0, .int 0, .int 0, .int 0, .int 0, .ref q11, .ref q12, .null]))]) rfl ?_
  refine gw_dup X 141 dX0_init_140 rfl rfl ?_
  refine gl_split (w1 := [(q21, .inr (11, [.int 0, .null, .int 0]))]) (w2 := [(q19, .inr (2, [.null])), (q17, .inr (2, [.null])), (q15, .inr (2, [.null])), (q13, .inr (2, [.null])), (q12, .inl (D.2 5, 4, .inr (.inr (.inr (.inr (va_up (va_up (va_up (va_up (fun _ => none) 0 (some q13)) 1 (some q15)) 2 (some q17)) 3 (some q19))))))), (q11, .inl (D.2 0, 8, .inl (fun _ => 0))), (q10, .inl (D.2 0, 8, .inl (fun _ => 0))), (q9, .inl (D.2 0, 48, .inl (fun _ => 0))), (q7, .inr (11, [.int 0, .ref (D.2 100), .int 0])), (q6, .inl (D.2 0, 8, .inl (fun _ => 0))), (q5, .inl (D.2 0, 8, .inl (fun _ => 0))), (q4, .inl (D.2 0, 8, .inl (fun _ => 0))), (q3, .inl (D.2 1, 900, .inl (fun _ => 0))), (y2_5, .inl (D.2 0, 40, .inl (fun _ => 0))), (y2_4, .inl (D.2 0, 8, .inl (fun _ => 0))), (y2_3, .inl (D.2 0, 8, .inl (fun _ => 0))), (y2_2, .inl (D.2 0, 8, .inl (fun _ => 0))), (y2_1, .inl (D.2 0, 8, .inl (fun _ => 0))), (q1, .inr (1, [.int 0, .int 0, .int 0, .int 0, .int 0, .int 0, .ref y2_1, .ref y2_2, .ref y2_3, .ref y2_4, .ref y2_5])), (b, .inr (0, [.ref q1, .ref q3, .int 0, .int 0, .int (-1), .int 0, .int 0, .int 0, .int 0, .ref q4, .ref q5, .ref q6, .ref q7, .ref q9, .ref q10, .int 0, .int 0, .int 0, .int 0, .int 0, .ref q11, .ref q12, .null]))]) rfl ?_
  refine gl_callIv X 144 [] (lm_J2_init (b := q21)) q242 (lw_meth q244) q243 q140 rfl yd_J2_init rfl rfl rfl dX0_init_141 rfl rfl rfl ?_
  refine gl_merge (w := [(q21, .inr (11, [.int 0, .ref (D.2 100), .int 0])), (q19, .inr (2, [.null])), (q17, .inr (2, [.null])), (q15, .inr (2, [.null])), (q13, .inr (2, [.null])), (q12, .inl (D.2 5, 4, .inr (.inr (.inr (.inr (va_up (va_up (va_up (va_up (fun _ => none) 0 (some q13)) 1 (some q15)) 2 (some q17)) 3 (some q19))))))), (q11, .inl (D.2 0, 8, .inl (fun _ => 0))), (q10, .inl (D.2 0, 8, .inl (fun _ => 0))), (q9, .inl (D.2 0, 48, .inl (fun _ => 0))), (q7, .inr (11, [.int 0, .ref (D.2 100), .int 0])), (q6, .inl (D.2 0, 8, .inl (fun _ => 0))), (q5, .inl (D.2 0, 8, .inl (fun _ => 0))), (q4, .inl (D.2 0, 8, .inl (fun _ => 0))), (q3, .inl (D.2 1, 900, .inl (fun _ => 0))), (y2_5, .inl (D.2 0, 40, .inl (fun _ => 0))), (y2_4, .inl (D.2 0, 8, .inl (fun _ => 0))), (y2_3, .inl (D.2 0, 8, .inl (fun _ => 0))), (y2_2, .inl (D.2 0, 8, .inl (fun _ => 0))), (y2_1, .inl (D.2 0, 8, .inl (fun _ => 0))), (q1, .inr (1, [.int 0, .int 0, .int 0, .int 0, .int 0, .int 0, .ref y2_1, .ref y2_2, .ref y2_3, .ref y2_4, .ref y2_5])), (b, .inr (0, [.ref q1, .ref q3, .int 0, .int 0, .int (-1), .int 0, .int 0, .int 0, .int 0, .ref q4, .ref q5, .ref q6, .ref q7, .ref q9, .ref q10, .int 0, .int 0, .int 0, .int 0, .int 0, .ref q11, .ref q12, .null]))]) rfl ?_
  refine gl_putF (q0 := 20) (fs := [.ref q1, .ref q3, .int 0, .int 0, .int (-1), .int 0, .int 0, .int 0, .int 0, .ref q4, .ref q5, .ref q6, .ref q7, .ref q9, .ref q10, .int 0, .int 0, .int 0, .int 0, .int 0, .ref q11, .ref q12, .null]) (Ws' := (gw_st [(q21, .inr (11, [.int 0, .ref (D.2 100), .int 0])), (q19, .inr (2, [.null])), (q17, .inr (2, [.null])), (q15, .inr (2, [.null])), (q13, .inr (2, [.null])), (q12, .inl (D.2 5, 4, .inr (.inr (.inr (.inr (va_up (va_up (va_up (va_up (fun _ => none) 0 (some q13)) 1 (some q15)) 2 (some q17)) 3 (some q19))))))), (q11, .inl (D.2 0, 8, .inl (fun _ => 0))), (q10, .inl (D.2 0, 8, .inl (fun _ => 0))), (q9, .inl (D.2 0, 48, .inl (fun _ => 0))), (q7, .inr (11, [.int 0, .ref (D.2 100), .int 0])), (q6, .inl (D.2 0, 8, .inl (fun _ => 0))), (q5, .inl (D.2 0, 8, .inl (fun _ => 0))), (q4, .inl (D.2 0, 8, .inl (fun _ => 0))), (q3, .inl (D.2 1, 900, .inl (fun _ => 0))), (y2_5, .inl (D.2 0, 40, .inl (fun _ => 0))), (y2_4, .inl (D.2 0, 8, .inl (fun _ => 0))), (y2_3, .inl (D.2 0, 8, .inl (fun _ => 0))), (y2_2, .inl (D.2 0, 8, .inl (fun _ => 0))), (y2_1, .inl (D.2 0, 8, .inl (fun _ => 0))), (q1, .inr (1, [.int 0, .int 0, .int 0, .int 0, .int 0, .int 0, .ref y2_1, .ref y2_2, .ref y2_3, .ref y2_4, .ref y2_5])), (b, .inr (0, [.ref q1, .ref q3, .int 0, .int 0, .int (-1), .int 0, .int 0, .int 0, .int 0, .ref q4, .ref q5, .ref q6, .ref q7, .ref q9, .ref q10, .int 0, .int 0, .int 0, .int 0, .int 0, .ref q11, .ref q12, .ref q21]))] Wr)) (ty := tyX0 22) hI X 147 tyX0 tyX0_ok nmX0 in_X0 gl_cl0 (gl_at rfl) 22 (by decide) q319 rfl rfl rfl (tyX0_ok 22 (by decide)) rfl rfl (Nat.le_of_ble_eq_true rfl) (gl_set rfl rfl) dX0_init_144 rfl ?_
  exact gw_vret X dX0_init_147 (fun _ h => ⟨q1, y2_1, y2_2, y2_3, y2_4, y2_5, q3, q4, q5, q6, q7, q9, q10, q11, q12, q13, q15, q17, q19, q21, rfl, h⟩) (Nat.le_of_ble_eq_true rfl) (Nat.le_of_ble_eq_true rfl)
