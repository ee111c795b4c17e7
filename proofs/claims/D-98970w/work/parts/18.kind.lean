/-! CardHolder.kind: the list of acts is made at the first call -/
set_option maxRecDepth 100000
section GKC
variable {E : gw_E} {D : gw_D} {pc : Nat} {lv : List (Nat × Value)} {st : List Value} {Wr : va_W → Prop} {k n : Nat} {a : Nat → Nat} {w : va_W}
theorem gK_cases (h1 : gw_W E pc lv st (gw_st [(a 14, .inr (11, [.int 0, .ref (D.2 100), .int 0]))] (gw_st w Wr)) k n) (h2 : ∀ b : Nat → Nat, gw_W E pc lv st (gw_st (wK D a b) (gw_st w Wr)) k n) : gw_W E pc lv st (gw_st w (gw_sp (gK D a) Wr)) k n := by
  rintro ws ⟨x, ⟨w1, w2, hK, hr, rfl⟩, rfl⟩
  rcases hK with rfl | ⟨b, rfl⟩
  · refine gl_perm (Ws := fun u => u = w ++ (_ ++ w2)) (fun u hu => ?_) h1 _ rfl
    subst hu
    exact ⟨_, ⟨_, ⟨w2, hr, rfl⟩, rfl⟩, List.perm_append_comm_assoc _ _ _⟩
  · refine gl_perm (Ws := fun u => u = w ++ (_ ++ w2)) (fun u hu => ?_) (h2 b) _ rfl
    subst hu
    exact ⟨_, ⟨_, ⟨w2, hr, rfl⟩, rfl⟩, List.perm_append_comm_assoc _ _ _⟩
theorem gK_back {w1 : va_W} : ∀ ws, gw_st w1 (gw_st w Wr) ws → ∃ ws', gw_st w (gw_st w1 Wr) ws' ∧ ws.Perm ws' := by
  rintro ws ⟨x, ⟨y, hy, rfl⟩, rfl⟩
  exact ⟨_, ⟨_, ⟨y, hy, rfl⟩, rfl⟩, List.perm_append_comm_assoc _ _ _⟩
end GKC
abbrev rm_X0_kind : Room := { frames := 12, cells := 6, slots := 16, locals := 600 }
set_option maxHeartbeats 4000000 in
theorem mt_X0_kind_0 {l : Launch} {D : gw_D} {a : Nat → Nat} {Wr : va_W → Prop} {σ : gw_S} : gw_Ct D l yX0_kind cX0_kind 2 (some (.object "CardHolder$Act")) rm_X0_kind [.ref (a 0), .int 0] (gw_st (wX D a σ) (gw_sp (gK D a) Wr)) (fun v u => ∃ b : Nat → Nat, v = some (.ref (b 1)) ∧ gw_st (wX D a σ) (gw_st (wK D a b) Wr) u) := by
  refine gw_ct (own := RX0) [(0, .ref (a 0)), (1, .int 0)] (by decide) rfl (Nat.le_of_ble_eq_true rfl) rfl ?_
  intro E X
  refine gK_cases ?_ (fun b => ?_)
  · refine gw_aload_n X 1 0 dX0_kind_0 rfl rfl rfl ?_
    refine gl_get (q0 := 1) (fs := wXf0 a σ) X 4 in_X0 gl_cl0 (by rintro _ ⟨_, ⟨_, _, rfl⟩, rfl⟩; rfl) 12 (by decide) q309 rfl rfl dX0_kind_1 rfl ?_
    refine gl_split (w1 := [(a 14, .inr (11, [.int 0, .ref (D.2 100), .int 0]))]) (w2 := []) rfl ?_
    refine gw_callVi X 7 [] (lm_J2_isEmpty0 (b := a 14) (e := D.2 100) (m := 0)) lk_X0_152 ydv_J2_isEmpty gl_cl11 (gl_ate (q0 := 0) rfl) rfl rfl rfl dX0_kind_4 rfl rfl rfl ?_
    refine gl_merge (w := [(a 14, .inr (11, [.int 0, .ref (D.2 100), .int 0]))]) rfl ?_
    refine gw_if_eq X 90 10 dX0_kind_7 rfl rfl (fun z => absurd z (by decide)) (fun _ => ?_)
    refine gw_aload_n X 11 0 dX0_kind_10 rfl rfl rfl ?_
    refine gl_get (q0 := 1) (fs := wXf0 a σ) X 14 in_X0 gl_cl0 (by rintro _ ⟨_, ⟨_, _, rfl⟩, rfl⟩; rfl) 12 (by decide) q309 rfl rfl dX0_kind_11 rfl ?_
    refine gl_new (fs := [.null]) X 17 tyX7 tyX7_ok in_X7 gl_cl6 q666 q667 q156 gl_dfX7 rfl dX0_kind_14 rfl rfl rfl (fun q2 => ?_)
    refine gl_merge (w := [(q2, .inr (6, [.null])), (a 14, .inr (11, [.int 0, .ref (D.2 100), .int 0]))]) rfl ?_
    refine gw_dup X 18 dX0_kind_17 rfl rfl ?_
    refine gw_aload_n X 19 0 dX0_kind_18 rfl rfl rfl ?_
    refine gl_split (w1 := [(q2, .inr (6, [.null]))]) (w2 := [(a 14, .inr (11, [.int 0, .ref (D.2 100), .int 0]))]) rfl ?_
    refine gl_callINv X 22 [.ref (a 0)] (lm_X7_init (b := q2) (h := a 0)) q668 (lw_meth q670) q669 q156 rfl yd_X7_init rfl rfl rfl dX0_kind_19 rfl rfl rfl ?_
    refine gl_merge (w := [(q2, .inr (6, [.ref (a 0)])), (a 14, .inr (11, [.int 0, .ref (D.2 100), .int 0]))]) rfl ?_
    refine gl_ord (w' := [(a 14, .inr (11, [.int 0, .ref (D.2 100), .int 0])), (q2, .inr (6, [.ref (a 0)]))]) [1, 0] rfl rfl ?_
    refine gl_split (w1 := [(a 14, .inr (11, [.int 0, .ref (D.2 100), .int 0])), (q2, .inr (6, [.ref (a 0)]))]) (w2 := []) rfl ?_
    refine gw_callV X 25 [.ref q2] (lm_J2_add_0_ask (b := a 14) (m := 0) (x := q2) (h := a 0)) lk_X0_158 ydv_J2_add gl_cl11 (gl_ate (q0 := 0) rfl) rfl rfl rfl dX0_kind_22 rfl ?_
    rintro v u ⟨y4_1_1_1_1, rfl, hu⟩
    revert u
    show gw_W E 25 _ (.int 1 :: _) (gw_st [(y4_1_1_1_1, .inl (D.2 6, 10, .inr (.inr (.inr (.inr (va_up (fun _ => none) 0 (some q2))))))), (a 14, .inr (11, [.int 1, .ref y4_1_1_1_1, .int 1])), (q2, .inr (6, [.ref (a 0)]))] (gw_st [] (gw_st (wX D a σ) Wr))) 2 11
    refine gl_merge (w := [(y4_1_1_1_1, .inl (D.2 6, 10, .inr (.inr (.inr (.inr (va_up (fun _ => none) 0 (some q2))))))), (a 14, .inr (11, [.int 1, .ref y4_1_1_1_1, .int 1])), (q2, .inr (6, [.ref (a 0)]))]) rfl ?_
    refine gw_pop X 26 dX0_kind_25 rfl rfl ?_
    refine gw_aload_n X 27 0 dX0_kind_26 rfl rfl rfl ?_
    refine gl_get (q0 := 3) (fs := wXf0 a σ) X 30 in_X0 gl_cl0 (by rintro _ ⟨_, ⟨_, _, rfl⟩, rfl⟩; rfl) 12 (by decide) q309 rfl rfl dX0_kind_27 rfl ?_
    refine gl_new (fs := [.null, .null]) X 33 tyX8 tyX8_ok in_X8 gl_cl7 q739 q740 q159 gl_dfX8 rfl dX0_kind_30 rfl rfl rfl (fun q5 => ?_)
    refine gl_merge (w := [(q5, .inr (7, [.null, .null])), (y4_1_1_1_1, .inl (D.2 6, 10, .inr (.inr (.inr (.inr (va_up (fun _ => none) 0 (some q2))))))), (a 14, .inr (11, [.int 1, .ref y4_1_1_1_1, .int 1])), (q2, .inr (6, [.ref (a 0)]))]) rfl ?_
    refine gw_dup X 34 dX0_kind_33 rfl rfl ?_
    refine gw_aload_n X 35 0 dX0_kind_34 rfl rfl rfl ?_
    refine gl_split (w1 := [(q5, .inr (7, [.null, .null]))]) (w2 := [(y4_1_1_1_1, .inl (D.2 6, 10, .inr (.inr (.inr (.inr (va_up (fun _ => none) 0 (some q2))))))), (a 14, .inr (11, [.int 1, .ref y4_1_1_1_1, .int 1])), (q2, .inr (6, [.ref (a 0)]))]) rfl ?_
    refine gl_callINv X 38 [.ref (a 0)] (lm_X8_init (b := q5) (h := a 0)) q741 (lw_meth q743) q742 q159 rfl yd_X8_init rfl rfl rfl dX0_kind_35 rfl rfl rfl ?_
    refine gl_merge (w := [(q5, .inr (7, [.ref (a 0), .ref (a 0)])), (y4_1_1_1_1, .inl (D.2 6, 10, .inr (.inr (.inr (.inr (va_up (fun _ => none) 0 (some q2))))))), (a 14, .inr (11, [.int 1, .ref y4_1_1_1_1, .int 1])), (q2, .inr (6, [.ref (a 0)]))]) rfl ?_
    refine gl_ord (w' := [(a 14, .inr (11, [.int 1, .ref y4_1_1_1_1, .int 1])), (y4_1_1_1_1, .inl (D.2 6, 10, .inr (.inr (.inr (.inr (va_up (fun _ => none) 0 (some q2))))))), (q5, .inr (7, [.ref (a 0), .ref (a 0)])), (q2, .inr (6, [.ref (a 0)]))]) [2, 1, 0, 3] rfl rfl ?_
    refine gl_split (w1 := [(a 14, .inr (11, [.int 1, .ref y4_1_1_1_1, .int 1])), (y4_1_1_1_1, .inl (D.2 6, 10, .inr (.inr (.inr (.inr (va_up (fun _ => none) 0 (some q2))))))), (q5, .inr (7, [.ref (a 0), .ref (a 0)]))]) (w2 := [(q2, .inr (6, [.ref (a 0)]))]) rfl ?_
    refine gw_callVi X 41 [.ref q5] (lm_J2_add_1_give (b := a 14) (m := 1) (x := q5) (h := a 0) (e := y4_1_1_1_1) (f := (va_up (fun _ => none) 0 (some q2)))) lk_X0_158 ydv_J2_add gl_cl11 (gl_ate (q0 := 0) rfl) rfl rfl rfl dX0_kind_38 rfl rfl rfl ?_
    refine gl_merge (w := [(a 14, .inr (11, [.int 2, .ref y4_1_1_1_1, .int 2])), (y4_1_1_1_1, .inl (D.2 6, 10, .inr (.inr (.inr (.inr (va_up (va_up (fun _ => none) 0 (some q2)) 1 (some q5))))))), (q5, .inr (7, [.ref (a 0), .ref (a 0)])), (q2, .inr (6, [.ref (a 0)]))]) rfl ?_
    refine gw_pop X 42 dX0_kind_41 rfl rfl ?_
    refine gw_aload_n X 43 0 dX0_kind_42 rfl rfl rfl ?_
    refine gl_get (q0 := 4) (fs := wXf0 a σ) X 46 in_X0 gl_cl0 (by rintro _ ⟨_, ⟨_, _, rfl⟩, rfl⟩; rfl) 12 (by decide) q309 rfl rfl dX0_kind_43 rfl ?_
    refine gl_new (fs := [.null]) X 49 tyX9 tyX9_ok in_X9 gl_cl8 q750 q751 q160 gl_dfX9 rfl dX0_kind_46 rfl rfl rfl (fun q8 => ?_)
    refine gl_merge (w := [(q8, .inr (8, [.null])), (a 14, .inr (11, [.int 2, .ref y4_1_1_1_1, .int 2])), (y4_1_1_1_1, .inl (D.2 6, 10, .inr (.inr (.inr (.inr (va_up (va_up (fun _ => none) 0 (some q2)) 1 (some q5))))))), (q5, .inr (7, [.ref (a 0), .ref (a 0)])), (q2, .inr (6, [.ref (a 0)]))]) rfl ?_
    refine gw_dup X 50 dX0_kind_49 rfl rfl ?_
    refine gw_aload_n X 51 0 dX0_kind_50 rfl rfl rfl ?_
    refine gl_split (w1 := [(q8, .inr (8, [.null]))]) (w2 := [(a 14, .inr (11, [.int 2, .ref y4_1_1_1_1, .int 2])), (y4_1_1_1_1, .inl (D.2 6, 10, .inr (.inr (.inr (.inr (va_up (va_up (fun _ => none) 0 (some q2)) 1 (some q5))))))), (q5, .inr (7, [.ref (a 0), .ref (a 0)])), (q2, .inr (6, [.ref (a 0)]))]) rfl ?_
    refine gl_callINv X 54 [.ref (a 0)] (lm_X9_init (b := q8) (h := a 0)) q752 (lw_meth q754) q753 q160 rfl yd_X9_init rfl rfl rfl dX0_kind_51 rfl rfl rfl ?_
    refine gl_merge (w := [(q8, .inr (8, [.ref (a 0)])), (a 14, .inr (11, [.int 2, .ref y4_1_1_1_1, .int 2])), (y4_1_1_1_1, .inl (D.2 6, 10, .inr (.inr (.inr (.inr (va_up (va_up (fun _ => none) 0 (some q2)) 1 (some q5))))))), (q5, .inr (7, [.ref (a 0), .ref (a 0)])), (q2, .inr (6, [.ref (a 0)]))]) rfl ?_
    refine gl_ord (w' := [(a 14, .inr (11, [.int 2, .ref y4_1_1_1_1, .int 2])), (y4_1_1_1_1, .inl (D.2 6, 10, .inr (.inr (.inr (.inr (va_up (va_up (fun _ => none) 0 (some q2)) 1 (some q5))))))), (q8, .inr (8, [.ref (a 0)])), (q5, .inr (7, [.ref (a 0), .ref (a 0)])), (q2, .inr (6, [.ref (a 0)]))]) [1, 2, 0, 3, 4] rfl rfl ?_
    refine gl_split (w1 := [(a 14, .inr (11, [.int 2, .ref y4_1_1_1_1, .int 2])), (y4_1_1_1_1, .inl (D.2 6, 10, .inr (.inr (.inr (.inr (va_up (va_up (fun _ => none) 0 (some q2)) 1 (some q5))))))), (q8, .inr (8, [.ref (a 0)]))]) (w2 := [(q5, .inr (7, [.ref (a 0), .ref (a 0)])), (q2, .inr (6, [.ref (a 0)]))]) rfl ?_
    refine gw_callVi X 57 [.ref q8] (lm_J2_add_2_swap (b := a 14) (m := 2) (x := q8) (h := a 0) (e := y4_1_1_1_1) (f := (va_up (va_up (fun _ => none) 0 (some q2)) 1 (some q5)))) lk_X0_158 ydv_J2_add gl_cl11 (gl_ate (q0 := 0) rfl) rfl rfl rfl dX0_kind_54 rfl rfl rfl ?_
    refine gl_merge (w := [(a 14, .inr (11, [.int 3, .ref y4_1_1_1_1, .int 3])), (y4_1_1_1_1, .inl (D.2 6, 10, .inr (.inr (.inr (.inr (va_up (va_up (va_up (fun _ => none) 0 (some q2)) 1 (some q5)) 2 (some q8))))))), (q8, .inr (8, [.ref (a 0)])), (q5, .inr (7, [.ref (a 0), .ref (a 0)])), (q2, .inr (6, [.ref (a 0)]))]) rfl ?_
    refine gw_pop X 58 dX0_kind_57 rfl rfl ?_
    refine gw_aload_n X 59 0 dX0_kind_58 rfl rfl rfl ?_
    refine gl_get (q0 := 5) (fs := wXf0 a σ) X 62 in_X0 gl_cl0 (by rintro _ ⟨_, ⟨_, _, rfl⟩, rfl⟩; rfl) 12 (by decide) q309 rfl rfl dX0_kind_59 rfl ?_
    refine gl_new (fs := [.null]) X 65 tyX10 tyX10_ok in_X10 gl_cl9 q760 q761 q161 gl_dfX10 rfl dX0_kind_62 rfl rfl rfl (fun q11 => ?_)
    refine gl_merge (w := [(q11, .inr (9, [.null])), (a 14, .inr (11, [.int 3, .ref y4_1_1_1_1, .int 3])), (y4_1_1_1_1, .inl (D.2 6, 10, .inr (.inr (.inr (.inr (va_up (va_up (va_up (fun _ => none) 0 (some q2)) 1 (some q5)) 2 (some q8))))))), (q8, .inr (8, [.ref (a 0)])), (q5, .inr (7, [.ref (a 0), .ref (a 0)])), (q2, .inr (6, [.ref (a 0)]))]) rfl ?_
    refine gw_dup X 66 dX0_kind_65 rfl rfl ?_
    refine gw_aload_n X 67 0 dX0_kind_66 rfl rfl rfl ?_
    refine gl_split (w1 := [(q11, .inr (9, [.null]))]) (w2 := [(a 14, .inr (11, [.int 3, .ref y4_1_1_1_1, .int 3])), (y4_1_1_1_1, .inl (D.2 6, 10, .inr (.inr (.inr (.inr (va_up (va_up (va_up (fun _ => none) 0 (some q2)) 1 (some q5)) 2 (some q8))))))), (q8, .inr (8, [.ref (a 0)])), (q5, .inr (7, [.ref (a 0), .ref (a 0)])), (q2, .inr (6, [.ref (a 0)]))]) rfl ?_
    refine gl_callINv X 70 [.ref (a 0)] (lm_X10_init (b := q11) (h := a 0)) q762 (lw_meth q764) q763 q161 rfl yd_X10_init rfl rfl rfl dX0_kind_67 rfl rfl rfl ?_
    refine gl_merge (w := [(q11, .inr (9, [.ref (a 0)])), (a 14, .inr (11, [.int 3, .ref y4_1_1_1_1, .int 3])), (y4_1_1_1_1, .inl (D.2 6, 10, .inr (.inr (.inr (.inr (va_up (va_up (va_up (fun _ => none) 0 (some q2)) 1 (some q5)) 2 (some q8))))))), (q8, .inr (8, [.ref (a 0)])), (q5, .inr (7, [.ref (a 0), .ref (a 0)])), (q2, .inr (6, [.ref (a 0)]))]) rfl ?_
    refine gl_ord (w' := [(a 14, .inr (11, [.int 3, .ref y4_1_1_1_1, .int 3])), (y4_1_1_1_1, .inl (D.2 6, 10, .inr (.inr (.inr (.inr (va_up (va_up (va_up (fun _ => none) 0 (some q2)) 1 (some q5)) 2 (some q8))))))), (q11, .inr (9, [.ref (a 0)])), (q8, .inr (8, [.ref (a 0)])), (q5, .inr (7, [.ref (a 0), .ref (a 0)])), (q2, .inr (6, [.ref (a 0)]))]) [1, 2, 0, 3, 4, 5] rfl rfl ?_
    refine gl_split (w1 := [(a 14, .inr (11, [.int 3, .ref y4_1_1_1_1, .int 3])), (y4_1_1_1_1, .inl (D.2 6, 10, .inr (.inr (.inr (.inr (va_up (va_up (va_up (fun _ => none) 0 (some q2)) 1 (some q5)) 2 (some q8))))))), (q11, .inr (9, [.ref (a 0)]))]) (w2 := [(q8, .inr (8, [.ref (a 0)])), (q5, .inr (7, [.ref (a 0), .ref (a 0)])), (q2, .inr (6, [.ref (a 0)]))]) rfl ?_
    refine gw_callVi X 73 [.ref q11] (lm_J2_add_3_steal (b := a 14) (m := 3) (x := q11) (h := a 0) (e := y4_1_1_1_1) (f := (va_up (va_up (va_up (fun _ => none) 0 (some q2)) 1 (some q5)) 2 (some q8)))) lk_X0_158 ydv_J2_add gl_cl11 (gl_ate (q0 := 0) rfl) rfl rfl rfl dX0_kind_70 rfl rfl rfl ?_
    refine gl_merge (w := [(a 14, .inr (11, [.int 4, .ref y4_1_1_1_1, .int 4])), (y4_1_1_1_1, .inl (D.2 6, 10, .inr (.inr (.inr (.inr (va_up (va_up (va_up (va_up (fun _ => none) 0 (some q2)) 1 (some q5)) 2 (some q8)) 3 (some q11))))))), (q11, .inr (9, [.ref (a 0)])), (q8, .inr (8, [.ref (a 0)])), (q5, .inr (7, [.ref (a 0), .ref (a 0)])), (q2, .inr (6, [.ref (a 0)]))]) rfl ?_
    refine gw_pop X 74 dX0_kind_73 rfl rfl ?_
    refine gw_aload_n X 75 0 dX0_kind_74 rfl rfl rfl ?_
    refine gl_get (q0 := 6) (fs := wXf0 a σ) X 78 in_X0 gl_cl0 (by rintro _ ⟨_, ⟨_, _, rfl⟩, rfl⟩; rfl) 12 (by decide) q309 rfl rfl dX0_kind_75 rfl ?_
    refine gl_new (fs := [.null]) X 81 tyX11 tyX11_ok in_X11 gl_cl10 q770 q771 q162 gl_dfX11 rfl dX0_kind_78 rfl rfl rfl (fun q14 => ?_)
    refine gl_merge (w := [(q14, .inr (10, [.null])), (a 14, .inr (11, [.int 4, .ref y4_1_1_1_1, .int 4])), (y4_1_1_1_1, .inl (D.2 6, 10, .inr (.inr (.inr (.inr (va_up (va_up (va_up (va_up (fun _ => none) 0 (some q2)) 1 (some q5)) 2 (some q8)) 3 (some q11))))))), (q11, .inr (9, [.ref (a 0)])), (q8, .inr (8, [.ref (a 0)])), (q5, .inr (7, [.ref (a 0), .ref (a 0)])), (q2, .inr (6, [.ref (a 0)]))]) rfl ?_
    refine gw_dup X 82 dX0_kind_81 rfl rfl ?_
    refine gw_aload_n X 83 0 dX0_kind_82 rfl rfl rfl ?_
    refine gl_split (w1 := [(q14, .inr (10, [.null]))]) (w2 := [(a 14, .inr (11, [.int 4, .ref y4_1_1_1_1, .int 4])), (y4_1_1_1_1, .inl (D.2 6, 10, .inr (.inr (.inr (.inr (va_up (va_up (va_up (va_up (fun _ => none) 0 (some q2)) 1 (some q5)) 2 (some q8)) 3 (some q11))))))), (q11, .inr (9, [.ref (a 0)])), (q8, .inr (8, [.ref (a 0)])), (q5, .inr (7, [.ref (a 0), .ref (a 0)])), (q2, .inr (6, [.ref (a 0)]))]) rfl ?_
    refine gl_callINv X 86 [.ref (a 0)] (lm_X11_init (b := q14) (h := a 0)) q772 (lw_meth q774) q773 q162 rfl yd_X11_init rfl rfl rfl dX0_kind_83 rfl rfl rfl ?_
    refine gl_merge (w := [(q14, .inr (10, [.ref (a 0)])), (a 14, .inr (11, [.int 4, .ref y4_1_1_1_1, .int 4])), (y4_1_1_1_1, .inl (D.2 6, 10, .inr (.inr (.inr (.inr (va_up (va_up (va_up (va_up (fun _ => none) 0 (some q2)) 1 (some q5)) 2 (some q8)) 3 (some q11))))))), (q11, .inr (9, [.ref (a 0)])), (q8, .inr (8, [.ref (a 0)])), (q5, .inr (7, [.ref (a 0), .ref (a 0)])), (q2, .inr (6, [.ref (a 0)]))]) rfl ?_
    refine gl_ord (w' := [(a 14, .inr (11, [.int 4, .ref y4_1_1_1_1, .int 4])), (y4_1_1_1_1, .inl (D.2 6, 10, .inr (.inr (.inr (.inr (va_up (va_up (va_up (va_up (fun _ => none) 0 (some q2)) 1 (some q5)) 2 (some q8)) 3 (some q11))))))), (q14, .inr (10, [.ref (a 0)])), (q11, .inr (9, [.ref (a 0)])), (q8, .inr (8, [.ref (a 0)])), (q5, .inr (7, [.ref (a 0), .ref (a 0)])), (q2, .inr (6, [.ref (a 0)]))]) [1, 2, 0, 3, 4, 5, 6] rfl rfl ?_
    refine gl_split (w1 := [(a 14, .inr (11, [.int 4, .ref y4_1_1_1_1, .int 4])), (y4_1_1_1_1, .inl (D.2 6, 10, .inr (.inr (.inr (.inr (va_up (va_up (va_up (va_up (fun _ => none) 0 (some q2)) 1 (some q5)) 2 (some q8)) 3 (some q11))))))), (q14, .inr (10, [.ref (a 0)]))]) (w2 := [(q11, .inr (9, [.ref (a 0)])), (q8, .inr (8, [.ref (a 0)])), (q5, .inr (7, [.ref (a 0), .ref (a 0)])), (q2, .inr (6, [.ref (a 0)]))]) rfl ?_
    refine gw_callVi X 89 [.ref q14] (lm_J2_add_4_day (b := a 14) (m := 4) (x := q14) (h := a 0) (e := y4_1_1_1_1) (f := (va_up (va_up (va_up (va_up (fun _ => none) 0 (some q2)) 1 (some q5)) 2 (some q8)) 3 (some q11)))) lk_X0_158 ydv_J2_add gl_cl11 (gl_ate (q0 := 0) rfl) rfl rfl rfl dX0_kind_86 rfl rfl rfl ?_
    refine gl_merge (w := [(a 14, .inr (11, [.int 5, .ref y4_1_1_1_1, .int 5])), (y4_1_1_1_1, .inl (D.2 6, 10, .inr (.inr (.inr (.inr (va_up (va_up (va_up (va_up (va_up (fun _ => none) 0 (some q2)) 1 (some q5)) 2 (some q8)) 3 (some q11)) 4 (some q14))))))), (q14, .inr (10, [.ref (a 0)])), (q11, .inr (9, [.ref (a 0)])), (q8, .inr (8, [.ref (a 0)])), (q5, .inr (7, [.ref (a 0), .ref (a 0)])), (q2, .inr (6, [.ref (a 0)]))]) rfl ?_
    refine gw_pop X 90 dX0_kind_89 rfl rfl ?_
    refine gw_aload_n X 91 0 dX0_kind_90 rfl rfl rfl ?_
    refine gl_get (q0 := 7) (fs := wXf0 a σ) X 94 in_X0 gl_cl0 (by rintro _ ⟨_, ⟨_, _, rfl⟩, rfl⟩; rfl) 12 (by decide) q309 rfl rfl dX0_kind_91 rfl ?_
    refine gw_iload_n X 95 1 dX0_kind_94 rfl rfl rfl ?_
    refine gl_split (w1 := [(a 14, .inr (11, [.int 5, .ref y4_1_1_1_1, .int 5])), (y4_1_1_1_1, .inl (D.2 6, 10, .inr (.inr (.inr (.inr (va_up (va_up (va_up (va_up (va_up (fun _ => none) 0 (some q2)) 1 (some q5)) 2 (some q8)) 3 (some q11)) 4 (some q14)))))))]) (w2 := [(q14, .inr (10, [.ref (a 0)])), (q11, .inr (9, [.ref (a 0)])), (q8, .inr (8, [.ref (a 0)])), (q5, .inr (7, [.ref (a 0), .ref (a 0)])), (q2, .inr (6, [.ref (a 0)]))]) rfl ?_
    refine gw_callV X 98 [.int 0] (lm_J2_get5 (b := a 14) (e := y4_1_1_1_1) (m := 5) (f := (va_up (va_up (va_up (va_up (va_up (fun _ => none) 0 (some q2)) 1 (some q5)) 2 (some q8)) 3 (some q11)) 4 (some q14))) (i := 0) (x := q2) (by decide) (by decide) (gw_in rfl) rfl) lk_X0_174 ydv_J2_get gl_cl11 (gl_ate (q0 := 0) rfl) rfl rfl rfl dX0_kind_95 rfl ?_
    rintro v u ⟨rfl, hu⟩
    revert u
    show gw_W E 98 _ _ (gw_st [(a 14, .inr (11, [.int 5, .ref y4_1_1_1_1, .int 5])), (y4_1_1_1_1, .inl (D.2 6, 10, .inr (.inr (.inr (.inr (va_up (va_up (va_up (va_up (va_up (fun _ => none) 0 (some q2)) 1 (some q5)) 2 (some q8)) 3 (some q11)) 4 (some q14)))))))] (gw_st [(q14, .inr (10, [.ref (a 0)])), (q11, .inr (9, [.ref (a 0)])), (q8, .inr (8, [.ref (a 0)])), (q5, .inr (7, [.ref (a 0), .ref (a 0)])), (q2, .inr (6, [.ref (a 0)]))] (gw_st (wX D a σ) Wr))) _ _
    refine gl_merge (w := [(a 14, .inr (11, [.int 5, .ref y4_1_1_1_1, .int 5])), (y4_1_1_1_1, .inl (D.2 6, 10, .inr (.inr (.inr (.inr (va_up (va_up (va_up (va_up (va_up (fun _ => none) 0 (some q2)) 1 (some q5)) 2 (some q8)) 3 (some q11)) 4 (some q14))))))), (q14, .inr (10, [.ref (a 0)])), (q11, .inr (9, [.ref (a 0)])), (q8, .inr (8, [.ref (a 0)])), (q5, .inr (7, [.ref (a 0), .ref (a 0)])), (q2, .inr (6, [.ref (a 0)]))]) rfl ?_
    refine gl_cast (q0 := 6) X 101 q792 q2084 gl_cl6 (gl_at rfl) dX0_kind_98 rfl ?_
    refine gl_ord (w' := [(a 14, .inr (11, [.int 5, .ref y4_1_1_1_1, .int 5])), (y4_1_1_1_1, .inl (D.2 6, 10, .inr (.inr (.inr (.inr (va_up (va_up (va_up (va_up (va_up (fun _ => none) 0 (some q2)) 1 (some q5)) 2 (some q8)) 3 (some q11)) 4 (some q14))))))), (q2, .inr (6, [.ref (a 0)])), (q5, .inr (7, [.ref (a 0), .ref (a 0)])), (q8, .inr (8, [.ref (a 0)])), (q11, .inr (9, [.ref (a 0)])), (q14, .inr (10, [.ref (a 0)]))]) [0, 1, 6, 5, 4, 3, 2] rfl rfl ?_
    refine gl_perm (Ws' := gw_st (wX D a σ) (gw_st (wK D a (fun i => match i with | 0 => y4_1_1_1_1 | 1 => q2 | 2 => q5 | 3 => q8 | 4 => q11 | _ => q14)) Wr)) gK_back ?_
    exact gw_aret X dX0_kind_101 (fun _ h => ⟨(fun i => match i with | 0 => y4_1_1_1_1 | 1 => q2 | 2 => q5 | 3 => q8 | 4 => q11 | _ => q14), rfl, h⟩) (Nat.le_of_ble_eq_true rfl) (Nat.le_of_ble_eq_true rfl)
  · refine gw_aload_n X 1 0 dX0_kind_0 rfl rfl rfl ?_
    refine gl_get (q0 := 7) (fs := wXf0 a σ) X 4 in_X0 gl_cl0 (by rintro _ ⟨_, ⟨_, _, rfl⟩, rfl⟩; rfl) 12 (by decide) q309 rfl rfl dX0_kind_1 rfl ?_
    refine gl_split (w1 := [(a 14, .inr (11, [.int 5, .ref (b 0), .int 5]))]) (w2 := [(b 0, .inl (D.2 6, 10, .inr (.inr (.inr (.inr (wKf b)))))), (b 1, .inr (6, [.ref (a 0)])), (b 2, .inr (7, [.ref (a 0), .ref (a 0)])), (b 3, .inr (8, [.ref (a 0)])), (b 4, .inr (9, [.ref (a 0)])), (b 5, .inr (10, [.ref (a 0)]))]) rfl ?_
    refine gw_callVi X 7 [] (lm_J2_isEmpty5 (b := a 14) (e := b 0) (m := 5)) lk_X0_152 ydv_J2_isEmpty gl_cl11 (gl_ate (q0 := 0) rfl) rfl rfl rfl dX0_kind_4 rfl rfl rfl ?_
    refine gl_merge (w := [(a 14, .inr (11, [.int 5, .ref (b 0), .int 5])), (b 0, .inl (D.2 6, 10, .inr (.inr (.inr (.inr (wKf b)))))), (b 1, .inr (6, [.ref (a 0)])), (b 2, .inr (7, [.ref (a 0), .ref (a 0)])), (b 3, .inr (8, [.ref (a 0)])), (b 4, .inr (9, [.ref (a 0)])), (b 5, .inr (10, [.ref (a 0)]))]) rfl ?_
    refine gw_if_eq X 90 10 dX0_kind_7 rfl rfl (fun _ => ?_) (fun z => absurd (by decide) z)
    refine gw_aload_n X 91 0 dX0_kind_90 rfl rfl rfl ?_
    refine gl_get (q0 := 7) (fs := wXf0 a σ) X 94 in_X0 gl_cl0 (by rintro _ ⟨_, ⟨_, _, rfl⟩, rfl⟩; rfl) 12 (by decide) q309 rfl rfl dX0_kind_91 rfl ?_
    refine gw_iload_n X 95 1 dX0_kind_94 rfl rfl rfl ?_
    refine gl_split (w1 := [(a 14, .inr (11, [.int 5, .ref (b 0), .int 5])), (b 0, .inl (D.2 6, 10, .inr (.inr (.inr (.inr (wKf b))))))]) (w2 := [(b 1, .inr (6, [.ref (a 0)])), (b 2, .inr (7, [.ref (a 0), .ref (a 0)])), (b 3, .inr (8, [.ref (a 0)])), (b 4, .inr (9, [.ref (a 0)])), (b 5, .inr (10, [.ref (a 0)]))]) rfl ?_
    refine gw_callV X 98 [.int 0] (lm_J2_get5 (b := a 14) (e := b 0) (m := 5) (f := (wKf b)) (i := 0) (x := b 1) (by decide) (by decide) (gw_in rfl) rfl) lk_X0_174 ydv_J2_get gl_cl11 (gl_ate (q0 := 0) rfl) rfl rfl rfl dX0_kind_95 rfl ?_
    rintro v u ⟨rfl, hu⟩
    revert u
    show gw_W E 98 _ _ (gw_st [(a 14, .inr (11, [.int 5, .ref (b 0), .int 5])), (b 0, .inl (D.2 6, 10, .inr (.inr (.inr (.inr (wKf b))))))] (gw_st [(b 1, .inr (6, [.ref (a 0)])), (b 2, .inr (7, [.ref (a 0), .ref (a 0)])), (b 3, .inr (8, [.ref (a 0)])), (b 4, .inr (9, [.ref (a 0)])), (b 5, .inr (10, [.ref (a 0)]))] (gw_st (wX D a σ) Wr))) _ _
    refine gl_merge (w := [(a 14, .inr (11, [.int 5, .ref (b 0), .int 5])), (b 0, .inl (D.2 6, 10, .inr (.inr (.inr (.inr (wKf b)))))), (b 1, .inr (6, [.ref (a 0)])), (b 2, .inr (7, [.ref (a 0), .ref (a 0)])), (b 3, .inr (8, [.ref (a 0)])), (b 4, .inr (9, [.ref (a 0)])), (b 5, .inr (10, [.ref (a 0)]))]) rfl ?_
    refine gl_cast (q0 := 2) X 101 q792 q2084 gl_cl6 (gl_at rfl) dX0_kind_98 rfl ?_
    refine gl_perm (Ws' := gw_st (wX D a σ) (gw_st (wK D a b) Wr)) gK_back ?_
    exact gw_aret X dX0_kind_101 (fun _ h => ⟨b, rfl, h⟩) (Nat.le_of_ble_eq_true rfl) (Nat.le_of_ble_eq_true rfl)
set_option maxHeartbeats 4000000 in
theorem mt_X0_kind_1 {l : Launch} {D : gw_D} {a : Nat → Nat} {Wr : va_W → Prop} {σ : gw_S} : gw_Ct D l yX0_kind cX0_kind 2 (some (.object "CardHolder$Act")) rm_X0_kind [.ref (a 0), .int 1] (gw_st (wX D a σ) (gw_sp (gK D a) Wr)) (fun v u => ∃ b : Nat → Nat, v = some (.ref (b 2)) ∧ gw_st (wX D a σ) (gw_st (wK D a b) Wr) u) := by
  refine gw_ct (own := RX0) [(0, .ref (a 0)), (1, .int 1)] (by decide) rfl (Nat.le_of_ble_eq_true rfl) rfl ?_
  intro E X
  refine gK_cases ?_ (fun b => ?_)
  · refine gw_aload_n X 1 0 dX0_kind_0 rfl rfl rfl ?_
    refine gl_get (q0 := 1) (fs := wXf0 a σ) X 4 in_X0 gl_cl0 (by rintro _ ⟨_, ⟨_, _, rfl⟩, rfl⟩; rfl) 12 (by decide) q309 rfl rfl dX0_kind_1 rfl ?_
    refine gl_split (w1 := [(a 14, .inr (11, [.int 0, .ref (D.2 100), .int 0]))]) (w2 := []) rfl ?_
    refine gw_callVi X 7 [] (lm_J2_isEmpty0 (b := a 14) (e := D.2 100) (m := 0)) lk_X0_152 ydv_J2_isEmpty gl_cl11 (gl_ate (q0 := 0) rfl) rfl rfl rfl dX0_kind_4 rfl rfl rfl ?_
    refine gl_merge (w := [(a 14, .inr (11, [.int 0, .ref (D.2 100), .int 0]))]) rfl ?_
    refine gw_if_eq X 90 10 dX0_kind_7 rfl rfl (fun z => absurd z (by decide)) (fun _ => ?_)
    refine gw_aload_n X 11 0 dX0_kind_10 rfl rfl rfl ?_
    refine gl_get (q0 := 1) (fs := wXf0 a σ) X 14 in_X0 gl_cl0 (by rintro _ ⟨_, ⟨_, _, rfl⟩, rfl⟩; rfl) 12 (by decide) q309 rfl rfl dX0_kind_11 rfl ?_
    refine gl_new (fs := [.null]) X 17 tyX7 tyX7_ok in_X7 gl_cl6 q666 q667 q156 gl_dfX7 rfl dX0_kind_14 rfl rfl rfl (fun q2 => ?_)
    refine gl_merge (w := [(q2, .inr (6, [.null])), (a 14, .inr (11, [.int 0, .ref (D.2 100), .int 0]))]) rfl ?_
    refine gw_dup X 18 dX0_kind_17 rfl rfl ?_
    refine gw_aload_n X 19 0 dX0_kind_18 rfl rfl rfl ?_
    refine gl_split (w1 := [(q2, .inr (6, [.null]))]) (w2 := [(a 14, .inr (11, [.int 0, .ref (D.2 100), .int 0]))]) rfl ?_
    refine gl_callINv X 22 [.ref (a 0)] (lm_X7_init (b := q2) (h := a 0)) q668 (lw_meth q670) q669 q156 rfl yd_X7_init rfl rfl rfl dX0_kind_19 rfl rfl rfl ?_
    refine gl_merge (w := [(q2, .inr (6, [.ref (a 0)])), (a 14, .inr (11, [.int 0, .ref (D.2 100), .int 0]))]) rfl ?_
    refine gl_ord (w' := [(a 14, .inr (11, [.int 0, .ref (D.2 100), .int 0])), (q2, .inr (6, [.ref (a 0)]))]) [1, 0] rfl rfl ?_
    refine gl_split (w1 := [(a 14, .inr (11, [.int 0, .ref (D.2 100), .int 0])), (q2, .inr (6, [.ref (a 0)]))]) (w2 := []) rfl ?_
    refine gw_callV X 25 [.ref q2] (lm_J2_add_0_ask (b := a 14) (m := 0) (x := q2) (h := a 0)) lk_X0_158 ydv_J2_add gl_cl11 (gl_ate (q0 := 0) rfl) rfl rfl rfl dX0_kind_22 rfl ?_
    rintro v u ⟨y4_1_1_1_1, rfl, hu⟩
    revert u
    show gw_W E 25 _ (.int 1 :: _) (gw_st [(y4_1_1_1_1, .inl (D.2 6, 10, .inr (.inr (.inr (.inr (va_up (fun _ => none) 0 (some q2))))))), (a 14, .inr (11, [.int 1, .ref y4_1_1_1_1, .int 1])), (q2, .inr (6, [.ref (a 0)]))] (gw_st [] (gw_st (wX D a σ) Wr))) 2 11
    refine gl_merge (w := [(y4_1_1_1_1, .inl (D.2 6, 10, .inr (.inr (.inr (.inr (va_up (fun _ => none) 0 (some q2))))))), (a 14, .inr (11, [.int 1, .ref y4_1_1_1_1, .int 1])), (q2, .inr (6, [.ref (a 0)]))]) rfl ?_
    refine gw_pop X 26 dX0_kind_25 rfl rfl ?_
    refine gw_aload_n X 27 0 dX0_kind_26 rfl rfl rfl ?_
    refine gl_get (q0 := 3) (fs := wXf0 a σ) X 30 in_X0 gl_cl0 (by rintro _ ⟨_, ⟨_, _, rfl⟩, rfl⟩; rfl) 12 (by decide) q309 rfl rfl dX0_kind_27 rfl ?_
    refine gl_new (fs := [.null, .null]) X 33 tyX8 tyX8_ok in_X8 gl_cl7 q739 q740 q159 gl_dfX8 rfl dX0_kind_30 rfl rfl rfl (fun q5 => ?_)
    refine gl_merge (w := [(q5, .inr (7, [.null, .null])), (y4_1_1_1_1, .inl (D.2 6, 10, .inr (.inr (.inr (.inr (va_up (fun _ => none) 0 (some q2))))))), (a 14, .inr (11, [.int 1, .ref y4_1_1_1_1, .int 1])), (q2, .inr (6, [.ref (a 0)]))]) rfl ?_
    refine gw_dup X 34 dX0_kind_33 rfl rfl ?_
    refine gw_aload_n X 35 0 dX0_kind_34 rfl rfl rfl ?_
    refine gl_split (w1 := [(q5, .inr (7, [.null, .null]))]) (w2 := [(y4_1_1_1_1, .inl (D.2 6, 10, .inr (.inr (.inr (.inr (va_up (fun _ => none) 0 (some q2))))))), (a 14, .inr (11, [.int 1, .ref y4_1_1_1_1, .int 1])), (q2, .inr (6, [.ref (a 0)]))]) rfl ?_
    refine gl_callINv X 38 [.ref (a 0)] (lm_X8_init (b := q5) (h := a 0)) q741 (lw_meth q743) q742 q159 rfl yd_X8_init rfl rfl rfl dX0_kind_35 rfl rfl rfl ?_
    refine gl_merge (w := [(q5, .inr (7, [.ref (a 0), .ref (a 0)])), (y4_1_1_1_1, .inl (D.2 6, 10, .inr (.inr (.inr (.inr (va_up (fun _ => none) 0 (some q2))))))), (a 14, .inr (11, [.int 1, .ref y4_1_1_1_1, .int 1])), (q2, .inr (6, [.ref (a 0)]))]) rfl ?_
    refine gl_ord (w' := [(a 14, .inr (11, [.int 1, .ref y4_1_1_1_1, .int 1])), (y4_1_1_1_1, .inl (D.2 6, 10, .inr (.inr (.inr (.inr (va_up (fun _ => none) 0 (some q2))))))), (q5, .inr (7, [.ref (a 0), .ref (a 0)])), (q2, .inr (6, [.ref (a 0)]))]) [2, 1, 0, 3] rfl rfl ?_
    refine gl_split (w1 := [(a 14, .inr (11, [.int 1, .ref y4_1_1_1_1, .int 1])), (y4_1_1_1_1, .inl (D.2 6, 10, .inr (.inr (.inr (.inr (va_up (fun _ => none) 0 (some q2))))))), (q5, .inr (7, [.ref (a 0), .ref (a 0)]))]) (w2 := [(q2, .inr (6, [.ref (a 0)]))]) rfl ?_
    refine gw_callVi X 41 [.ref q5] (lm_J2_add_1_give (b := a 14) (m := 1) (x := q5) (h := a 0) (e := y4_1_1_1_1) (f := (va_up (fun _ => none) 0 (some q2)))) lk_X0_158 ydv_J2_add gl_cl11 (gl_ate (q0 := 0) rfl) rfl rfl rfl dX0_kind_38 rfl rfl rfl ?_
    refine gl_merge (w := [(a 14, .inr (11, [.int 2, .ref y4_1_1_1_1, .int 2])), (y4_1_1_1_1, .inl (D.2 6, 10, .inr (.inr (.inr (.inr (va_up (va_up (fun _ => none) 0 (some q2)) 1 (some q5))))))), (q5, .inr (7, [.ref (a 0), .ref (a 0)])), (q2, .inr (6, [.ref (a 0)]))]) rfl ?_
    refine gw_pop X 42 dX0_kind_41 rfl rfl ?_
    refine gw_aload_n X 43 0 dX0_kind_42 rfl rfl rfl ?_
    refine gl_get (q0 := 4) (fs := wXf0 a σ) X 46 in_X0 gl_cl0 (by rintro _ ⟨_, ⟨_, _, rfl⟩, rfl⟩; rfl) 12 (by decide) q309 rfl rfl dX0_kind_43 rfl ?_
    refine gl_new (fs := [.null]) X 49 tyX9 tyX9_ok in_X9 gl_cl8 q750 q751 q160 gl_dfX9 rfl dX0_kind_46 rfl rfl rfl (fun q8 => ?_)
    refine gl_merge (w := [(q8, .inr (8, [.null])), (a 14, .inr (11, [.int 2, .ref y4_1_1_1_1, .int 2])), (y4_1_1_1_1, .inl (D.2 6, 10, .inr (.inr (.inr (.inr (va_up (va_up (fun _ => none) 0 (some q2)) 1 (some q5))))))), (q5, .inr (7, [.ref (a 0), .ref (a 0)])), (q2, .inr (6, [.ref (a 0)]))]) rfl ?_
    refine gw_dup X 50 dX0_kind_49 rfl rfl ?_
    refine gw_aload_n X 51 0 dX0_kind_50 rfl rfl rfl ?_
    refine gl_split (w1 := [(q8, .inr (8, [.null]))]) (w2 := [(a 14, .inr (11, [.int 2, .ref y4_1_1_1_1, .int 2])), (y4_1_1_1_1, .inl (D.2 6, 10, .inr (.inr (.inr (.inr (va_up (va_up (fun _ => none) 0 (some q2)) 1 (some q5))))))), (q5, .inr (7, [.ref (a 0), .ref (a 0)])), (q2, .inr (6, [.ref (a 0)]))]) rfl ?_
    refine gl_callINv X 54 [.ref (a 0)] (lm_X9_init (b := q8) (h := a 0)) q752 (lw_meth q754) q753 q160 rfl yd_X9_init rfl rfl rfl dX0_kind_51 rfl rfl rfl ?_
    refine gl_merge (w := [(q8, .inr (8, [.ref (a 0)])), (a 14, .inr (11, [.int 2, .ref y4_1_1_1_1, .int 2])), (y4_1_1_1_1, .inl (D.2 6, 10, .inr (.inr (.inr (.inr (va_up (va_up (fun _ => none) 0 (some q2)) 1 (some q5))))))), (q5, .inr (7, [.ref (a 0), .ref (a 0)])), (q2, .inr (6, [.ref (a 0)]))]) rfl ?_
    refine gl_ord (w' := [(a 14, .inr (11, [.int 2, .ref y4_1_1_1_1, .int 2])), (y4_1_1_1_1, .inl (D.2 6, 10, .inr (.inr (.inr (.inr (va_up (va_up (fun _ => none) 0 (some q2)) 1 (some q5))))))), (q8, .inr (8, [.ref (a 0)])), (q5, .inr (7, [.ref (a 0), .ref (a 0)])), (q2, .inr (6, [.ref (a 0)]))]) [1, 2, 0, 3, 4] rfl rfl ?_
    refine gl_split (w1 := [(a 14, .inr (11, [.int 2, .ref y4_1_1_1_1, .int 2])), (y4_1_1_1_1, .inl (D.2 6, 10, .inr (.inr (.inr (.inr (va_up (va_up (fun _ => none) 0 (some q2)) 1 (some q5))))))), (q8, .inr (8, [.ref (a 0)]))]) (w2 := [(q5, .inr (7, [.ref (a 0), .ref (a 0)])), (q2, .inr (6, [.ref (a 0)]))]) rfl ?_
    refine gw_callVi X 57 [.ref q8] (lm_J2_add_2_swap (b := a 14) (m := 2) (x := q8) (h := a 0) (e := y4_1_1_1_1) (f := (va_up (va_up (fun _ => none) 0 (some q2)) 1 (some q5)))) lk_X0_158 ydv_J2_add gl_cl11 (gl_ate (q0 := 0) rfl) rfl rfl rfl dX0_kind_54 rfl rfl rfl ?_
    refine gl_merge (w := [(a 14, .inr (11, [.int 3, .ref y4_1_1_1_1, .int 3])), (y4_1_1_1_1, .inl (D.2 6, 10, .inr (.inr (.inr (.inr (va_up (va_up (va_up (fun _ => none) 0 (some q2)) 1 (some q5)) 2 (some q8))))))), (q8, .inr (8, [.ref (a 0)])), (q5, .inr (7, [.ref (a 0), .ref (a 0)])), (q2, .inr (6, [.ref (a 0)]))]) rfl ?_
    refine gw_pop X 58 dX0_kind_57 rfl rfl ?_
    refine gw_aload_n X 59 0 dX0_kind_58 rfl rfl rfl ?_
    refine gl_get (q0 := 5) (fs := wXf0 a σ) X 62 in_X0 gl_cl0 (by rintro _ ⟨_, ⟨_, _, rfl⟩, rfl⟩; rfl) 12 (by decide) q309 rfl rfl dX0_kind_59 rfl ?_
    refine gl_new (fs := [.null]) X 65 tyX10 tyX10_ok in_X10 gl_cl9 q760 q761 q161 gl_dfX10 rfl dX0_kind_62 rfl rfl rfl (fun q11 => ?_)
    refine gl_merge (w := [(q11, .inr (9, [.null])), (a 14, .inr (11, [.int 3, .ref y4_1_1_1_1, .int 3])), (y4_1_1_1_1, .inl (D.2 6, 10, .inr (.inr (.inr (.inr (va_up (va_up (va_up (fun _ => none) 0 (some q2)) 1 (some q5)) 2 (some q8))))))), (q8, .inr (8, [.ref (a 0)])), (q5, .inr (7, [.ref (a 0), .ref (a 0)])), (q2, .inr (6, [.ref (a 0)]))]) rfl ?_
    refine gw_dup X 66 dX0_kind_65 rfl rfl ?_
    refine gw_aload_n X 67 0 dX0_kind_66 rfl rfl rfl ?_
    refine gl_split (w1 := [(q11, .inr (9, [.null]))]) (w2 := [(a 14, .inr (11, [.int 3, .ref y4_1_1_1_1, .int 3])), (y4_1_1_1_1, .inl (D.2 6, 10, .inr (.inr (.inr (.inr (va_up (va_up (va_up (fun _ => none) 0 (some q2)) 1 (some q5)) 2 (some q8))))))), (q8, .inr (8, [.ref (a 0)])), (q5, .inr (7, [.ref (a 0), .ref (a 0)])), (q2, .inr (6, [.ref (a 0)]))]) rfl ?_
    refine gl_callINv X 70 [.ref (a 0)] (lm_X10_init (b := q11) (h := a 0)) q762 (lw_meth q764) q763 q161 rfl yd_X10_init rfl rfl rfl dX0_kind_67 rfl rfl rfl ?_
    refine gl_merge (w := [(q11, .inr (9, [.ref (a 0)])), (a 14, .inr (11, [.int 3, .ref y4_1_1_1_1, .int 3])), (y4_1_1_1_1, .inl (D.2 6, 10, .inr (.inr (.inr (.inr (va_up (va_up (va_up (fun _ => none) 0 (some q2)) 1 (some q5)) 2 (some q8))))))), (q8, .inr (8, [.ref (a 0)])), (q5, .inr (7, [.ref (a 0), .ref (a 0)])), (q2, .inr (6, [.ref (a 0)]))]) rfl ?_
    refine gl_ord (w' := [(a 14, .inr (11, [.int 3, .ref y4_1_1_1_1, .int 3])), (y4_1_1_1_1, .inl (D.2 6, 10, .inr (.inr (.inr (.inr (va_up (va_up (va_up (fun _ => none) 0 (some q2)) 1 (some q5)) 2 (some q8))))))), (q11, .inr (9, [.ref (a 0)])), (q8, .inr (8, [.ref (a 0)])), (q5, .inr (7, [.ref (a 0), .ref (a 0)])), (q2, .inr (6, [.ref (a 0)]))]) [1, 2, 0, 3, 4, 5] rfl rfl ?_
    refine gl_split (w1 := [(a 14, .inr (11, [.int 3, .ref y4_1_1_1_1, .int 3])), (y4_1_1_1_1, .inl (D.2 6, 10, .inr (.inr (.inr (.inr (va_up (va_up (va_up (fun _ => none) 0 (some q2)) 1 (some q5)) 2 (some q8))))))), (q11, .inr (9, [.ref (a 0)]))]) (w2 := [(q8, .inr (8, [.ref (a 0)])), (q5, .inr (7, [.ref (a 0), .ref (a 0)])), (q2, .inr (6, [.ref (a 0)]))]) rfl ?_
    refine gw_callVi X 73 [.ref q11] (lm_J2_add_3_steal (b := a 14) (m := 3) (x := q11) (h := a 0) (e := y4_1_1_1_1) (f := (va_up (va_up (va_up (fun _ => none) 0 (some q2)) 1 (some q5)) 2 (some q8)))) lk_X0_158 ydv_J2_add gl_cl11 (gl_ate (q0 := 0) rfl) rfl rfl rfl dX0_kind_70 rfl rfl rfl ?_
    refine gl_merge (w := [(a 14, .inr (11, [.int 4, .ref y4_1_1_1_1, .int 4])), (y4_1_1_1_1, .inl (D.2 6, 10, .inr (.inr (.inr (.inr (va_up (va_up (va_up (va_up (fun _ => none) 0 (some q2)) 1 (some q5)) 2 (some q8)) 3 (some q11))))))), (q11, .inr (9, [.ref (a 0)])), (q8, .inr (8, [.ref (a 0)])), (q5, .inr (7, [.ref (a 0), .ref (a 0)])), (q2, .inr (6, [.ref (a 0)]))]) rfl ?_
    refine gw_pop X 74 dX0_kind_73 rfl rfl ?_
    refine gw_aload_n X 75 0 dX0_kind_74 rfl rfl rfl ?_
    refine gl_get (q0 := 6) (fs := wXf0 a σ) X 78 in_X0 gl_cl0 (by rintro _ ⟨_, ⟨_, _, rfl⟩, rfl⟩; rfl) 12 (by decide) q309 rfl rfl dX0_kind_75 rfl ?_
    refine gl_new (fs := [.null]) X 81 tyX11 tyX11_ok in_X11 gl_cl10 q770 q771 q162 gl_dfX11 rfl dX0_kind_78 rfl rfl rfl (fun q14 => ?_)
    refine gl_merge (w := [(q14, .inr (10, [.null])), (a 14, .inr (11, [.int 4, .ref y4_1_1_1_1, .int 4])), (y4_1_1_1_1, .inl (D.2 6, 10, .inr (.inr (.inr (.inr (va_up (va_up (va_up (va_up (fun _ => none) 0 (some q2)) 1 (some q5)) 2 (some q8)) 3 (some q11))))))), (q11, .inr (9, [.ref (a 0)])), (q8, .inr (8, [.ref (a 0)])), (q5, .inr (7, [.ref (a 0), .ref (a 0)])), (q2, .inr (6, [.ref (a 0)]))]) rfl ?_
    refine gw_dup X 82 dX0_kind_81 rfl rfl ?_
    refine gw_aload_n X 83 0 dX0_kind_82 rfl rfl rfl ?_
    refine gl_split (w1 := [(q14, .inr (10, [.null]))]) (w2 := [(a 14, .inr (11, [.int 4, .ref y4_1_1_1_1, .int 4])), (y4_1_1_1_1, .inl (D.2 6, 10, .inr (.inr (.inr (.inr (va_up (va_up (va_up (va_up (fun _ => none) 0 (some q2)) 1 (some q5)) 2 (some q8)) 3 (some q11))))))), (q11, .inr (9, [.ref (a 0)])), (q8, .inr (8, [.ref (a 0)])), (q5, .inr (7, [.ref (a 0), .ref (a 0)])), (q2, .inr (6, [.ref (a 0)]))]) rfl ?_
    refine gl_callINv X 86 [.ref (a 0)] (lm_X11_init (b := q14) (h := a 0)) q772 (lw_meth q774) q773 q162 rfl yd_X11_init rfl rfl rfl dX0_kind_83 rfl rfl rfl ?_
    refine gl_merge (w := [(q14, .inr (10, [.ref (a 0)])), (a 14, .inr (11, [.int 4, .ref y4_1_1_1_1, .int 4])), (y4_1_1_1_1, .inl (D.2 6, 10, .inr (.inr (.inr (.inr (va_up (va_up (va_up (va_up (fun _ => none) 0 (some q2)) 1 (some q5)) 2 (some q8)) 3 (some q11))))))), (q11, .inr (9, [.ref (a 0)])), (q8, .inr (8, [.ref (a 0)])), (q5, .inr (7, [.ref (a 0), .ref (a 0)])), (q2, .inr (6, [.ref (a 0)]))]) rfl ?_
    refine gl_ord (w' := [(a 14, .inr (11, [.int 4, .ref y4_1_1_1_1, .int 4])), (y4_1_1_1_1, .inl (D.2 6, 10, .inr (.inr (.inr (.inr (va_up (va_up (va_up (va_up (fun _ => none) 0 (some q2)) 1 (some q5)) 2 (some q8)) 3 (some q11))))))), (q14, .inr (10, [.ref (a 0)])), (q11, .inr (9, [.ref (a 0)])), (q8, .inr (8, [.ref (a 0)])), (q5, .inr (7, [.ref (a 0), .ref (a 0)])), (q2, .inr (6, [.ref (a 0)]))]) [1, 2, 0, 3, 4, 5, 6] rfl rfl ?_
    refine gl_split (w1 := [(a 14, .inr (11, [.int 4, .ref y4_1_1_1_1, .int 4])), (y4_1_1_1_1, .inl (D.2 6, 10, .inr (.inr (.inr (.inr (va_up (va_up (va_up (va_up (fun _ => none) 0 (some q2)) 1 (some q5)) 2 (some q8)) 3 (some q11))))))), (q14, .inr (10, [.ref (a 0)]))]) (w2 := [(q11, .inr (9, [.ref (a 0)])), (q8, .inr (8, [.ref (a 0)])), (q5, .inr (7, [.ref (a 0), .ref (a 0)])), (q2, .inr (6, [.ref (a 0)]))]) rfl ?_
    refine gw_callVi X 89 [.ref q14] (lm_J2_add_4_day (b := a 14) (m := 4) (x := q14) (h := a 0) (e := y4_1_1_1_1) (f := (va_up (va_up (va_up (va_up (fun _ => none) 0 (some q2)) 1 (some q5)) 2 (some q8)) 3 (some q11)))) lk_X0_158 ydv_J2_add gl_cl11 (gl_ate (q0 := 0) rfl) rfl rfl rfl dX0_kind_86 rfl rfl rfl ?_
    refine gl_merge (w := [(a 14, .inr (11, [.int 5, .ref y4_1_1_1_1, .int 5])), (y4_1_1_1_1, .inl (D.2 6, 10, .inr (.inr (.inr (.inr (va_up (va_up (va_up (va_up (va_up (fun _ => none) 0 (some q2)) 1 (some q5)) 2 (some q8)) 3 (some q11)) 4 (some q14))))))), (q14, .inr (10, [.ref (a 0)])), (q11, .inr (9, [.ref (a 0)])), (q8, .inr (8, [.ref (a 0)])), (q5, .inr (7, [.ref (a 0), .ref (a 0)])), (q2, .inr (6, [.ref (a 0)]))]) rfl ?_
    refine gw_pop X 90 dX0_kind_89 rfl rfl ?_
    refine gw_aload_n X 91 0 dX0_kind_90 rfl rfl rfl ?_
    refine gl_get (q0 := 7) (fs := wXf0 a σ) X 94 in_X0 gl_cl0 (by rintro _ ⟨_, ⟨_, _, rfl⟩, rfl⟩; rfl) 12 (by decide) q309 rfl rfl dX0_kind_91 rfl ?_
    refine gw_iload_n X 95 1 dX0_kind_94 rfl rfl rfl ?_
    refine gl_split (w1 := [(a 14, .inr (11, [.int 5, .ref y4_1_1_1_1, .int 5])), (y4_1_1_1_1, .inl (D.2 6, 10, .inr (.inr (.inr (.inr (va_up (va_up (va_up (va_up (va_up (fun _ => none) 0 (some q2)) 1 (some q5)) 2 (some q8)) 3 (some q11)) 4 (some q14)))))))]) (w2 := [(q14, .inr (10, [.ref (a 0)])), (q11, .inr (9, [.ref (a 0)])), (q8, .inr (8, [.ref (a 0)])), (q5, .inr (7, [.ref (a 0), .ref (a 0)])), (q2, .inr (6, [.ref (a 0)]))]) rfl ?_
    refine gw_callV X 98 [.int 1] (lm_J2_get5 (b := a 14) (e := y4_1_1_1_1) (m := 5) (f := (va_up (va_up (va_up (va_up (va_up (fun _ => none) 0 (some q2)) 1 (some q5)) 2 (some q8)) 3 (some q11)) 4 (some q14))) (i := 1) (x := q5) (by decide) (by decide) (gw_in rfl) rfl) lk_X0_174 ydv_J2_get gl_cl11 (gl_ate (q0 := 0) rfl) rfl rfl rfl dX0_kind_95 rfl ?_
    rintro v u ⟨rfl, hu⟩
    revert u
    show gw_W E 98 _ _ (gw_st [(a 14, .inr (11, [.int 5, .ref y4_1_1_1_1, .int 5])), (y4_1_1_1_1, .inl (D.2 6, 10, .inr (.inr (.inr (.inr (va_up (va_up (va_up (va_up (va_up (fun _ => none) 0 (some q2)) 1 (some q5)) 2 (some q8)) 3 (some q11)) 4 (some q14)))))))] (gw_st [(q14, .inr (10, [.ref (a 0)])), (q11, .inr (9, [.ref (a 0)])), (q8, .inr (8, [.ref (a 0)])), (q5, .inr (7, [.ref (a 0), .ref (a 0)])), (q2, .inr (6, [.ref (a 0)]))] (gw_st (wX D a σ) Wr))) _ _
    refine gl_merge (w := [(a 14, .inr (11, [.int 5, .ref y4_1_1_1_1, .int 5])), (y4_1_1_1_1, .inl (D.2 6, 10, .inr (.inr (.inr (.inr (va_up (va_up (va_up (va_up (va_up (fun _ => none) 0 (some q2)) 1 (some q5)) 2 (some q8)) 3 (some q11)) 4 (some q14))))))), (q14, .inr (10, [.ref (a 0)])), (q11, .inr (9, [.ref (a 0)])), (q8, .inr (8, [.ref (a 0)])), (q5, .inr (7, [.ref (a 0), .ref (a 0)])), (q2, .inr (6, [.ref (a 0)]))]) rfl ?_
    refine gl_cast (q0 := 5) X 101 q792 q2086 gl_cl7 (gl_at rfl) dX0_kind_98 rfl ?_
    refine gl_ord (w' := [(a 14, .inr (11, [.int 5, .ref y4_1_1_1_1, .int 5])), (y4_1_1_1_1, .inl (D.2 6, 10, .inr (.inr (.inr (.inr (va_up (va_up (va_up (va_up (va_up (fun _ => none) 0 (some q2)) 1 (some q5)) 2 (some q8)) 3 (some q11)) 4 (some q14))))))), (q2, .inr (6, [.ref (a 0)])), (q5, .inr (7, [.ref (a 0), .ref (a 0)])), (q8, .inr (8, [.ref (a 0)])), (q11, .inr (9, [.ref (a 0)])), (q14, .inr (10, [.ref (a 0)]))]) [0, 1, 6, 5, 4, 3, 2] rfl rfl ?_
    refine gl_perm (Ws' := gw_st (wX D a σ) (gw_st (wK D a (fun i => match i with | 0 => y4_1_1_1_1 | 1 => q2 | 2 => q5 | 3 => q8 | 4 => q11 | _ => q14)) Wr)) gK_back ?_
    exact gw_aret X dX0_kind_101 (fun _ h => ⟨(fun i => match i with | 0 => y4_1_1_1_1 | 1 => q2 | 2 => q5 | 3 => q8 | 4 => q11 | _ => q14), rfl, h⟩) (Nat.le_of_ble_eq_true rfl) (Nat.le_of_ble_eq_true rfl)
  · refine gw_aload_n X 1 0 dX0_kind_0 rfl rfl rfl ?_
    refine gl_get (q0 := 7) (fs := wXf0 a σ) X 4 in_X0 gl_cl0 (by rintro _ ⟨_, ⟨_, _, rfl⟩, rfl⟩; rfl) 12 (by decide) q309 rfl rfl dX0_kind_1 rfl ?_
    refine gl_split (w1 := [(a 14, .inr (11, [.int 5, .ref (b 0), .int 5]))]) (w2 := [(b 0, .inl (D.2 6, 10, .inr (.inr (.inr (.inr (wKf b)))))), (b 1, .inr (6, [.ref (a 0)])), (b 2, .inr (7, [.ref (a 0), .ref (a 0)])), (b 3, .inr (8, [.ref (a 0)])), (b 4, .inr (9, [.ref (a 0)])), (b 5, .inr (10, [.ref (a 0)]))]) rfl ?_
    refine gw_callVi X 7 [] (lm_J2_isEmpty5 (b := a 14) (e := b 0) (m := 5)) lk_X0_152 ydv_J2_isEmpty gl_cl11 (gl_ate (q0 := 0) rfl) rfl rfl rfl dX0_kind_4 rfl rfl rfl ?_
    refine gl_merge (w := [(a 14, .inr (11, [.int 5, .ref (b 0), .int 5])), (b 0, .inl (D.2 6, 10, .inr (.inr (.inr (.inr (wKf b)))))), (b 1, .inr (6, [.ref (a 0)])), (b 2, .inr (7, [.ref (a 0), .ref (a 0)])), (b 3, .inr (8, [.ref (a 0)])), (b 4, .inr (9, [.ref (a 0)])), (b 5, .inr (10, [.ref (a 0)]))]) rfl ?_
    refine gw_if_eq X 90 10 dX0_kind_7 rfl rfl (fun _ => ?_) (fun z => absurd (by decide) z)
    refine gw_aload_n X 91 0 dX0_kind_90 rfl rfl rfl ?_
    refine gl_get (q0 := 7) (fs := wXf0 a σ) X 94 in_X0 gl_cl0 (by rintro _ ⟨_, ⟨_, _, rfl⟩, rfl⟩; rfl) 12 (by decide) q309 rfl rfl dX0_kind_91 rfl ?_
    refine gw_iload_n X 95 1 dX0_kind_94 rfl rfl rfl ?_
    refine gl_split (w1 := [(a 14, .inr (11, [.int 5, .ref (b 0), .int 5])), (b 0, .inl (D.2 6, 10, .inr (.inr (.inr (.inr (wKf b))))))]) (w2 := [(b 1, .inr (6, [.ref (a 0)])), (b 2, .inr (7, [.ref (a 0), .ref (a 0)])), (b 3, .inr (8, [.ref (a 0)])), (b 4, .inr (9, [.ref (a 0)])), (b 5, .inr (10, [.ref (a 0)]))]) rfl ?_
    refine gw_callV X 98 [.int 1] (lm_J2_get5 (b := a 14) (e := b 0) (m := 5) (f := (wKf b)) (i := 1) (x := b 2) (by decide) (by decide) (gw_in rfl) rfl) lk_X0_174 ydv_J2_get gl_cl11 (gl_ate (q0 := 0) rfl) rfl rfl rfl dX0_kind_95 rfl ?_
    rintro v u ⟨rfl, hu⟩
    revert u
    show gw_W E 98 _ _ (gw_st [(a 14, .inr (11, [.int 5, .ref (b 0), .int 5])), (b 0, .inl (D.2 6, 10, .inr (.inr (.inr (.inr (wKf b))))))] (gw_st [(b 1, .inr (6, [.ref (a 0)])), (b 2, .inr (7, [.ref (a 0), .ref (a 0)])), (b 3, .inr (8, [.ref (a 0)])), (b 4, .inr (9, [.ref (a 0)])), (b 5, .inr (10, [.ref (a 0)]))] (gw_st (wX D a σ) Wr))) _ _
    refine gl_merge (w := [(a 14, .inr (11, [.int 5, .ref (b 0), .int 5])), (b 0, .inl (D.2 6, 10, .inr (.inr (.inr (.inr (wKf b)))))), (b 1, .inr (6, [.ref (a 0)])), (b 2, .inr (7, [.ref (a 0), .ref (a 0)])), (b 3, .inr (8, [.ref (a 0)])), (b 4, .inr (9, [.ref (a 0)])), (b 5, .inr (10, [.ref (a 0)]))]) rfl ?_
    refine gl_cast (q0 := 3) X 101 q792 q2086 gl_cl7 (gl_at rfl) dX0_kind_98 rfl ?_
    refine gl_perm (Ws' := gw_st (wX D a σ) (gw_st (wK D a b) Wr)) gK_back ?_
    exact gw_aret X dX0_kind_101 (fun _ h => ⟨b, rfl, h⟩) (Nat.le_of_ble_eq_true rfl) (Nat.le_of_ble_eq_true rfl)
set_option maxHeartbeats 4000000 in
theorem mt_X0_kind_2 {l : Launch} {D : gw_D} {a : Nat → Nat} {Wr : va_W → Prop} {σ : gw_S} : gw_Ct D l yX0_kind cX0_kind 2 (some (.object "CardHolder$Act")) rm_X0_kind [.ref (a 0), .int 2] (gw_st (wX D a σ) (gw_sp (gK D a) Wr)) (fun v u => ∃ b : Nat → Nat, v = some (.ref (b 3)) ∧ gw_st (wX D a σ) (gw_st (wK D a b) Wr) u) := by
  refine gw_ct (own := RX0) [(0, .ref (a 0)), (1, .int 2)] (by decide) rfl (Nat.le_of_ble_eq_true rfl) rfl ?_
  intro E X
  refine gK_cases ?_ (fun b => ?_)
  · refine gw_aload_n X 1 0 dX0_kind_0 rfl rfl rfl ?_
    refine gl_get (q0 := 1) (fs := wXf0 a σ) X 4 in_X0 gl_cl0 (by rintro _ ⟨_, ⟨_, _, rfl⟩, rfl⟩; rfl) 12 (by decide) q309 rfl rfl dX0_kind_1 rfl ?_
    refine gl_split (w1 := [(a 14, .inr (11, [.int 0, .ref (D.2 100), .int 0]))]) (w2 := []) rfl ?_
    refine gw_callVi X 7 [] (lm_J2_isEmpty0 (b := a 14) (e := D.2 100) (m := 0)) lk_X0_152 ydv_J2_isEmpty gl_cl11 (gl_ate (q0 := 0) rfl) rfl rfl rfl dX0_kind_4 rfl rfl rfl ?_
    refine gl_merge (w := [(a 14, .inr (11, [.int 0, .ref (D.2 100), .int 0]))]) rfl ?_
    refine gw_if_eq X 90 10 dX0_kind_7 rfl rfl (fun z => absurd z (by decide)) (fun _ => ?_)
    refine gw_aload_n X 11 0 dX0_kind_10 rfl rfl rfl ?_
    refine gl_get (q0 := 1) (fs := wXf0 a σ) X 14 in_X0 gl_cl0 (by rintro _ ⟨_, ⟨_, _, rfl⟩, rfl⟩; rfl) 12 (by decide) q309 rfl rfl dX0_kind_11 rfl ?_
    refine gl_new (fs := [.null]) X 17 tyX7 tyX7_ok in_X7 gl_cl6 q666 q667 q156 gl_dfX7 rfl dX0_kind_14 rfl rfl rfl (fun q2 => ?_)
    refine gl_merge (w := [(q2, .inr (6, [.null])), (a 14, .inr (11, [.int 0, .ref (D.2 100), .int 0]))]) rfl ?_
    refine gw_dup X 18 dX0_kind_17 rfl rfl ?_
    refine gw_aload_n X 19 0 dX0_kind_18 rfl rfl rfl ?_
    refine gl_split (w1 := [(q2, .inr (6, [.null]))]) (w2 := [(a 14, .inr (11, [.int 0, .ref (D.2 100), .int 0]))]) rfl ?_
    refine gl_callINv X 22 [.ref (a 0)] (lm_X7_init (b := q2) (h := a 0)) q668 (lw_meth q670) q669 q156 rfl yd_X7_init rfl rfl rfl dX0_kind_19 rfl rfl rfl ?_
    refine gl_merge (w := [(q2, .inr (6, [.ref (a 0)])), (a 14, .inr (11, [.int 0, .ref (D.2 100), .int 0]))]) rfl ?_
    refine gl_ord (w' := [(a 14, .inr (11, [.int 0, .ref (D.2 100), .int 0])), (q2, .inr (6, [.ref (a 0)]))]) [1, 0] rfl rfl ?_
    refine gl_split (w1 := [(a 14, .inr (11, [.int 0, .ref (D.2 100), .int 0])), (q2, .inr (6, [.ref (a 0)]))]) (w2 := []) rfl ?_
    refine gw_callV X 25 [.ref q2] (lm_J2_add_0_ask (b := a 14) (m := 0) (x := q2) (h := a 0)) lk_X0_158 ydv_J2_add gl_cl11 (gl_ate (q0 := 0) rfl) rfl rfl rfl dX0_kind_22 rfl ?_
    rintro v u ⟨y4_1_1_1_1, rfl, hu⟩
    revert u
    show gw_W E 25 _ (.int 1 :: _) (gw_st [(y4_1_1_1_1, .inl (D.2 6, 10, .inr (.inr (.inr (.inr (va_up (fun _ => none) 0 (some q2))))))), (a 14, .inr (11, [.int 1, .ref y4_1_1_1_1, .int 1])), (q2, .inr (6, [.ref (a 0)]))] (gw_st [] (gw_st (wX D a σ) Wr))) 2 11
    refine gl_merge (w := [(y4_1_1_1_1, .inl (D.2 6, 10, .inr (.inr (.inr (.inr (va_up (fun _ => none) 0 (some q2))))))), (a 14, .inr (11, [.int 1, .ref y4_1_1_1_1, .int 1])), (q2, .inr (6, [.ref (a 0)]))]) rfl ?_
    refine gw_pop X 26 dX0_kind_25 rfl rfl ?_
    refine gw_aload_n X 27 0 dX0_kind_26 rfl rfl rfl ?_
    refine gl_get (q0 := 3) (fs := wXf0 a σ) X 30 in_X0 gl_cl0 (by rintro _ ⟨_, ⟨_, _, rfl⟩, rfl⟩; rfl) 12 (by decide) q309 rfl rfl dX0_kind_27 rfl ?_
    refine gl_new (fs := [.null, .null]) X 33 tyX8 tyX8_ok in_X8 gl_cl7 q739 q740 q159 gl_dfX8 rfl dX0_kind_30 rfl rfl rfl (fun q5 => ?_)
    refine gl_merge (w := [(q5, .inr (7, [.null, .null])), (y4_1_1_1_1, .inl (D.2 6, 10, .inr (.inr (.inr (.inr (va_up (fun _ => none) 0 (some q2))))))), (a 14, .inr (11, [.int 1, .ref y4_1_1_1_1, .int 1])), (q2, .inr (6, [.ref (a 0)]))]) rfl ?_
    refine gw_dup X 34 dX0_kind_33 rfl rfl ?_
    refine gw_aload_n X 35 0 dX0_kind_34 rfl rfl rfl ?_
    refine gl_split (w1 := [(q5, .inr (7, [.null, .null]))]) (w2 := [(y4_1_1_1_1, .inl (D.2 6, 10, .inr (.inr (.inr (.inr (va_up (fun _ => none) 0 (some q2))))))), (a 14, .inr (11, [.int 1, .ref y4_1_1_1_1, .int 1])), (q2, .inr (6, [.ref (a 0)]))]) rfl ?_
    refine gl_callINv X 38 [.ref (a 0)] (lm_X8_init (b := q5) (h := a 0)) q741 (lw_meth q743) q742 q159 rfl yd_X8_init rfl rfl rfl dX0_kind_35 rfl rfl rfl ?_
    refine gl_merge (w := [(q5, .inr (7, [.ref (a 0), .ref (a 0)])), (y4_1_1_1_1, .inl (D.2 6, 10, .inr (.inr (.inr (.inr (va_up (fun _ => none) 0 (some q2))))))), (a 14, .inr (11, [.int 1, .ref y4_1_1_1_1, .int 1])), (q2, .inr (6, [.ref (a 0)]))]) rfl ?_
    refine gl_ord (w' := [(a 14, .inr (11, [.int 1, .ref y4_1_1_1_1, .int 1])), (y4_1_1_1_1, .inl (D.2 6, 10, .inr (.inr (.inr (.inr (va_up (fun _ => none) 0 (some q2))))))), (q5, .inr (7, [.ref (a 0), .ref (a 0)])), (q2, .inr (6, [.ref (a 0)]))]) [2, 1, 0, 3] rfl rfl ?_
    refine gl_split (w1 := [(a 14, .inr (11, [.int 1, .ref y4_1_1_1_1, .int 1])), (y4_1_1_1_1, .inl (D.2 6, 10, .inr (.inr (.inr (.inr (va_up (fun _ => none) 0 (some q2))))))), (q5, .inr (7, [.ref (a 0), .ref (a 0)]))]) (w2 := [(q2, .inr (6, [.ref (a 0)]))]) rfl ?_
    refine gw_callVi X 41 [.ref q5] (lm_J2_add_1_give (b := a 14) (m := 1) (x := q5) (h := a 0) (e := y4_1_1_1_1) (f := (va_up (fun _ => none) 0 (some q2)))) lk_X0_158 ydv_J2_add gl_cl11 (gl_ate (q0 := 0) rfl) rfl rfl rfl dX0_kind_38 rfl rfl rfl ?_
    refine gl_merge (w := [(a 14, .inr (11, [.int 2, .ref y4_1_1_1_1, .int 2])), (y4_1_1_1_1, .inl (D.2 6, 10, .inr (.inr (.inr (.inr (va_up (va_up (fun _ => none) 0 (some q2)) 1 (some q5))))))), (q5, .inr (7, [.ref (a 0), .ref (a 0)])), (q2, .inr (6, [.ref (a 0)]))]) rfl ?_
    refine gw_pop X 42 dX0_kind_41 rfl rfl ?_
    refine gw_aload_n X 43 0 dX0_kind_42 rfl rfl rfl ?_
    refine gl_get (q0 := 4) (fs := wXf0 a σ) X 46 in_X0 gl_cl0 (by rintro _ ⟨_, ⟨_, _, rfl⟩, rfl⟩; rfl) 12 (by decide) q309 rfl rfl dX0_kind_43 rfl ?_
    refine gl_new (fs := [.null]) X 49 tyX9 tyX9_ok in_X9 gl_cl8 q750 q751 q160 gl_dfX9 rfl dX0_kind_46 rfl rfl rfl (fun q8 => ?_)
    refine gl_merge (w := [(q8, .inr (8, [.null])), (a 14, .inr (11, [.int 2, .ref y4_1_1_1_1, .int 2])), (y4_1_1_1_1, .inl (D.2 6, 10, .inr (.inr (.inr (.inr (va_up (va_up (fun _ => none) 0 (some q2)) 1 (some q5))))))), (q5, .inr (7, [.ref (a 0), .ref (a 0)])), (q2, .inr (6, [.ref (a 0)]))]) rfl ?_
    refine gw_dup X 50 dX0_kind_49 rfl rfl ?_
    refine gw_aload_n X 51 0 dX0_kind_50 rfl rfl rfl ?_
    refine gl_split (w1 := [(q8, .inr (8, [.null]))]) (w2 := [(a 14, .inr (11, [.int 2, .ref y4_1_1_1_1, .int 2])), (y4_1_1_1_1, .inl (D.2 6, 10, .inr (.inr (.inr (.inr (va_up (va_up (fun _ => none) 0 (some q2)) 1 (some q5))))))), (q5, .inr (7, [.ref (a 0), .ref (a 0)])), (q2, .inr (6, [.ref (a 0)]))]) rfl ?_
    refine gl_callINv X 54 [.ref (a 0)] (lm_X9_init (b := q8) (h := a 0)) q752 (lw_meth q754) q753 q160 rfl yd_X9_init rfl rfl rfl dX0_kind_51 rfl rfl rfl ?_
    refine gl_merge (w := [(q8, .inr (8, [.ref (a 0)])), (a 14, .inr (11, [.int 2, .ref y4_1_1_1_1, .int 2])), (y4_1_1_1_1, .inl (D.2 6, 10, .inr (.inr (.inr (.inr (va_up (va_up (fun _ => none) 0 (some q2)) 1 (some q5))))))), (q5, .inr (7, [.ref (a 0), .ref (a 0)])), (q2, .inr (6, [.ref (a 0)]))]) rfl ?_
    refine gl_ord (w' := [(a 14, .inr (11, [.int 2, .ref y4_1_1_1_1, .int 2])), (y4_1_1_1_1, .inl (D.2 6, 10, .inr (.inr (.inr (.inr (va_up (va_up (fun _ => none) 0 (some q2)) 1 (some q5))))))), (q8, .inr (8, [.ref (a 0)])), (q5, .inr (7, [.ref (a 0), .ref (a 0)])), (q2, .inr (6, [.ref (a 0)]))]) [1, 2, 0, 3, 4] rfl rfl ?_
    refine gl_split (w1 := [(a 14, .inr (11, [.int 2, .ref y4_1_1_1_1, .int 2])), (y4_1_1_1_1, .inl (D.2 6, 10, .inr (.inr (.inr (.inr (va_up (va_up (fun _ => none) 0 (some q2)) 1 (some q5))))))), (q8, .inr (8, [.ref (a 0)]))]) (w2 := [(q5, .inr (7, [.ref (a 0), .ref (a 0)])), (q2, .inr (6, [.ref (a 0)]))]) rfl ?_
    refine gw_callVi X 57 [.ref q8] (lm_J2_add_2_swap (b := a 14) (m := 2) (x := q8) (h := a 0) (e := y4_1_1_1_1) (f := (va_up (va_up (fun _ => none) 0 (some q2)) 1 (some q5)))) lk_X0_158 ydv_J2_add gl_cl11 (gl_ate (q0 := 0) rfl) rfl rfl rfl dX0_kind_54 rfl rfl rfl ?_
    refine gl_merge (w := [(a 14, .inr (11, [.int 3, .ref y4_1_1_1_1, .int 3])), (y4_1_1_1_1, .inl (D.2 6, 10, .inr (.inr (.inr (.inr (va_up (va_up (va_up (fun _ => none) 0 (some q2)) 1 (some q5)) 2 (some q8))))))), (q8, .inr (8, [.ref (a 0)])), (q5, .inr (7, [.ref (a 0), .ref (a 0)])), (q2, .inr (6, [.ref (a 0)]))]) rfl ?_
    refine gw_pop X 58 dX0_kind_57 rfl rfl ?_
    refine gw_aload_n X 59 0 dX0_kind_58 rfl rfl rfl ?_
    refine gl_get (q0 := 5) (fs := wXf0 a σ) X 62 in_X0 gl_cl0 (by rintro _ ⟨_, ⟨_, _, rfl⟩, rfl⟩; rfl) 12 (by decide) q309 rfl rfl dX0_kind_59 rfl ?_
    refine gl_new (fs := [.null]) X 65 tyX10 tyX10_ok in_X10 gl_cl9 q760 q761 q161 gl_dfX10 rfl dX0_kind_62 rfl rfl rfl (fun q11 => ?_)
    refine gl_merge (w := [(q11, .inr (9, [.null])), (a 14, .inr (11, [.int 3, .ref y4_1_1_1_1, .int 3])), (y4_1_1_1_1, .inl (D.2 6, 10, .inr (.inr (.inr (.inr (va_up (va_up (va_up (fun _ => none) 0 (some q2)) 1 (some q5)) 2 (some q8))))))), (q8, .inr (8, [.ref (a 0)])), (q5, .inr (7, [.ref (a 0), .ref (a 0)])), (q2, .inr (6, [.ref (a 0)]))]) rfl ?_
    refine gw_dup X 66 dX0_kind_65 rfl rfl ?_
    refine gw_aload_n X 67 0 dX0_kind_66 rfl rfl rfl ?_
    refine gl_split (w1 := [(q11, .inr (9, [.null]))]) (w2 := [(a 14, .inr (11, [.int 3, .ref y4_1_1_1_1, .int 3])), (y4_1_1_1_1, .inl (D.2 6, 10, .inr (.inr (.inr (.inr (va_up (va_up (va_up (fun _ => none) 0 (some q2)) 1 (some q5)) 2 (some q8))))))), (q8, .inr (8, [.ref (a 0)])), (q5, .inr (7, [.ref (a 0), .ref (a 0)])), (q2, .inr (6, [.ref (a 0)]))]) rfl ?_
    refine gl_callINv X 70 [.ref (a 0)] (lm_X10_init (b := q11) (h := a 0)) q762 (lw_meth q764) q763 q161 rfl yd_X10_init rfl rfl rfl dX0_kind_67 rfl rfl rfl ?_
    refine gl_merge (w := [(q11, .inr (9, [.ref (a 0)])), (a 14, .inr (11, [.int 3, .ref y4_1_1_1_1, .int 3])), (y4_1_1_1_1, .inl (D.2 6, 10, .inr (.inr (.inr (.inr (va_up (va_up (va_up (fun _ => none) 0 (some q2)) 1 (some q5)) 2 (some q8))))))), (q8, .inr (8, [.ref (a 0)])), (q5, .inr (7, [.ref (a 0), .ref (a 0)])), (q2, .inr (6, [.ref (a 0)]))]) rfl ?_
    refine gl_ord (w' := [(a 14, .inr (11, [.int 3, .ref y4_1_1_1_1, .int 3])), (y4_1_1_1_1, .inl (D.2 6, 10, .inr (.inr (.inr (.inr (va_up (va_up (va_up (fun _ => none) 0 (some q2)) 1 (some q5)) 2 (some q8))))))), (q11, .inr (9, [.ref (a 0)])), (q8, .inr (8, [.ref (a 0)])), (q5, .inr (7, [.ref (a 0), .ref (a 0)])), (q2, .inr (6, [.ref (a 0)]))]) [1, 2, 0, 3, 4, 5] rfl rfl ?_
    refine gl_split (w1 := [(a 14, .inr (11, [.int 3, .ref y4_1_1_1_1, .int 3])), (y4_1_1_1_1, .inl (D.2 6, 10, .inr (.inr (.inr (.inr (va_up (va_up (va_up (fun _ => none) 0 (some q2)) 1 (some q5)) 2 (some q8))))))), (q11, .inr (9, [.ref (a 0)]))]) (w2 := [(q8, .inr (8, [.ref (a 0)])), (q5, .inr (7, [.ref (a 0), .ref (a 0)])), (q2, .inr (6, [.ref (a 0)]))]) rfl ?_
    refine gw_callVi X 73 [.ref q11] (lm_J2_add_3_steal (b := a 14) (m := 3) (x := q11) (h := a 0) (e := y4_1_1_1_1) (f := (va_up (va_up (va_up (fun _ => none) 0 (some q2)) 1 (some q5)) 2 (some q8)))) lk_X0_158 ydv_J2_add gl_cl11 (gl_ate (q0 := 0) rfl) rfl rfl rfl dX0_kind_70 rfl rfl rfl ?_
    refine gl_merge (w := [(a 14, .inr (11, [.int 4, .ref y4_1_1_1_1, .int 4])), (y4_1_1_1_1, .inl (D.2 6, 10, .inr (.inr (.inr (.inr (va_up (va_up (va_up (va_up (fun _ => none) 0 (some q2)) 1 (some q5)) 2 (some q8)) 3 (some q11))))))), (q11, .inr (9, [.ref (a 0)])), (q8, .inr (8, [.ref (a 0)])), (q5, .inr (7, [.ref (a 0), .ref (a 0)])), (q2, .inr (6, [.ref (a 0)]))]) rfl ?_
    refine gw_pop X 74 dX0_kind_73 rfl rfl ?_
    refine gw_aload_n X 75 0 dX0_kind_74 rfl rfl rfl ?_
    refine gl_get (q0 := 6) (fs := wXf0 a σ) X 78 in_X0 gl_cl0 (by rintro _ ⟨_, ⟨_, _, rfl⟩, rfl⟩; rfl) 12 (by decide) q309 rfl rfl dX0_kind_75 rfl ?_
    refine gl_new (fs := [.null]) X 81 tyX11 tyX11_ok in_X11 gl_cl10 q770 q771 q162 gl_dfX11 rfl dX0_kind_78 rfl rfl rfl (fun q14 => ?_)
    refine gl_merge (w := [(q14, .inr (10, [.null])), (a 14, .inr (11, [.int 4, .ref y4_1_1_1_1, .int 4])), (y4_1_1_1_1, .inl (D.2 6, 10, .inr (.inr (.inr (.inr (va_up (va_up (va_up (va_up (fun _ => none) 0 (some q2)) 1 (some q5)) 2 (some q8)) 3 (some q11))))))), (q11, .inr (9, [.ref (a 0)])), (q8, .inr (8, [.ref (a 0)])), (q5, .inr (7, [.ref (a 0), .ref (a 0)])), (q2, .inr (6, [.ref (a 0)]))]) rfl ?_
    refine gw_dup X 82 dX0_kind_81 rfl rfl ?_
    refine gw_aload_n X 83 0 dX0_kind_82 rfl rfl rfl ?_
    refine gl_split (w1 := [(q14, .inr (10, [.null]))]) (w2 := [(a 14, .inr (11, [.int 4, .ref y4_1_1_1_1, .int 4])), (y4_1_1_1_1, .inl (D.2 6, 10, .inr (.inr (.inr (.inr (va_up (va_up (va_up (va_up (fun _ => none) 0 (some q2)) 1 (some q5)) 2 (some q8)) 3 (some q11))))))), (q11, .inr (9, [.ref (a 0)])), (q8, .inr (8, [.ref (a 0)])), (q5, .inr (7, [.ref (a 0), .ref (a 0)])), (q2, .inr (6, [.ref (a 0)]))]) rfl ?_
    refine gl_callINv X 86 [.ref (a 0)] (lm_X11_init (b := q14) (h := a 0)) q772 (lw_meth q774) q773 q162 rfl yd_X11_init rfl rfl rfl dX0_kind_83 rfl rfl rfl ?_
    refine gl_merge (w := [(q14, .inr (10, [.ref (a 0)])), (a 14, .inr (11, [.int 4, .ref y4_1_1_1_1, .int 4])), (y4_1_1_1_1, .inl (D.2 6, 10, .inr (.inr (.inr (.inr (va_up (va_up (va_up (va_up (fun _ => none) 0 (some q2)) 1 (some q5)) 2 (some q8)) 3 (some q11))))))), (q11, .inr (9, [.ref (a 0)])), (q8, .inr (8, [.ref (a 0)])), (q5, .inr (7, [.ref (a 0), .ref (a 0)])), (q2, .inr (6, [.ref (a 0)]))]) rfl ?_
    refine gl_ord (w' := [(a 14, .inr (11, [.int 4, .ref y4_1_1_1_1, .int 4])), (y4_1_1_1_1, .inl (D.2 6, 10, .inr (.inr (.inr (.inr (va_up (va_up (va_up (va_up (fun _ => none) 0 (some q2)) 1 (some q5)) 2 (some q8)) 3 (some q11))))))), (q14, .inr (10, [.ref (a 0)])), (q11, .inr (9, [.ref (a 0)])), (q8, .inr (8, [.ref (a 0)])), (q5, .inr (7, [.ref (a 0), .ref (a 0)])), (q2, .inr (6, [.ref (a 0)]))]) [1, 2, 0, 3, 4, 5, 6] rfl rfl ?_
    refine gl_split (w1 := [(a 14, .inr (11, [.int 4, .ref y4_1_1_1_1, .int 4])), (y4_1_1_1_1, .inl (D.2 6, 10, .inr (.inr (.inr (.inr (va_up (va_up (va_up (va_up (fun _ => none) 0 (some q2)) 1 (some q5)) 2 (some q8)) 3 (some q11))))))), (q14, .inr (10, [.ref (a 0)]))]) (w2 := [(q11, .inr (9, [.ref (a 0)])), (q8, .inr (8, [.ref (a 0)])), (q5, .inr (7, [.ref (a 0), .ref (a 0)])), (q2, .inr (6, [.ref (a 0)]))]) rfl ?_
    refine gw_callVi X 89 [.ref q14] (lm_J2_add_4_day (b := a 14) (m := 4) (x := q14) (h := a 0) (e := y4_1_1_1_1) (f := (va_up (va_up (va_up (va_up (fun _ => none) 0 (some q2)) 1 (some q5)) 2 (some q8)) 3 (some q11)))) lk_X0_158 ydv_J2_add gl_cl11 (gl_ate (q0 := 0) rfl) rfl rfl rfl dX0_kind_86 rfl rfl rfl ?_
    refine gl_merge (w := [(a 14, .inr (11, [.int 5, .ref y4_1_1_1_1, .int 5])), (y4_1_1_1_1, .inl (D.2 6, 10, .inr (.inr (.inr (.inr (va_up (va_up (va_up (va_up (va_up (fun _ => none) 0 (some q2)) 1 (some q5)) 2 (some q8)) 3 (some q11)) 4 (some q14))))))), (q14, .inr (10, [.ref (a 0)])), (q11, .inr (9, [.ref (a 0)])), (q8, .inr (8, [.ref (a 0)])), (q5, .inr (7, [.ref (a 0), .ref (a 0)])), (q2, .inr (6, [.ref (a 0)]))]) rfl ?_
    refine gw_pop X 90 dX0_kind_89 rfl rfl ?_
    refine gw_aload_n X 91 0 dX0_kind_90 rfl rfl rfl ?_
    refine gl_get (q0 := 7) (fs := wXf0 a σ) X 94 in_X0 gl_cl0 (by rintro _ ⟨_, ⟨_, _, rfl⟩, rfl⟩; rfl) 12 (by decide) q309 rfl rfl dX0_kind_91 rfl ?_
    refine gw_iload_n X 95 1 dX0_kind_94 rfl rfl rfl ?_
    refine gl_split (w1 := [(a 14, .inr (11, [.int 5, .ref y4_1_1_1_1, .int 5])), (y4_1_1_1_1, .inl (D.2 6, 10, .inr (.inr (.inr (.inr (va_up (va_up (va_up (va_up (va_up (fun _ => none) 0 (some q2)) 1 (some q5)) 2 (some q8)) 3 (some q11)) 4 (some q14)))))))]) (w2 := [(q14, .inr (10, [.ref (a 0)])), (q11, .inr (9, [.ref (a 0)])), (q8, .inr (8, [.ref (a 0)])), (q5, .inr (7, [.ref (a 0), .ref (a 0)])), (q2, .inr (6, [.ref (a 0)]))]) rfl ?_
    refine gw_callV X 98 [.int 2] (lm_J2_get5 (b := a 14) (e := y4_1_1_1_1) (m := 5) (f := (va_up (va_up (va_up (va_up (va_up (fun _ => none) 0 (some q2)) 1 (some q5)) 2 (some q8)) 3 (some q11)) 4 (some q14))) (i := 2) (x := q8) (by decide) (by decide) (gw_in rfl) rfl) lk_X0_174 ydv_J2_get gl_cl11 (gl_ate (q0 := 0) rfl) rfl rfl rfl dX0_kind_95 rfl ?_
    rintro v u ⟨rfl, hu⟩
    revert u
    show gw_W E 98 _ _ (gw_st [(a 14, .inr (11, [.int 5, .ref y4_1_1_1_1, .int 5])), (y4_1_1_1_1, .inl (D.2 6, 10, .inr (.inr (.inr (.inr (va_up (va_up (va_up (va_up (va_up (fun _ => none) 0 (some q2)) 1 (some q5)) 2 (some q8)) 3 (some q11)) 4 (some q14)))))))] (gw_st [(q14, .inr (10, [.ref (a 0)])), (q11, .inr (9, [.ref (a 0)])), (q8, .inr (8, [.ref (a 0)])), (q5, .inr (7, [.ref (a 0), .ref (a 0)])), (q2, .inr (6, [.ref (a 0)]))] (gw_st (wX D a σ) Wr))) _ _
    refine gl_merge (w := [(a 14, .inr (11, [.int 5, .ref y4_1_1_1_1, .int 5])), (y4_1_1_1_1, .inl (D.2 6, 10, .inr (.inr (.inr (.inr (va_up (va_up (va_up (va_up (va_up (fun _ => none) 0 (some q2)) 1 (some q5)) 2 (some q8)) 3 (some q11)) 4 (some q14))))))), (q14, .inr (10, [.ref (a 0)])), (q11, .inr (9, [.ref (a 0)])), (q8, .inr (8, [.ref (a 0)])), (q5, .inr (7, [.ref (a 0), .ref (a 0)])), (q2, .inr (6, [.ref (a 0)]))]) rfl ?_
    refine gl_cast (q0 := 4) X 101 q792 q2088 gl_cl8 (gl_at rfl) dX0_kind_98 rfl ?_
    refine gl_ord (w' := [(a 14, .inr (11, [.int 5, .ref y4_1_1_1_1, .int 5])), (y4_1_1_1_1, .inl (D.2 6, 10, .inr (.inr (.inr (.inr (va_up (va_up (va_up (va_up (va_up (fun _ => none) 0 (some q2)) 1 (some q5)) 2 (some q8)) 3 (some q11)) 4 (some q14))))))), (q2, .inr (6, [.ref (a 0)])), (q5, .inr (7, [.ref (a 0), .ref (a 0)])), (q8, .inr (8, [.ref (a 0)])), (q11, .inr (9, [.ref (a 0)])), (q14, .inr (10, [.ref (a 0)]))]) [0, 1, 6, 5, 4, 3, 2] rfl rfl ?_
    refine gl_perm (Ws' := gw_st (wX D a σ) (gw_st (wK D a (fun i => match i with | 0 => y4_1_1_1_1 | 1 => q2 | 2 => q5 | 3 => q8 | 4 => q11 | _ => q14)) Wr)) gK_back ?_
    exact gw_aret X dX0_kind_101 (fun _ h => ⟨(fun i => match i with | 0 => y4_1_1_1_1 | 1 => q2 | 2 => q5 | 3 => q8 | 4 => q11 | _ => q14), rfl, h⟩) (Nat.le_of_ble_eq_true rfl) (Nat.le_of_ble_eq_true rfl)
  · refine gw_aload_n X 1 0 dX0_kind_0 rfl rfl rfl ?_
    refine gl_get (q0 := 7) (fs := wXf0 a σ) X 4 in_X0 gl_cl0 (by rintro _ ⟨_, ⟨_, _, rfl⟩, rfl⟩; rfl) 12 (by decide) q309 rfl rfl dX0_kind_1 rfl ?_
    refine gl_split (w1 := [(a 14, .inr (11, [.int 5, .ref (b 0), .int 5]))]) (w2 := [(b 0, .inl (D.2 6, 10, .inr (.inr (.inr (.inr (wKf b)))))), (b 1, .inr (6, [.ref (a 0)])), (b 2, .inr (7, [.ref (a 0), .ref (a 0)])), (b 3, .inr (8, [.ref (a 0)])), (b 4, .inr (9, [.ref (a 0)])), (b 5, .inr (10, [.ref (a 0)]))]) rfl ?_
    refine gw_callVi X 7 [] (lm_J2_isEmpty5 (b := a 14) (e := b 0) (m := 5)) lk_X0_152 ydv_J2_isEmpty gl_cl11 (gl_ate (q0 := 0) rfl) rfl rfl rfl dX0_kind_4 rfl rfl rfl ?_
    refine gl_merge (w := [(a 14, .inr (11, [.int 5, .ref (b 0), .int 5])), (b 0, .inl (D.2 6, 10, .inr (.inr (.inr (.inr (wKf b)))))), (b 1, .inr (6, [.ref (a 0)])), (b 2, .inr (7, [.ref (a 0), .ref (a 0)])), (b 3, .inr (8, [.ref (a 0)])), (b 4, .inr (9, [.ref (a 0)])), (b 5, .inr (10, [.ref (a 0)]))]) rfl ?_
    refine gw_if_eq X 90 10 dX0_kind_7 rfl rfl (fun _ => ?_) (fun z => absurd (by decide) z)
    refine gw_aload_n X 91 0 dX0_kind_90 rfl rfl rfl ?_
    refine gl_get (q0 := 7) (fs := wXf0 a σ) X 94 in_X0 gl_cl0 (by rintro _ ⟨_, ⟨_, _, rfl⟩, rfl⟩; rfl) 12 (by decide) q309 rfl rfl dX0_kind_91 rfl ?_
    refine gw_iload_n X 95 1 dX0_kind_94 rfl rfl rfl ?_
    refine gl_split (w1 := [(a 14, .inr (11, [.int 5, .ref (b 0), .int 5])), (b 0, .inl (D.2 6, 10, .inr (.inr (.inr (.inr (wKf b))))))]) (w2 := [(b 1, .inr (6, [.ref (a 0)])), (b 2, .inr (7, [.ref (a 0), .ref (a 0)])), (b 3, .inr (8, [.ref (a 0)])), (b 4, .inr (9, [.ref (a 0)])), (b 5, .inr (10, [.ref (a 0)]))]) rfl ?_
    refine gw_callV X 98 [.int 2] (lm_J2_get5 (b := a 14) (e := b 0) (m := 5) (f := (wKf b)) (i := 2) (x := b 3) (by decide) (by decide) (gw_in rfl) rfl) lk_X0_174 ydv_J2_get gl_cl11 (gl_ate (q0 := 0) rfl) rfl rfl rfl dX0_kind_95 rfl ?_
    rintro v u ⟨rfl, hu⟩
    revert u
    show gw_W E 98 _ _ (gw_st [(a 14, .inr (11, [.int 5, .ref (b 0), .int 5])), (b 0, .inl (D.2 6, 10, .inr (.inr (.inr (.inr (wKf b))))))] (gw_st [(b 1, .inr (6, [.ref (a 0)])), (b 2, .inr (7, [.ref (a 0), .ref (a 0)])), (b 3, .inr (8, [.ref (a 0)])), (b 4, .inr (9, [.ref (a 0)])), (b 5, .inr (10, [.ref (a 0)]))] (gw_st (wX D a σ) Wr))) _ _
    refine gl_merge (w := [(a 14, .inr (11, [.int 5, .ref (b 0), .int 5])), (b 0, .inl (D.2 6, 10, .inr (.inr (.inr (.inr (wKf b)))))), (b 1, .inr (6, [.ref (a 0)])), (b 2, .inr (7, [.ref (a 0), .ref (a 0)])), (b 3, .inr (8, [.ref (a 0)])), (b 4, .inr (9, [.ref (a 0)])), (b 5, .inr (10, [.ref (a 0)]))]) rfl ?_
    refine gl_cast (q0 := 4) X 101 q792 q2088 gl_cl8 (gl_at rfl) dX0_kind_98 rfl ?_
    refine gl_perm (Ws' := gw_st (wX D a σ) (gw_st (wK D a b) Wr)) gK_back ?_
    exact gw_aret X dX0_kind_101 (fun _ h => ⟨b, rfl, h⟩) (Nat.le_of_ble_eq_true rfl) (Nat.le_of_ble_eq_true rfl)
set_option maxHeartbeats 4000000 in
theorem mt_X0_kind_3 {l : Launch} {D : gw_D} {a : Nat → Nat} {Wr : va_W → Prop} {σ : gw_S} : gw_Ct D l yX0_kind cX0_kind 2 (some (.object "CardHolder$Act")) rm_X0_kind [.ref (a 0), .int 3] (gw_st (wX D a σ) (gw_sp (gK D a) Wr)) (fun v u => ∃ b : Nat → Nat, v = some (.ref (b 4)) ∧ gw_st (wX D a σ) (gw_st (wK D a b) Wr) u) := by
  refine gw_ct (own := RX0) [(0, .ref (a 0)), (1, .int 3)] (by decide) rfl (Nat.le_of_ble_eq_true rfl) rfl ?_
  intro E X
  refine gK_cases ?_ (fun b => ?_)
  · refine gw_aload_n X 1 0 dX0_kind_0 rfl rfl rfl ?_
    refine gl_get (q0 := 1) (fs := wXf0 a σ) X 4 in_X0 gl_cl0 (by rintro _ ⟨_, ⟨_, _, rfl⟩, rfl⟩; rfl) 12 (by decide) q309 rfl rfl dX0_kind_1 rfl ?_
    refine gl_split (w1 := [(a 14, .inr (11, [.int 0, .ref (D.2 100), .int 0]))]) (w2 := []) rfl ?_
    refine gw_callVi X 7 [] (lm_J2_isEmpty0 (b := a 14) (e := D.2 100) (m := 0)) lk_X0_152 ydv_J2_isEmpty gl_cl11 (gl_ate (q0 := 0) rfl) rfl rfl rfl dX0_kind_4 rfl rfl rfl ?_
    refine gl_merge (w := [(a 14, .inr (11, [.int 0, .ref (D.2 100), .int 0]))]) rfl ?_
    refine gw_if_eq X 90 10 dX0_kind_7 rfl rfl (fun z => absurd z (by decide)) (fun _ => ?_)
    refine gw_aload_n X 11 0 dX0_kind_10 rfl rfl rfl ?_
    refine gl_get (q0 := 1) (fs := wXf0 a σ) X 14 in_X0 gl_cl0 (by rintro _ ⟨_, ⟨_, _, rfl⟩, rfl⟩; rfl) 12 (by decide) q309 rfl rfl dX0_kind_11 rfl ?_
    refine gl_new (fs := [.null]) X 17 tyX7 tyX7_ok in_X7 gl_cl6 q666 q667 q156 gl_dfX7 rfl dX0_kind_14 rfl rfl rfl (fun q2 => ?_)
    refine gl_merge (w := [(q2, .inr (6, [.null])), (a 14, .inr (11, [.int 0, .ref (D.2 100), .int 0]))]) rfl ?_
    refine gw_dup X 18 dX0_kind_17 rfl rfl ?_
    refine gw_aload_n X 19 0 dX0_kind_18 rfl rfl rfl ?_
    refine gl_split (w1 := [(q2, .inr (6, [.null]))]) (w2 := [(a 14, .inr (11, [.int 0, .ref (D.2 100), .int 0]))]) rfl ?_
    refine gl_callINv X 22 [.ref (a 0)] (lm_X7_init (b := q2) (h := a 0)) q668 (lw_meth q670) q669 q156 rfl yd_X7_init rfl rfl rfl dX0_kind_19 rfl rfl rfl ?_
    refine gl_merge (w := [(q2, .inr (6, [.ref (a 0)])), (a 14, .inr (11, [.int 0, .ref (D.2 100), .int 0]))]) rfl ?_
    refine gl_ord (w' := [(a 14, .inr (11, [.int 0, .ref (D.2 100), .int 0])), (q2, .inr (6, [.ref (a 0)]))]) [1, 0] rfl rfl ?_
    refine gl_split (w1 := [(a 14, .inr (11, [.int 0, .ref (D.2 100), .int 0])), (q2, .inr (6, [.ref (a 0)]))]) (w2 := []) rfl ?_
    refine gw_callV X 25 [.ref q2] (lm_J2_add_0_ask (b := a 14) (m := 0) (x := q2) (h := a 0)) lk_X0_158 ydv_J2_add gl_cl11 (gl_ate (q0 := 0) rfl) rfl rfl rfl dX0_kind_22 rfl ?_
    rintro v u ⟨y4_1_1_1_1, rfl, hu⟩
    revert u
    show gw_W E 25 _ (.int 1 :: _) (gw_st [(y4_1_1_1_1, .inl (D.2 6, 10, .inr (.inr (.inr (.inr (va_up (fun _ => none) 0 (some q2))))))), (a 14, .inr (11, [.int 1, .ref y4_1_1_1_1, .int 1])), (q2, .inr (6, [.ref (a 0)]))] (gw_st [] (gw_st (wX D a σ) Wr))) 2 11
    refine gl_merge (w := [(y4_1_1_1_1, .inl (D.2 6, 10, .inr (.inr (.inr (.inr (va_up (fun _ => none) 0 (some q2))))))), (a 14, .inr (11, [.int 1, .ref y4_1_1_1_1, .int 1])), (q2, .inr (6, [.ref (a 0)]))]) rfl ?_
    refine gw_pop X 26 dX0_kind_25 rfl rfl ?_
    refine gw_aload_n X 27 0 dX0_kind_26 rfl rfl rfl ?_
    refine gl_get (q0 := 3) (fs := wXf0 a σ) X 30 in_X0 gl_cl0 (by rintro _ ⟨_, ⟨_, _, rfl⟩, rfl⟩; rfl) 12 (by decide) q309 rfl rfl dX0_kind_27 rfl ?_
    refine gl_new (fs := [.null, .null]) X 33 tyX8 tyX8_ok in_X8 gl_cl7 q739 q740 q159 gl_dfX8 rfl dX0_kind_30 rfl rfl rfl (fun q5 => ?_)
    refine gl_merge (w := [(q5, .inr (7, [.null, .null])), (y4_1_1_1_1, .inl (D.2 6, 10, .inr (.inr (.inr (.inr (va_up (fun _ => none) 0 (some q2))))))), (a 14, .inr (11, [.int 1, .ref y4_1_1_1_1, .int 1])), (q2, .inr (6, [.ref (a 0)]))]) rfl ?_
    refine gw_dup X 34 dX0_kind_33 rfl rfl ?_
    refine gw_aload_n X 35 0 dX0_kind_34 rfl rfl rfl ?_
    refine gl_split (w1 := [(q5, .inr (7, [.null, .null]))]) (w2 := [(y4_1_1_1_1, .inl (D.2 6, 10, .inr (.inr (.inr (.inr (va_up (fun _ => none) 0 (some q2))))))), (a 14, .inr (11, [.int 1, .ref y4_1_1_1_1, .int 1])), (q2, .inr (6, [.ref (a 0)]))]) rfl ?_
    refine gl_callINv X 38 [.ref (a 0)] (lm_X8_init (b := q5) (h := a 0)) q741 (lw_meth q743) q742 q159 rfl yd_X8_init rfl rfl rfl dX0_kind_35 rfl rfl rfl ?_
    refine gl_merge (w := [(q5, .inr (7, [.ref (a 0), .ref (a 0)])), (y4_1_1_1_1, .inl (D.2 6, 10, .inr (.inr (.inr (.inr (va_up (fun _ => none) 0 (some q2))))))), (a 14, .inr (11, [.int 1, .ref y4_1_1_1_1, .int 1])), (q2, .inr (6, [.ref (a 0)]))]) rfl ?_
    refine gl_ord (w' := [(a 14, .inr (11, [.int 1, .ref y4_1_1_1_1, .int 1])), (y4_1_1_1_1, .inl (D.2 6, 10, .inr (.inr (.inr (.inr (va_up (fun _ => none) 0 (some q2))))))), (q5, .inr (7, [.ref (a 0), .ref (a 0)])), (q2, .inr (6, [.ref (a 0)]))]) [2, 1, 0, 3] rfl rfl ?_
    refine gl_split (w1 := [(a 14, .inr (11, [.int 1, .ref y4_1_1_1_1, .int 1])), (y4_1_1_1_1, .inl (D.2 6, 10, .inr (.inr (.inr (.inr (va_up (fun _ => none) 0 (some q2))))))), (q5, .inr (7, [.ref (a 0), .ref (a 0)]))]) (w2 := [(q2, .inr (6, [.ref (a 0)]))]) rfl ?_
    refine gw_callVi X 41 [.ref q5] (lm_J2_add_1_give (b := a 14) (m := 1) (x := q5) (h := a 0) (e := y4_1_1_1_1) (f := (va_up (fun _ => none) 0 (some q2)))) lk_X0_158 ydv_J2_add gl_cl11 (gl_ate (q0 := 0) rfl) rfl rfl rfl dX0_kind_38 rfl rfl rfl ?_
    refine gl_merge (w := [(a 14, .inr (11, [.int 2, .ref y4_1_1_1_1, .int 2])), (y4_1_1_1_1, .inl (D.2 6, 10, .inr (.inr (.inr (.inr (va_up (va_up (fun _ => none) 0 (some q2)) 1 (some q5))))))), (q5, .inr (7, [.ref (a 0), .ref (a 0)])), (q2, .inr (6, [.ref (a 0)]))]) rfl ?_
    refine gw_pop X 42 dX0_kind_41 rfl rfl ?_
    refine gw_aload_n X 43 0 dX0_kind_42 rfl rfl rfl ?_
    refine gl_get (q0 := 4) (fs := wXf0 a σ) X 46 in_X0 gl_cl0 (by rintro _ ⟨_, ⟨_, _, rfl⟩, rfl⟩; rfl) 12 (by decide) q309 rfl rfl dX0_kind_43 rfl ?_
    refine gl_new (fs := [.null]) X 49 tyX9 tyX9_ok in_X9 gl_cl8 q750 q751 q160 gl_dfX9 rfl dX0_kind_46 rfl rfl rfl (fun q8 => ?_)
    refine gl_merge (w := [(q8, .inr (8, [.null])), (a 14, .inr (11, [.int 2, .ref y4_1_1_1_1, .int 2])), (y4_1_1_1_1, .inl (D.2 6, 10, .inr (.inr (.inr (.inr (va_up (va_up (fun _ => none) 0 (some q2)) 1 (some q5))))))), (q5, .inr (7, [.ref (a 0), .ref (a 0)])), (q2, .inr (6, [.ref (a 0)]))]) rfl ?_
    refine gw_dup X 50 dX0_kind_49 rfl rfl ?_
    refine gw_aload_n X 51 0 dX0_kind_50 rfl rfl rfl ?_
    refine gl_split (w1 := [(q8, .inr (8, [.null]))]) (w2 := [(a 14, .inr (11, [.int 2, .ref y4_1_1_1_1, .int 2])), (y4_1_1_1_1, .inl (D.2 6, 10, .inr (.inr (.inr (.inr (va_up (va_up (fun _ => none) 0 (some q2)) 1 (some q5))))))), (q5, .inr (7, [.ref (a 0), .ref (a 0)])), (q2, .inr (6, [.ref (a 0)]))]) rfl ?_
    refine gl_callINv X 54 [.ref (a 0)] (lm_X9_init (b := q8) (h := a 0)) q752 (lw_meth q754) q753 q160 rfl yd_X9_init rfl rfl rfl dX0_kind_51 rfl rfl rfl ?_
    refine gl_merge (w := [(q8, .inr (8, [.ref (a 0)])), (a 14, .inr (11, [.int 2, .ref y4_1_1_1_1, .int 2])), (y4_1_1_1_1, .inl (D.2 6, 10, .inr (.inr (.inr (.inr (va_up (va_up (fun _ => none) 0 (some q2)) 1 (some q5))))))), (q5, .inr (7, [.ref (a 0), .ref (a 0)])), (q2, .inr (6, [.ref (a 0)]))]) rfl ?_
    refine gl_ord (w' := [(a 14, .inr (11, [.int 2, .ref y4_1_1_1_1, .int 2])), (y4_1_1_1_1, .inl (D.2 6, 10, .inr (.inr (.inr (.inr (va_up (va_up (fun _ => none) 0 (some q2)) 1 (some q5))))))), (q8, .inr (8, [.ref (a 0)])), (q5, .inr (7, [.ref (a 0), .ref (a 0)])), (q2, .inr (6, [.ref (a 0)]))]) [1, 2, 0, 3, 4] rfl rfl ?_
    refine gl_split (w1 := [(a 14, .inr (11, [.int 2, .ref y4_1_1_1_1, .int 2])), (y4_1_1_1_1, .inl (D.2 6, 10, .inr (.inr (.inr (.inr (va_up (va_up (fun _ => none) 0 (some q2)) 1 (some q5))))))), (q8, .inr (8, [.ref (a 0)]))]) (w2 := [(q5, .inr (7, [.ref (a 0), .ref (a 0)])), (q2, .inr (6, [.ref (a 0)]))]) rfl ?_
    refine gw_callVi X 57 [.ref q8] (lm_J2_add_2_swap (b := a 14) (m := 2) (x := q8) (h := a 0) (e := y4_1_1_1_1) (f := (va_up (va_up (fun _ => none) 0 (some q2)) 1 (some q5)))) lk_X0_158 ydv_J2_add gl_cl11 (gl_ate (q0 := 0) rfl) rfl rfl rfl dX0_kind_54 rfl rfl rfl ?_
    refine gl_merge (w := [(a 14, .inr (11, [.int 3, .ref y4_1_1_1_1, .int 3])), (y4_1_1_1_1, .inl (D.2 6, 10, .inr (.inr (.inr (.inr (va_up (va_up (va_up (fun _ => none) 0 (some q2)) 1 (some q5)) 2 (some q8))))))), (q8, .inr (8, [.ref (a 0)])), (q5, .inr (7, [.ref (a 0), .ref (a 0)])), (q2, .inr (6, [.ref (a 0)]))]) rfl ?_
    refine gw_pop X 58 dX0_kind_57 rfl rfl ?_
    refine gw_aload_n X 59 0 dX0_kind_58 rfl rfl rfl ?_
    refine gl_get (q0 := 5) (fs := wXf0 a σ) X 62 in_X0 gl_cl0 (by rintro _ ⟨_, ⟨_, _, rfl⟩, rfl⟩; rfl) 12 (by decide) q309 rfl rfl dX0_kind_59 rfl ?_
    refine gl_new (fs := [.null]) X 65 tyX10 tyX10_ok in_X10 gl_cl9 q760 q761 q161 gl_dfX10 rfl dX0_kind_62 rfl rfl rfl (fun q11 => ?_)
    refine gl_merge (w := [(q11, .inr (9, [.null])), (a 14, .inr (11, [.int 3, .ref y4_1_1_1_1, .int 3])), (y4_1_1_1_1, .inl (D.2 6, 10, .inr (.inr (.inr (.inr (va_up (va_up (va_up (fun _ => none) 0 (some q2)) 1 (some q5)) 2 (some q8))))))), (q8, .inr (8, [.ref (a 0)])), (q5, .inr (7, [.ref (a 0), .ref (a 0)])), (q2, .inr (6, [.ref (a 0)]))]) rfl ?_
    refine gw_dup X 66 dX0_kind_65 rfl rfl ?_
    refine gw_aload_n X 67 0 dX0_kind_66 rfl rfl rfl ?_
    refine gl_split (w1 := [(q11, .inr (9, [.null]))]) (w2 := [(a 14, .inr (11, [.int 3, .ref y4_1_1_1_1, .int 3])), (y4_1_1_1_1, .inl (D.2 6, 10, .inr (.inr (.inr (.inr (va_up (va_up (va_up (fun _ => none) 0 (some q2)) 1 (some q5)) 2 (some q8))))))), (q8, .inr (8, [.ref (a 0)])), (q5, .inr (7, [.ref (a 0), .ref (a 0)])), (q2, .inr (6, [.ref (a 0)]))]) rfl ?_
    refine gl_callINv X 70 [.ref (a 0)] (lm_X10_init (b := q11) (h := a 0)) q762 (lw_meth q764) q763 q161 rfl yd_X10_init rfl rfl rfl dX0_kind_67 rfl rfl rfl ?_
    refine gl_merge (w := [(q11, .inr (9, [.ref (a 0)])), (a 14, .inr (11, [.int 3, .ref y4_1_1_1_1, .int 3])), (y4_1_1_1_1, .inl (D.2 6, 10, .inr (.inr (.inr (.inr (va_up (va_up (va_up (fun _ => none) 0 (some q2)) 1 (some q5)) 2 (some q8))))))), (q8, .inr (8, [.ref (a 0)])), (q5, .inr (7, [.ref (a 0), .ref (a 0)])), (q2, .inr (6, [.ref (a 0)]))]) rfl ?_
    refine gl_ord (w' := [(a 14, .inr (11, [.int 3, .ref y4_1_1_1_1, .int 3])), (y4_1_1_1_1, .inl (D.2 6, 10, .inr (.inr (.inr (.inr (va_up (va_up (va_up (fun _ => none) 0 (some q2)) 1 (some q5)) 2 (some q8))))))), (q11, .inr (9, [.ref (a 0)])), (q8, .inr (8, [.ref (a 0)])), (q5, .inr (7, [.ref (a 0), .ref (a 0)])), (q2, .inr (6, [.ref (a 0)]))]) [1, 2, 0, 3, 4, 5] rfl rfl ?_
    refine gl_split (w1 := [(a 14, .inr (11, [.int 3, .ref y4_1_1_1_1, .int 3])), (y4_1_1_1_1, .inl (D.2 6, 10, .inr (.inr (.inr (.inr (va_up (va_up (va_up (fun _ => none) 0 (some q2)) 1 (some q5)) 2 (some q8))))))), (q11, .inr (9, [.ref (a 0)]))]) (w2 := [(q8, .inr (8, [.ref (a 0)])), (q5, .inr (7, [.ref (a 0), .ref (a 0)])), (q2, .inr (6, [.ref (a 0)]))]) rfl ?_
    refine gw_callVi X 73 [.ref q11] (lm_J2_add_3_steal (b := a 14) (m := 3) (x := q11) (h := a 0) (e := y4_1_1_1_1) (f := (va_up (va_up (va_up (fun _ => none) 0 (some q2)) 1 (some q5)) 2 (some q8)))) lk_X0_158 ydv_J2_add gl_cl11 (gl_ate (q0 := 0) rfl) rfl rfl rfl dX0_kind_70 rfl rfl rfl ?_
    refine gl_merge (w := [(a 14, .inr (11, [.int 4, .ref y4_1_1_1_1, .int 4])), (y4_1_1_1_1, .inl (D.2 6, 10, .inr (.inr (.inr (.inr (va_up (va_up (va_up (va_up (fun _ => none) 0 (some q2)) 1 (some q5)) 2 (some q8)) 3 (some q11))))))), (q11, .inr (9, [.ref (a 0)])), (q8, .inr (8, [.ref (a 0)])), (q5, .inr (7, [.ref (a 0), .ref (a 0)])), (q2, .inr (6, [.ref (a 0)]))]) rfl ?_
    refine gw_pop X 74 dX0_kind_73 rfl rfl ?_
    refine gw_aload_n X 75 0 dX0_kind_74 rfl rfl rfl ?_
    refine gl_get (q0 := 6) (fs := wXf0 a σ) X 78 in_X0 gl_cl0 (by rintro _ ⟨_, ⟨_, _, rfl⟩, rfl⟩; rfl) 12 (by decide) q309 rfl rfl dX0_kind_75 rfl ?_
    refine gl_new (fs := [.null]) X 81 tyX11 tyX11_ok in_X11 gl_cl10 q770 q771 q162 gl_dfX11 rfl dX0_kind_78 rfl rfl rfl (fun q14 => ?_)
    refine gl_merge (w := [(q14, .inr (10, [.null])), (a 14, .inr (11, [.int 4, .ref y4_1_1_1_1, .int 4])), (y4_1_1_1_1, .inl (D.2 6, 10, .inr (.inr (.inr (.inr (va_up (va_up (va_up (va_up (fun _ => none) 0 (some q2)) 1 (some q5)) 2 (some q8)) 3 (some q11))))))), (q11, .inr (9, [.ref (a 0)])), (q8, .inr (8, [.ref (a 0)])), (q5, .inr (7, [.ref (a 0), .ref (a 0)])), (q2, .inr (6, [.ref (a 0)]))]) rfl ?_
    refine gw_dup X 82 dX0_kind_81 rfl rfl ?_
    refine gw_aload_n X 83 0 dX0_kind_82 rfl rfl rfl ?_
    refine gl_split (w1 := [(q14, .inr (10, [.null]))]) (w2 := [(a 14, .inr (11, [.int 4, .ref y4_1_1_1_1, .int 4])), (y4_1_1_1_1, .inl (D.2 6, 10, .inr (.inr (.inr (.inr (va_up (va_up (va_up (va_up (fun _ => none) 0 (some q2)) 1 (some q5)) 2 (some q8)) 3 (some q11))))))), (q11, .inr (9, [.ref (a 0)])), (q8, .inr (8, [.ref (a 0)])), (q5, .inr (7, [.ref (a 0), .ref (a 0)])), (q2, .inr (6, [.ref (a 0)]))]) rfl ?_
    refine gl_callINv X 86 [.ref (a 0)] (lm_X11_init (b := q14) (h := a 0)) q772 (lw_meth q774) q773 q162 rfl yd_X11_init rfl rfl rfl dX0_kind_83 rfl rfl rfl ?_
    refine gl_merge (w := [(q14, .inr (10, [.ref (a 0)])), (a 14, .inr (11, [.int 4, .ref y4_1_1_1_1, .int 4])), (y4_1_1_1_1, .inl (D.2 6, 10, .inr (.inr (.inr (.inr (va_up (va_up (va_up (va_up (fun _ => none) 0 (some q2)) 1 (some q5)) 2 (some q8)) 3 (some q11))))))), (q11, .inr (9, [.ref (a 0)])), (q8, .inr (8, [.ref (a 0)])), (q5, .inr (7, [.ref (a 0), .ref (a 0)])), (q2, .inr (6, [.ref (a 0)]))]) rfl ?_
    refine gl_ord (w' := [(a 14, .inr (11, [.int 4, .ref y4_1_1_1_1, .int 4])), (y4_1_1_1_1, .inl (D.2 6, 10, .inr (.inr (.inr (.inr (va_up (va_up (va_up (va_up (fun _ => none) 0 (some q2)) 1 (some q5)) 2 (some q8)) 3 (some q11))))))), (q14, .inr (10, [.ref (a 0)])), (q11, .inr (9, [.ref (a 0)])), (q8, .inr (8, [.ref (a 0)])), (q5, .inr (7, [.ref (a 0), .ref (a 0)])), (q2, .inr (6, [.ref (a 0)]))]) [1, 2, 0, 3, 4, 5, 6] rfl rfl ?_
    refine gl_split (w1 := [(a 14, .inr (11, [.int 4, .ref y4_1_1_1_1, .int 4])), (y4_1_1_1_1, .inl (D.2 6, 10, .inr (.inr (.inr (.inr (va_up (va_up (va_up (va_up (fun _ => none) 0 (some q2)) 1 (some q5)) 2 (some q8)) 3 (some q11))))))), (q14, .inr (10, [.ref (a 0)]))]) (w2 := [(q11, .inr (9, [.ref (a 0)])), (q8, .inr (8, [.ref (a 0)])), (q5, .inr (7, [.ref (a 0), .ref (a 0)])), (q2, .inr (6, [.ref (a 0)]))]) rfl ?_
    refine gw_callVi X 89 [.ref q14] (lm_J2_add_4_day (b := a 14) (m := 4) (x := q14) (h := a 0) (e := y4_1_1_1_1) (f := (va_up (va_up (va_up (va_up (fun _ => none) 0 (some q2)) 1 (some q5)) 2 (some q8)) 3 (some q11)))) lk_X0_158 ydv_J2_add gl_cl11 (gl_ate (q0 := 0) rfl) rfl rfl rfl dX0_kind_86 rfl rfl rfl ?_
    refine gl_merge (w := [(a 14, .inr (11, [.int 5, .ref y4_1_1_1_1, .int 5])), (y4_1_1_1_1, .inl (D.2 6, 10, .inr (.inr (.inr (.inr (va_up (va_up (va_up (va_up (va_up (fun _ => none) 0 (some q2)) 1 (some q5)) 2 (some q8)) 3 (some q11)) 4 (some q14))))))), (q14, .inr (10, [.ref (a 0)])), (q11, .inr (9, [.ref (a 0)])), (q8, .inr (8, [.ref (a 0)])), (q5, .inr (7, [.ref (a 0), .ref (a 0)])), (q2, .inr (6, [.ref (a 0)]))]) rfl ?_
    refine gw_pop X 90 dX0_kind_89 rfl rfl ?_
    refine gw_aload_n X 91 0 dX0_kind_90 rfl rfl rfl ?_
    refine gl_get (q0 := 7) (fs := wXf0 a σ) X 94 in_X0 gl_cl0 (by rintro _ ⟨_, ⟨_, _, rfl⟩, rfl⟩; rfl) 12 (by decide) q309 rfl rfl dX0_kind_91 rfl ?_
    refine gw_iload_n X 95 1 dX0_kind_94 rfl rfl rfl ?_
    refine gl_split (w1 := [(a 14, .inr (11, [.int 5, .ref y4_1_1_1_1, .int 5])), (y4_1_1_1_1, .inl (D.2 6, 10, .inr (.inr (.inr (.inr (va_up (va_up (va_up (va_up (va_up (fun _ => none) 0 (some q2)) 1 (some q5)) 2 (some q8)) 3 (some q11)) 4 (some q14)))))))]) (w2 := [(q14, .inr (10, [.ref (a 0)])), (q11, .inr (9, [.ref (a 0)])), (q8, .inr (8, [.ref (a 0)])), (q5, .inr (7, [.ref (a 0), .ref (a 0)])), (q2, .inr (6, [.ref (a 0)]))]) rfl ?_
    refine gw_callV X 98 [.int 3] (lm_J2_get5 (b := a 14) (e := y4_1_1_1_1) (m := 5) (f := (va_up (va_up (va_up (va_up (va_up (fun _ => none) 0 (some q2)) 1 (some q5)) 2 (some q8)) 3 (some q11)) 4 (some q14))) (i := 3) (x := q11) (by decide) (by decide) (gw_in rfl) rfl) lk_X0_174 ydv_J2_get gl_cl11 (gl_ate (q0 := 0) rfl) rfl rfl rfl dX0_kind_95 rfl ?_
    rintro v u ⟨rfl, hu⟩
    revert u
    show gw_W E 98 _ _ (gw_st [(a 14, .inr (11, [.int 5, .ref y4_1_1_1_1, .int 5])), (y4_1_1_1_1, .inl (D.2 6, 10, .inr (.inr (.inr (.inr (va_up (va_up (va_up (va_up (va_up (fun _ => none) 0 (some q2)) 1 (some q5)) 2 (some q8)) 3 (some q11)) 4 (some q14)))))))] (gw_st [(q14, .inr (10, [.ref (a 0)])), (q11, .inr (9, [.ref (a 0)])), (q8, .inr (8, [.ref (a 0)])), (q5, .inr (7, [.ref (a 0), .ref (a 0)])), (q2, .inr (6, [.ref (a 0)]))] (gw_st (wX D a σ) Wr))) _ _
    refine gl_merge (w := [(a 14, .inr (11, [.int 5, .ref y4_1_1_1_1, .int 5])), (y4_1_1_1_1, .inl (D.2 6, 10, .inr (.inr (.inr (.inr (va_up (va_up (va_up (va_up (va_up (fun _ => none) 0 (some q2)) 1 (some q5)) 2 (some q8)) 3 (some q11)) 4 (some q14))))))), (q14, .inr (10, [.ref (a 0)])), (q11, .inr (9, [.ref (a 0)])), (q8, .inr (8, [.ref (a 0)])), (q5, .inr (7, [.ref (a 0), .ref (a 0)])), (q2, .inr (6, [.ref (a 0)]))]) rfl ?_
    refine gl_cast (q0 := 3) X 101 q792 q2087 gl_cl9 (gl_at rfl) dX0_kind_98 rfl ?_
    refine gl_ord (w' := [(a 14, .inr (11, [.int 5, .ref y4_1_1_1_1, .int 5])), (y4_1_1_1_1, .inl (D.2 6, 10, .inr (.inr (.inr (.inr (va_up (va_up (va_up (va_up (va_up (fun _ => none) 0 (some q2)) 1 (some q5)) 2 (some q8)) 3 (some q11)) 4 (some q14))))))), (q2, .inr (6, [.ref (a 0)])), (q5, .inr (7, [.ref (a 0), .ref (a 0)])), (q8, .inr (8, [.ref (a 0)])), (q11, .inr (9, [.ref (a 0)])), (q14, .inr (10, [.ref (a 0)]))]) [0, 1, 6, 5, 4, 3, 2] rfl rfl ?_
    refine gl_perm (Ws' := gw_st (wX D a σ) (gw_st (wK D a (fun i => match i with | 0 => y4_1_1_1_1 | 1 => q2 | 2 => q5 | 3 => q8 | 4 => q11 | _ => q14)) Wr)) gK_back ?_
    exact gw_aret X dX0_kind_101 (fun _ h => ⟨(fun i => match i with | 0 => y4_1_1_1_1 | 1 => q2 | 2 => q5 | 3 => q8 | 4 => q11 | _ => q14), rfl, h⟩) (Nat.le_of_ble_eq_true rfl) (Nat.le_of_ble_eq_true rfl)
  · refine gw_aload_n X 1 0 dX0_kind_0 rfl rfl rfl ?_
    refine gl_get (q0 := 7) (fs := wXf0 a σ) X 4 in_X0 gl_cl0 (by rintro _ ⟨_, ⟨_, _, rfl⟩, rfl⟩; rfl) 12 (by decide) q309 rfl rfl dX0_kind_1 rfl ?_
    refine gl_split (w1 := [(a 14, .inr (11, [.int 5, .ref (b 0), .int 5]))]) (w2 := [(b 0, .inl (D.2 6, 10, .inr (.inr (.inr (.inr (wKf b)))))), (b 1, .inr (6, [.ref (a 0)])), (b 2, .inr (7, [.ref (a 0), .ref (a 0)])), (b 3, .inr (8, [.ref (a 0)])), (b 4, .inr (9, [.ref (a 0)])), (b 5, .inr (10, [.ref (a 0)]))]) rfl ?_
    refine gw_callVi X 7 [] (lm_J2_isEmpty5 (b := a 14) (e := b 0) (m := 5)) lk_X0_152 ydv_J2_isEmpty gl_cl11 (gl_ate (q0 := 0) rfl) rfl rfl rfl dX0_kind_4 rfl rfl rfl ?_
    refine gl_merge (w := [(a 14, .inr (11, [.int 5, .ref (b 0), .int 5])), (b 0, .inl (D.2 6, 10, .inr (.inr (.inr (.inr (wKf b)))))), (b 1, .inr (6, [.ref (a 0)])), (b 2, .inr (7, [.ref (a 0), .ref (a 0)])), (b 3, .inr (8, [.ref (a 0)])), (b 4, .inr (9, [.ref (a 0)])), (b 5, .inr (10, [.ref (a 0)]))]) rfl ?_
    refine gw_if_eq X 90 10 dX0_kind_7 rfl rfl (fun _ => ?_) (fun z => absurd (by decide) z)
    refine gw_aload_n X 91 0 dX0_kind_90 rfl rfl rfl ?_
    refine gl_get (q0 := 7) (fs := wXf0 a σ) X 94 in_X0 gl_cl0 (by rintro _ ⟨_, ⟨_, _, rfl⟩, rfl⟩; rfl) 12 (by decide) q309 rfl rfl dX0_kind_91 rfl ?_
    refine gw_iload_n X 95 1 dX0_kind_94 rfl rfl rfl ?_
    refine gl_split (w1 := [(a 14, .inr (11, [.int 5, .ref (b 0), .int 5])), (b 0, .inl (D.2 6, 10, .inr (.inr (.inr (.inr (wKf b))))))]) (w2 := [(b 1, .inr (6, [.ref (a 0)])), (b 2, .inr (7, [.ref (a 0), .ref (a 0)])), (b 3, .inr (8, [.ref (a 0)])), (b 4, .inr (9, [.ref (a 0)])), (b 5, .inr (10, [.ref (a 0)]))]) rfl ?_
    refine gw_callV X 98 [.int 3] (lm_J2_get5 (b := a 14) (e := b 0) (m := 5) (f := (wKf b)) (i := 3) (x := b 4) (by decide) (by decide) (gw_in rfl) rfl) lk_X0_174 ydv_J2_get gl_cl11 (gl_ate (q0 := 0) rfl) rfl rfl rfl dX0_kind_95 rfl ?_
    rintro v u ⟨rfl, hu⟩
    revert u
    show gw_W E 98 _ _ (gw_st [(a 14, .inr (11, [.int 5, .ref (b 0), .int 5])), (b 0, .inl (D.2 6, 10, .inr (.inr (.inr (.inr (wKf b))))))] (gw_st [(b 1, .inr (6, [.ref (a 0)])), (b 2, .inr (7, [.ref (a 0), .ref (a 0)])), (b 3, .inr (8, [.ref (a 0)])), (b 4, .inr (9, [.ref (a 0)])), (b 5, .inr (10, [.ref (a 0)]))] (gw_st (wX D a σ) Wr))) _ _
    refine gl_merge (w := [(a 14, .inr (11, [.int 5, .ref (b 0), .int 5])), (b 0, .inl (D.2 6, 10, .inr (.inr (.inr (.inr (wKf b)))))), (b 1, .inr (6, [.ref (a 0)])), (b 2, .inr (7, [.ref (a 0), .ref (a 0)])), (b 3, .inr (8, [.ref (a 0)])), (b 4, .inr (9, [.ref (a 0)])), (b 5, .inr (10, [.ref (a 0)]))]) rfl ?_
    refine gl_cast (q0 := 5) X 101 q792 q2087 gl_cl9 (gl_at rfl) dX0_kind_98 rfl ?_
    refine gl_perm (Ws' := gw_st (wX D a σ) (gw_st (wK D a b) Wr)) gK_back ?_
    exact gw_aret X dX0_kind_101 (fun _ h => ⟨b, rfl, h⟩) (Nat.le_of_ble_eq_true rfl) (Nat.le_of_ble_eq_true rfl)
set_option maxHeartbeats 4000000 in
theorem mt_X0_kind_4 {l : Launch} {D : gw_D} {a : Nat → Nat} {Wr : va_W → Prop} {σ : gw_S} : gw_Ct D l yX0_kind cX0_kind 2 (some (.object "CardHolder$Act")) rm_X0_kind [.ref (a 0), .int 4] (gw_st (wX D a σ) (gw_sp (gK D a) Wr)) (fun v u => ∃ b : Nat → Nat, v = some (.ref (b 5)) ∧ gw_st (wX D a σ) (gw_st (wK D a b) Wr) u) := by
  refine gw_ct (own := RX0) [(0, .ref (a 0)), (1, .int 4)] (by decide) rfl (Nat.le_of_ble_eq_true rfl) rfl ?_
  intro E X
  refine gK_cases ?_ (fun b => ?_)
  · refine gw_aload_n X 1 0 dX0_kind_0 rfl rfl rfl ?_
    refine gl_get (q0 := 1) (fs := wXf0 a σ) X 4 in_X0 gl_cl0 (by rintro _ ⟨_, ⟨_, _, rfl⟩, rfl⟩; rfl) 12 (by decide) q309 rfl rfl dX0_kind_1 rfl ?_
    refine gl_split (w1 := [(a 14, .inr (11, [.int 0, .ref (D.2 100), .int 0]))]) (w2 := []) rfl ?_
    refine gw_callVi X 7 [] (lm_J2_isEmpty0 (b := a 14) (e := D.2 100) (m := 0)) lk_X0_152 ydv_J2_isEmpty gl_cl11 (gl_ate (q0 := 0) rfl) rfl rfl rfl dX0_kind_4 rfl rfl rfl ?_
    refine gl_merge (w := [(a 14, .inr (11, [.int 0, .ref (D.2 100), .int 0]))]) rfl ?_
    refine gw_if_eq X 90 10 dX0_kind_7 rfl rfl (fun z => absurd z (by decide)) (fun _ => ?_)
    refine gw_aload_n X 11 0 dX0_kind_10 rfl rfl rfl ?_
    refine gl_get (q0 := 1) (fs := wXf0 a σ) X 14 in_X0 gl_cl0 (by rintro _ ⟨_, ⟨_, _, rfl⟩, rfl⟩; rfl) 12 (by decide) q309 rfl rfl dX0_kind_11 rfl ?_
    refine gl_new (fs := [.null]) X 17 tyX7 tyX7_ok in_X7 gl_cl6 q666 q667 q156 gl_dfX7 rfl dX0_kind_14 rfl rfl rfl (fun q2 => ?_)
    refine gl_merge (w := [(q2, .inr (6, [.null])), (a 14, .inr (11, [.int 0, .ref (D.2 100), .int 0]))]) rfl ?_
    refine gw_dup X 18 dX0_kind_17 rfl rfl ?_
    refine gw_aload_n X 19 0 dX0_kind_18 rfl rfl rfl ?_
    refine gl_split (w1 := [(q2, .inr (6, [.null]))]) (w2 := [(a 14, .inr (11, [.int 0, .ref (D.2 100), .int 0]))]) rfl ?_
    refine gl_callINv X 22 [.ref (a 0)] (lm_X7_init (b := q2) (h := a 0)) q668 (lw_meth q670) q669 q156 rfl yd_X7_init rfl rfl rfl dX0_kind_19 rfl rfl rfl ?_
    refine gl_merge (w := [(q2, .inr (6, [.ref (a 0)])), (a 14, .inr (11, [.int 0, .ref (D.2 100), .int 0]))]) rfl ?_
    refine gl_ord (w' := [(a 14, .inr (11, [.int 0, .ref (D.2 100), .int 0])), (q2, .inr (6, [.ref (a 0)]))]) [1, 0] rfl rfl ?_
    refine gl_split (w1 := [(a 14, .inr (11, [.int 0, .ref (D.2 100), .int 0])), (q2, .inr (6, [.ref (a 0)]))]) (w2 := []) rfl ?_
    refine gw_callV X 25 [.ref q2] (lm_J2_add_0_ask (b := a 14) (m := 0) (x := q2) (h := a 0)) lk_X0_158 ydv_J2_add gl_cl11 (gl_ate (q0 := 0) rfl) rfl rfl rfl dX0_kind_22 rfl ?_
    rintro v u ⟨y4_1_1_1_1, rfl, hu⟩
    revert u
    show gw_W E 25 _ (.int 1 :: _) (gw_st [(y4_1_1_1_1, .inl (D.2 6, 10, .inr (.inr (.inr (.inr (va_up (fun _ => none) 0 (some q2))))))), (a 14, .inr (11, [.int 1, .ref y4_1_1_1_1, .int 1])), (q2, .inr (6, [.ref (a 0)]))] (gw_st [] (gw_st (wX D a σ) Wr))) 2 11
    refine gl_merge (w := [(y4_1_1_1_1, .inl (D.2 6, 10, .inr (.inr (.inr (.inr (va_up (fun _ => none) 0 (some q2))))))), (a 14, .inr (11, [.int 1, .ref y4_1_1_1_1, .int 1])), (q2, .inr (6, [.ref (a 0)]))]) rfl ?_
    refine gw_pop X 26 dX0_kind_25 rfl rfl ?_
    refine gw_aload_n X 27 0 dX0_kind_26 rfl rfl rfl ?_
    refine gl_get (q0 := 3) (fs := wXf0 a σ) X 30 in_X0 gl_cl0 (by rintro _ ⟨_, ⟨_, _, rfl⟩, rfl⟩; rfl) 12 (by decide) q309 rfl rfl dX0_kind_27 rfl ?_
    refine gl_new (fs := [.null, .null]) X 33 tyX8 tyX8_ok in_X8 gl_cl7 q739 q740 q159 gl_dfX8 rfl dX0_kind_30 rfl rfl rfl (fun q5 => ?_)
    refine gl_merge (w := [(q5, .inr (7, [.null, .null])), (y4_1_1_1_1, .inl (D.2 6, 10, .inr (.inr (.inr (.inr (va_up (fun _ => none) 0 (some q2))))))), (a 14, .inr (11, [.int 1, .ref y4_1_1_1_1, .int 1])), (q2, .inr (6, [.ref (a 0)]))]) rfl ?_
    refine gw_dup X 34 dX0_kind_33 rfl rfl ?_
    refine gw_aload_n X 35 0 dX0_kind_34 rfl rfl rfl ?_
    refine gl_split (w1 := [(q5, .inr (7, [.null, .null]))]) (w2 := [(y4_1_1_1_1, .inl (D.2 6, 10, .inr (.inr (.inr (.inr (va_up (fun _ => none) 0 (some q2))))))), (a 14, .inr (11, [.int 1, .ref y4_1_1_1_1, .int 1])), (q2, .inr (6, [.ref (a 0)]))]) rfl ?_
    refine gl_callINv X 38 [.ref (a 0)] (lm_X8_init (b := q5) (h := a 0)) q741 (lw_meth q743) q742 q159 rfl yd_X8_init rfl rfl rfl dX0_kind_35 rfl rfl rfl ?_
    refine gl_merge (w := [(q5, .inr (7, [.ref (a 0), .ref (a 0)])), (y4_1_1_1_1, .inl (D.2 6, 10, .inr (.inr (.inr (.inr (va_up (fun _ => none) 0 (some q2))))))), (a 14, .inr (11, [.int 1, .ref y4_1_1_1_1, .int 1])), (q2, .inr (6, [.ref (a 0)]))]) rfl ?_
    refine gl_ord (w' := [(a 14, .inr (11, [.int 1, .ref y4_1_1_1_1, .int 1])), (y4_1_1_1_1, .inl (D.2 6, 10, .inr (.inr (.inr (.inr (va_up (fun _ => none) 0 (some q2))))))), (q5, .inr (7, [.ref (a 0), .ref (a 0)])), (q2, .inr (6, [.ref (a 0)]))]) [2, 1, 0, 3] rfl rfl ?_
    refine gl_split (w1 := [(a 14, .inr (11, [.int 1, .ref y4_1_1_1_1, .int 1])), (y4_1_1_1_1, .inl (D.2 6, 10, .inr (.inr (.inr (.inr (va_up (fun _ => none) 0 (some q2))))))), (q5, .inr (7, [.ref (a 0), .ref (a 0)]))]) (w2 := [(q2, .inr (6, [.ref (a 0)]))]) rfl ?_
    refine gw_callVi X 41 [.ref q5] (lm_J2_add_1_give (b := a 14) (m := 1) (x := q5) (h := a 0) (e := y4_1_1_1_1) (f := (va_up (fun _ => none) 0 (some q2)))) lk_X0_158 ydv_J2_add gl_cl11 (gl_ate (q0 := 0) rfl) rfl rfl rfl dX0_kind_38 rfl rfl rfl ?_
    refine gl_merge (w := [(a 14, .inr (11, [.int 2, .ref y4_1_1_1_1, .int 2])), (y4_1_1_1_1, .inl (D.2 6, 10, .inr (.inr (.inr (.inr (va_up (va_up (fun _ => none) 0 (some q2)) 1 (some q5))))))), (q5, .inr (7, [.ref (a 0), .ref (a 0)])), (q2, .inr (6, [.ref (a 0)]))]) rfl ?_
    refine gw_pop X 42 dX0_kind_41 rfl rfl ?_
    refine gw_aload_n X 43 0 dX0_kind_42 rfl rfl rfl ?_
    refine gl_get (q0 := 4) (fs := wXf0 a σ) X 46 in_X0 gl_cl0 (by rintro _ ⟨_, ⟨_, _, rfl⟩, rfl⟩; rfl) 12 (by decide) q309 rfl rfl dX0_kind_43 rfl ?_
    refine gl_new (fs := [.null]) X 49 tyX9 tyX9_ok in_X9 gl_cl8 q750 q751 q160 gl_dfX9 rfl dX0_kind_46 rfl rfl rfl (fun q8 => ?_)
    refine gl_merge (w := [(q8, .inr (8, [.null])), (a 14, .inr (11, [.int 2, .ref y4_1_1_1_1, .int 2])), (y4_1_1_1_1, .inl (D.2 6, 10, .inr (.inr (.inr (.inr (va_up (va_up (fun _ => none) 0 (some q2)) 1 (some q5))))))), (q5, .inr (7, [.ref (a 0), .ref (a 0)])), (q2, .inr (6, [.ref (a 0)]))]) rfl ?_
    refine gw_dup X 50 dX0_kind_49 rfl rfl ?_
    refine gw_aload_n X 51 0 dX0_kind_50 rfl rfl rfl ?_
    refine gl_split (w1 := [(q8, .inr (8, [.null]))]) (w2 := [(a 14, .inr (11, [.int 2, .ref y4_1_1_1_1, .int 2])), (y4_1_1_1_1, .inl (D.2 6, 10, .inr (.inr (.inr (.inr (va_up (va_up (fun _ => none) 0 (some q2)) 1 (some q5))))))), (q5, .inr (7, [.ref (a 0), .ref (a 0)])), (q2, .inr (6, [.ref (a 0)]))]) rfl ?_
    refine gl_callINv X 54 [.ref (a 0)] (lm_X9_init (b := q8) (h := a 0)) q752 (lw_meth q754) q753 q160 rfl yd_X9_init rfl rfl rfl dX0_kind_51 rfl rfl rfl ?_
    refine gl_merge (w := [(q8, .inr (8, [.ref (a 0)])), (a 14, .inr (11, [.int 2, .ref y4_1_1_1_1, .int 2])), (y4_1_1_1_1, .inl (D.2 6, 10, .inr (.inr (.inr (.inr (va_up (va_up (fun _ => none) 0 (some q2)) 1 (some q5))))))), (q5, .inr (7, [.ref (a 0), .ref (a 0)])), (q2, .inr (6, [.ref (a 0)]))]) rfl ?_
    refine gl_ord (w' := [(a 14, .inr (11, [.int 2, .ref y4_1_1_1_1, .int 2])), (y4_1_1_1_1, .inl (D.2 6, 10, .inr (.inr (.inr (.inr (va_up (va_up (fun _ => none) 0 (some q2)) 1 (some q5))))))), (q8, .inr (8, [.ref (a 0)])), (q5, .inr (7, [.ref (a 0), .ref (a 0)])), (q2, .inr (6, [.ref (a 0)]))]) [1, 2, 0, 3, 4] rfl rfl ?_
    refine gl_split (w1 := [(a 14, .inr (11, [.int 2, .ref y4_1_1_1_1, .int 2])), (y4_1_1_1_1, .inl (D.2 6, 10, .inr (.inr (.inr (.inr (va_up (va_up (fun _ => none) 0 (some q2)) 1 (some q5))))))), (q8, .inr (8, [.ref (a 0)]))]) (w2 := [(q5, .inr (7, [.ref (a 0), .ref (a 0)])), (q2, .inr (6, [.ref (a 0)]))]) rfl ?_
    refine gw_callVi X 57 [.ref q8] (lm_J2_add_2_swap (b := a 14) (m := 2) (x := q8) (h := a 0) (e := y4_1_1_1_1) (f := (va_up (va_up (fun _ => none) 0 (some q2)) 1 (some q5)))) lk_X0_158 ydv_J2_add gl_cl11 (gl_ate (q0 := 0) rfl) rfl rfl rfl dX0_kind_54 rfl rfl rfl ?_
    refine gl_merge (w := [(a 14, .inr (11, [.int 3, .ref y4_1_1_1_1, .int 3])), (y4_1_1_1_1, .inl (D.2 6, 10, .inr (.inr (.inr (.inr (va_up (va_up (va_up (fun _ => none) 0 (some q2)) 1 (some q5)) 2 (some q8))))))), (q8, .inr (8, [.ref (a 0)])), (q5, .inr (7, [.ref (a 0), .ref (a 0)])), (q2, .inr (6, [.ref (a 0)]))]) rfl ?_
    refine gw_pop X 58 dX0_kind_57 rfl rfl ?_
    refine gw_aload_n X 59 0 dX0_kind_58 rfl rfl rfl ?_
    refine gl_get (q0 := 5) (fs := wXf0 a σ) X 62 in_X0 gl_cl0 (by rintro _ ⟨_, ⟨_, _, rfl⟩, rfl⟩; rfl) 12 (by decide) q309 rfl rfl dX0_kind_59 rfl ?_
    refine gl_new (fs := [.null]) X 65 tyX10 tyX10_ok in_X10 gl_cl9 q760 q761 q161 gl_dfX10 rfl dX0_kind_62 rfl rfl rfl (fun q11 => ?_)
    refine gl_merge (w := [(q11, .inr (9, [.null])), (a 14, .inr (11, [.int 3, .ref y4_1_1_1_1, .int 3])), (y4_1_1_1_1, .inl (D.2 6, 10, .inr (.inr (.inr (.inr (va_up (va_up (va_up (fun _ => none) 0 (some q2)) 1 (some q5)) 2 (some q8))))))), (q8, .inr (8, [.ref (a 0)])), (q5, .inr (7, [.ref (a 0), .ref (a 0)])), (q2, .inr (6, [.ref (a 0)]))]) rfl ?_
    refine gw_dup X 66 dX0_kind_65 rfl rfl ?_
    refine gw_aload_n X 67 0 dX0_kind_66 rfl rfl rfl ?_
    refine gl_split (w1 := [(q11, .inr (9, [.null]))]) (w2 := [(a 14, .inr (11, [.int 3, .ref y4_1_1_1_1, .int 3])), (y4_1_1_1_1, .inl (D.2 6, 10, .inr (.inr (.inr (.inr (va_up (va_up (va_up (fun _ => none) 0 (some q2)) 1 (some q5)) 2 (some q8))))))), (q8, .inr (8, [.ref (a 0)])), (q5, .inr (7, [.ref (a 0), .ref (a 0)])), (q2, .inr (6, [.ref (a 0)]))]) rfl ?_
    refine gl_callINv X 70 [.ref (a 0)] (lm_X10_init (b := q11) (h := a 0)) q762 (lw_meth q764) q763 q161 rfl yd_X10_init rfl rfl rfl dX0_kind_67 rfl rfl rfl ?_
    refine gl_merge (w := [(q11, .inr (9, [.ref (a 0)])), (a 14, .inr (11, [.int 3, .ref y4_1_1_1_1, .int 3])), (y4_1_1_1_1, .inl (D.2 6, 10, .inr (.inr (.inr (.inr (va_up (va_up (va_up (fun _ => none) 0 (some q2)) 1 (some q5)) 2 (some q8))))))), (q8, .inr (8, [.ref (a 0)])), (q5, .inr (7, [.ref (a 0), .ref (a 0)])), (q2, .inr (6, [.ref (a 0)]))]) rfl ?_
    refine gl_ord (w' := [(a 14, .inr (11, [.int 3, .ref y4_1_1_1_1, .int 3])), (y4_1_1_1_1, .inl (D.2 6, 10, .inr (.inr (.inr (.inr (va_up (va_up (va_up (fun _ => none) 0 (some q2)) 1 (some q5)) 2 (some q8))))))), (q11, .inr (9, [.ref (a 0)])), (q8, .inr (8, [.ref (a 0)])), (q5, .inr (7, [.ref (a 0), .ref (a 0)])), (q2, .inr (6, [.ref (a 0)]))]) [1, 2, 0, 3, 4, 5] rfl rfl ?_
    refine gl_split (w1 := [(a 14, .inr (11, [.int 3, .ref y4_1_1_1_1, .int 3])), (y4_1_1_1_1, .inl (D.2 6, 10, .inr (.inr (.inr (.inr (va_up (va_up (va_up (fun _ => none) 0 (some q2)) 1 (some q5)) 2 (some q8))))))), (q11, .inr (9, [.ref (a 0)]))]) (w2 := [(q8, .inr (8, [.ref (a 0)])), (q5, .inr (7, [.ref (a 0), .ref (a 0)])), (q2, .inr (6, [.ref (a 0)]))]) rfl ?_
    refine gw_callVi X 73 [.ref q11] (lm_J2_add_3_steal (b := a 14) (m := 3) (x := q11) (h := a 0) (e := y4_1_1_1_1) (f := (va_up (va_up (va_up (fun _ => none) 0 (some q2)) 1 (some q5)) 2 (some q8)))) lk_X0_158 ydv_J2_add gl_cl11 (gl_ate (q0 := 0) rfl) rfl rfl rfl dX0_kind_70 rfl rfl rfl ?_
    refine gl_merge (w := [(a 14, .inr (11, [.int 4, .ref y4_1_1_1_1, .int 4])), (y4_1_1_1_1, .inl (D.2 6, 10, .inr (.inr (.inr (.inr (va_up (va_up (va_up (va_up (fun _ => none) 0 (some q2)) 1 (some q5)) 2 (some q8)) 3 (some q11))))))), (q11, .inr (9, [.ref (a 0)])), (q8, .inr (8, [.ref (a 0)])), (q5, .inr (7, [.ref (a 0), .ref (a 0)])), (q2, .inr (6, [.ref (a 0)]))]) rfl ?_
    refine gw_pop X 74 dX0_kind_73 rfl rfl ?_
    refine gw_aload_n X 75 0 dX0_kind_74 rfl rfl rfl ?_
    refine gl_get (q0 := 6) (fs := wXf0 a σ) X 78 in_X0 gl_cl0 (by rintro _ ⟨_, ⟨_, _, rfl⟩, rfl⟩; rfl) 12 (by decide) q309 rfl rfl dX0_kind_75 rfl ?_
    refine gl_new (fs := [.null]) X 81 tyX11 tyX11_ok in_X11 gl_cl10 q770 q771 q162 gl_dfX11 rfl dX0_kind_78 rfl rfl rfl (fun q14 => ?_)
    refine gl_merge (w := [(q14, .inr (10, [.null])), (a 14, .inr (11, [.int 4, .ref y4_1_1_1_1, .int 4])), (y4_1_1_1_1, .inl (D.2 6, 10, .inr (.inr (.inr (.inr (va_up (va_up (va_up (va_up (fun _ => none) 0 (some q2)) 1 (some q5)) 2 (some q8)) 3 (some q11))))))), (q11, .inr (9, [.ref (a 0)])), (q8, .inr (8, [.ref (a 0)])), (q5, .inr (7, [.ref (a 0), .ref (a 0)])), (q2, .inr (6, [.ref (a 0)]))]) rfl ?_
    refine gw_dup X 82 dX0_kind_81 rfl rfl ?_
    refine gw_aload_n X 83 0 dX0_kind_82 rfl rfl rfl ?_
    refine gl_split (w1 := [(q14, .inr (10, [.null]))]) (w2 := [(a 14, .inr (11, [.int 4, .ref y4_1_1_1_1, .int 4])), (y4_1_1_1_1, .inl (D.2 6, 10, .inr (.inr (.inr (.inr (va_up (va_up (va_up (va_up (fun _ => none) 0 (some q2)) 1 (some q5)) 2 (some q8)) 3 (some q11))))))), (q11, .inr (9, [.ref (a 0)])), (q8, .inr (8, [.ref (a 0)])), (q5, .inr (7, [.ref (a 0), .ref (a 0)])), (q2, .inr (6, [.ref (a 0)]))]) rfl ?_
    refine gl_callINv X 86 [.ref (a 0)] (lm_X11_init (b := q14) (h := a 0)) q772 (lw_meth q774) q773 q162 rfl yd_X11_init rfl rfl rfl dX0_kind_83 rfl rfl rfl ?_
    refine gl_merge (w := [(q14, .inr (10, [.ref (a 0)])), (a 14, .inr (11, [.int 4, .ref y4_1_1_1_1, .int 4])), (y4_1_1_1_1, .inl (D.2 6, 10, .inr (.inr (.inr (.inr (va_up (va_up (va_up (va_up (fun _ => none) 0 (some q2)) 1 (some q5)) 2 (some q8)) 3 (some q11))))))), (q11, .inr (9, [.ref (a 0)])), (q8, .inr (8, [.ref (a 0)])), (q5, .inr (7, [.ref (a 0), .ref (a 0)])), (q2, .inr (6, [.ref (a 0)]))]) rfl ?_
    refine gl_ord (w' := [(a 14, .inr (11, [.int 4, .ref y4_1_1_1_1, .int 4])), (y4_1_1_1_1, .inl (D.2 6, 10, .inr (.inr (.inr (.inr (va_up (va_up (va_up (va_up (fun _ => none) 0 (some q2)) 1 (some q5)) 2 (some q8)) 3 (some q11))))))), (q14, .inr (10, [.ref (a 0)])), (q11, .inr (9, [.ref (a 0)])), (q8, .inr (8, [.ref (a 0)])), (q5, .inr (7, [.ref (a 0), .ref (a 0)])), (q2, .inr (6, [.ref (a 0)]))]) [1, 2, 0, 3, 4, 5, 6] rfl rfl ?_
    refine gl_split (w1 := [(a 14, .inr (11, [.int 4, .ref y4_1_1_1_1, .int 4])), (y4_1_1_1_1, .inl (D.2 6, 10, .inr (.inr (.inr (.inr (va_up (va_up (va_up (va_up (fun _ => none) 0 (some q2)) 1 (some q5)) 2 (some q8)) 3 (some q11))))))), (q14, .inr (10, [.ref (a 0)]))]) (w2 := [(q11, .inr (9, [.ref (a 0)])), (q8, .inr (8, [.ref (a 0)])), (q5, .inr (7, [.ref (a 0), .ref (a 0)])), (q2, .inr (6, [.ref (a 0)]))]) rfl ?_
    refine gw_callVi X 89 [.ref q14] (lm_J2_add_4_day (b := a 14) (m := 4) (x := q14) (h := a 0) (e := y4_1_1_1_1) (f := (va_up (va_up (va_up (va_up (fun _ => none) 0 (some q2)) 1 (some q5)) 2 (some q8)) 3 (some q11)))) lk_X0_158 ydv_J2_add gl_cl11 (gl_ate (q0 := 0) rfl) rfl rfl rfl dX0_kind_86 rfl rfl rfl ?_
    refine gl_merge (w := [(a 14, .inr (11, [.int 5, .ref y4_1_1_1_1, .int 5])), (y4_1_1_1_1, .inl (D.2 6, 10, .inr (.inr (.inr (.inr (va_up (va_up (va_up (va_up (va_up (fun _ => none) 0 (some q2)) 1 (some q5)) 2 (some q8)) 3 (some q11)) 4 (some q14))))))), (q14, .inr (10, [.ref (a 0)])), (q11, .inr (9, [.ref (a 0)])), (q8, .inr (8, [.ref (a 0)])), (q5, .inr (7, [.ref (a 0), .ref (a 0)])), (q2, .inr (6, [.ref (a 0)]))]) rfl ?_
    refine gw_pop X 90 dX0_kind_89 rfl rfl ?_
    refine gw_aload_n X 91 0 dX0_kind_90 rfl rfl rfl ?_
    refine gl_get (q0 := 7) (fs := wXf0 a σ) X 94 in_X0 gl_cl0 (by rintro _ ⟨_, ⟨_, _, rfl⟩, rfl⟩; rfl) 12 (by decide) q309 rfl rfl dX0_kind_91 rfl ?_
    refine gw_iload_n X 95 1 dX0_kind_94 rfl rfl rfl ?_
    refine gl_split (w1 := [(a 14, .inr (11, [.int 5, .ref y4_1_1_1_1, .int 5])), (y4_1_1_1_1, .inl (D.2 6, 10, .inr (.inr (.inr (.inr (va_up (va_up (va_up (va_up (va_up (fun _ => none) 0 (some q2)) 1 (some q5)) 2 (some q8)) 3 (some q11)) 4 (some q14)))))))]) (w2 := [(q14, .inr (10, [.ref (a 0)])), (q11, .inr (9, [.ref (a 0)])), (q8, .inr (8, [.ref (a 0)])), (q5, .inr (7, [.ref (a 0), .ref (a 0)])), (q2, .inr (6, [.ref (a 0)]))]) rfl ?_
    refine gw_callV X 98 [.int 4] (lm_J2_get5 (b := a 14) (e := y4_1_1_1_1) (m := 5) (f := (va_up (va_up (va_up (va_up (va_up (fun _ => none) 0 (some q2)) 1 (some q5)) 2 (some q8)) 3 (some q11)) 4 (some q14))) (i := 4) (x := q14) (by decide) (by decide) (gw_in rfl) rfl) lk_X0_174 ydv_J2_get gl_cl11 (gl_ate (q0 := 0) rfl) rfl rfl rfl dX0_kind_95 rfl ?_
    rintro v u ⟨rfl, hu⟩
    revert u
    show gw_W E 98 _ _ (gw_st [(a 14, .inr (11, [.int 5, .ref y4_1_1_1_1, .int 5])), (y4_1_1_1_1, .inl (D.2 6, 10, .inr (.inr (.inr (.inr (va_up (va_up (va_up (va_up (va_up (fun _ => none) 0 (some q2)) 1 (some q5)) 2 (some q8)) 3 (some q11)) 4 (some q14)))))))] (gw_st [(q14, .inr (10, [.ref (a 0)])), (q11, .inr (9, [.ref (a 0)])), (q8, .inr (8, [.ref (a 0)])), (q5, .inr (7, [.ref (a 0), .ref (a 0)])), (q2, .inr (6, [.ref (a 0)]))] (gw_st (wX D a σ) Wr))) _ _
    refine gl_merge (w := [(a 14, .inr (11, [.int 5, .ref y4_1_1_1_1, .int 5])), (y4_1_1_1_1, .inl (D.2 6, 10, .inr (.inr (.inr (.inr (va_up (va_up (va_up (va_up (va_up (fun _ => none) 0 (some q2)) 1 (some q5)) 2 (some q8)) 3 (some q11)) 4 (some q14))))))), (q14, .inr (10, [.ref (a 0)])), (q11, .inr (9, [.ref (a 0)])), (q8, .inr (8, [.ref (a 0)])), (q5, .inr (7, [.ref (a 0), .ref (a 0)])), (q2, .inr (6, [.ref (a 0)]))]) rfl ?_
    refine gl_cast (q0 := 2) X 101 q792 q2085 gl_cl10 (gl_at rfl) dX0_kind_98 rfl ?_
    refine gl_ord (w' := [(a 14, .inr (11, [.int 5, .ref y4_1_1_1_1, .int 5])), (y4_1_1_1_1, .inl (D.2 6, 10, .inr (.inr (.inr (.inr (va_up (va_up (va_up (va_up (va_up (fun _ => none) 0 (some q2)) 1 (some q5)) 2 (some q8)) 3 (some q11)) 4 (some q14))))))), (q2, .inr (6, [.ref (a 0)])), (q5, .inr (7, [.ref (a 0), .ref (a 0)])), (q8, .inr (8, [.ref (a 0)])), (q11, .inr (9, [.ref (a 0)])), (q14, .inr (10, [.ref (a 0)]))]) [0, 1, 6, 5, 4, 3, 2] rfl rfl ?_
    refine gl_perm (Ws' := gw_st (wX D a σ) (gw_st (wK D a (fun i => match i with | 0 => y4_1_1_1_1 | 1 => q2 | 2 => q5 | 3 => q8 | 4 => q11 | _ => q14)) Wr)) gK_back ?_
    exact gw_aret X dX0_kind_101 (fun _ h => ⟨(fun i => match i with | 0 => y4_1_1_1_1 | 1 => q2 | 2 => q5 | 3 => q8 | 4 => q11 | _ => q14), rfl, h⟩) (Nat.le_of_ble_eq_true rfl) (Nat.le_of_ble_eq_true rfl)
  · refine gw_aload_n X 1 0 dX0_kind_0 rfl rfl rfl ?_
    refine gl_get (q0 := 7) (fs := wXf0 a σ) X 4 in_X0 gl_cl0 (by rintro _ ⟨_, ⟨_, _, rfl⟩, rfl⟩; rfl) 12 (by decide) q309 rfl rfl dX0_kind_1 rfl ?_
    refine gl_split (w1 := [(a 14, .inr (11, [.int 5, .ref (b 0), .int 5]))]) (w2 := [(b 0, .inl (D.2 6, 10, .inr (.inr (.inr (.inr (wKf b)))))), (b 1, .inr (6, [.ref (a 0)])), (b 2, .inr (7, [.ref (a 0), .ref (a 0)])), (b 3, .inr (8, [.ref (a 0)])), (b 4, .inr (9, [.ref (a 0)])), (b 5, .inr (10, [.ref (a 0)]))]) rfl ?_
    refine gw_callVi X 7 [] (lm_J2_isEmpty5 (b := a 14) (e := b 0) (m := 5)) lk_X0_152 ydv_J2_isEmpty gl_cl11 (gl_ate (q0 := 0) rfl) rfl rfl rfl dX0_kind_4 rfl rfl rfl ?_
    refine gl_merge (w := [(a 14, .inr (11, [.int 5, .ref (b 0), .int 5])), (b 0, .inl (D.2 6, 10, .inr (.inr (.inr (.inr (wKf b)))))), (b 1, .inr (6, [.ref (a 0)])), (b 2, .inr (7, [.ref (a 0), .ref (a 0)])), (b 3, .inr (8, [.ref (a 0)])), (b 4, .inr (9, [.ref (a 0)])), (b 5, .inr (10, [.ref (a 0)]))]) rfl ?_
    refine gw_if_eq X 90 10 dX0_kind_7 rfl rfl (fun _ => ?_) (fun z => absurd (by decide) z)
    refine gw_aload_n X 91 0 dX0_kind_90 rfl rfl rfl ?_
    refine gl_get (q0 := 7) (fs := wXf0 a σ) X 94 in_X0 gl_cl0 (by rintro _ ⟨_, ⟨_, _, rfl⟩, rfl⟩; rfl) 12 (by decide) q309 rfl rfl dX0_kind_91 rfl ?_
    refine gw_iload_n X 95 1 dX0_kind_94 rfl rfl rfl ?_
    refine gl_split (w1 := [(a 14, .inr (11, [.int 5, .ref (b 0), .int 5])), (b 0, .inl (D.2 6, 10, .inr (.inr (.inr (.inr (wKf b))))))]) (w2 := [(b 1, .inr (6, [.ref (a 0)])), (b 2, .inr (7, [.ref (a 0), .ref (a 0)])), (b 3, .inr (8, [.ref (a 0)])), (b 4, .inr (9, [.ref (a 0)])), (b 5, .inr (10, [.ref (a 0)]))]) rfl ?_
    refine gw_callV X 98 [.int 4] (lm_J2_get5 (b := a 14) (e := b 0) (m := 5) (f := (wKf b)) (i := 4) (x := b 5) (by decide) (by decide) (gw_in rfl) rfl) lk_X0_174 ydv_J2_get gl_cl11 (gl_ate (q0 := 0) rfl) rfl rfl rfl dX0_kind_95 rfl ?_
    rintro v u ⟨rfl, hu⟩
    revert u
    show gw_W E 98 _ _ (gw_st [(a 14, .inr (11, [.int 5, .ref (b 0), .int 5])), (b 0, .inl (D.2 6, 10, .inr (.inr (.inr (.inr (wKf b))))))] (gw_st [(b 1, .inr (6, [.ref (a 0)])), (b 2, .inr (7, [.ref (a 0), .ref (a 0)])), (b 3, .inr (8, [.ref (a 0)])), (b 4, .inr (9, [.ref (a 0)])), (b 5, .inr (10, [.ref (a 0)]))] (gw_st (wX D a σ) Wr))) _ _
    refine gl_merge (w := [(a 14, .inr (11, [.int 5, .ref (b 0), .int 5])), (b 0, .inl (D.2 6, 10, .inr (.inr (.inr (.inr (wKf b)))))), (b 1, .inr (6, [.ref (a 0)])), (b 2, .inr (7, [.ref (a 0), .ref (a 0)])), (b 3, .inr (8, [.ref (a 0)])), (b 4, .inr (9, [.ref (a 0)])), (b 5, .inr (10, [.ref (a 0)]))]) rfl ?_
    refine gl_cast (q0 := 6) X 101 q792 q2085 gl_cl10 (gl_at rfl) dX0_kind_98 rfl ?_
    refine gl_perm (Ws' := gw_st (wX D a σ) (gw_st (wK D a b) Wr)) gK_back ?_
    exact gw_aret X dX0_kind_101 (fun _ h => ⟨b, rfl, h⟩) (Nat.le_of_ble_eq_true rfl) (Nat.le_of_ble_eq_true rfl)
