/-! A SLOT: its object, its row; Slot's four methods -/
set_option maxRecDepth 100000
abbrev gw_R1 : Type := Option (Nat × Nat × (Nat → Int32) × (Nat → Int64))
abbrev gw_R : Type := Nat → gw_R1
def gS_c (D : gw_D) (k N : Nat) (f : Nat → Int32) (g : Nat → Int64) : va_E := match k with
  | 0 => .inl (D.2 1, N, .inl f)
  | 1 => .inl (D.2 4, N, .inl f)
  | 2 => .inl (D.2 0, N, .inl f)
  | _ => .inl (D.2 2, N, .inr (.inl g))
def gS1 (D : gw_D) (b : Nat) (r : gw_R1) : va_W → Prop := match r with
  | none => fun w => w = [(b, .inr (2, [.null]))]
  | some x => fun w => ∃ q : Nat, w = [(b, .inr (2, [.ref q])), (q, gS_c D x.1 x.2.1 x.2.2.1 x.2.2.2)] ∧ x.1 < 4 ∧ x.2.1 ≤ 60
def gv_at (x : Nat × Nat × (Nat → Int32) × (Nat → Int64)) (i : Nat) : Int64 := match x.1 with
  | 0 => Int32.toInt64 (x.2.2.1 i)
  | 1 => Int32.toInt64 (x.2.2.1 i)
  | 2 => Int32.toInt64 (x.2.2.1 i)
  | _ => x.2.2.2 i
def gv_put (x : Nat × Nat × (Nat → Int32) × (Nat → Int64)) (i : Nat) (v : Int64) : Nat × Nat × (Nat → Int32) × (Nat → Int64) := match x.1 with
  | 0 => (x.1, x.2.1, upd x.2.2.1 i (vp_nar .byte (v.toInt32.toInt8.toInt32)), x.2.2.2)
  | 1 => (x.1, x.2.1, upd x.2.2.1 i (vp_nar .short (v.toInt32.toInt16.toInt32)), x.2.2.2)
  | 2 => (x.1, x.2.1, upd x.2.2.1 i v.toInt32, x.2.2.2)
  | _ => (x.1, x.2.1, x.2.2.1, vp_updL x.2.2.2 i v)
def gv_new (k : Nat) (z : Int32) : Nat × Nat × (Nat → Int32) × (Nat → Int64) := (k, z.toNatClampNeg, fun _ => 0, fun _ => 0)
theorem gl_dropP {D : va_G} {cl : List vw_C} {ws ws' : va_W} {H : Heap} (h : ∀ q ∈ ws', q ∈ ws) (hP : va_P D cl ws H) : va_P D cl ws' H := by
  intro k q hk
  obtain ⟨i, hi⟩ := List.getElem?_of_mem (h q (List.mem_of_getElem? hk))
  exact hP i q hi
theorem gl_dropD {A : Nat → Prop} {ws ws' : va_W} (h : ws'.Sublist ws) (hD : va_D A ws) : va_D A ws' := by
  refine gl_D_of ((h.map Prod.fst).nodup (gl_D_nodup hD)) (fun q hq => ?_)
  obtain ⟨i, hi⟩ := List.getElem?_of_mem (h.subset hq)
  exact hD.2 i q hi
/-- cells are forgotten -/
theorem gl_drop {E : gw_E} {pc : Nat} {lv : List (Nat × Value)} {st : List Value} {Ws Ws' : va_W → Prop} {k n : Nat} (h : ∀ ws, Ws ws → ∃ ws', Ws' ws' ∧ ws'.Sublist ws) (kk : gw_W E pc lv st Ws' k n) : gw_W E pc lv st Ws k n := by
  obtain ⟨p, e, s, m, args, below, meth, c, A, l1, D1, R1, Q1⟩ := E
  intro ws hw H locs ls hP hD hS hl
  obtain ⟨ws', hw', hsb⟩ := h ws hw
  exact kk ws' hw' H locs ls (gl_dropP (fun q hq => hsb.subset hq) hP) (gl_dropD hsb hD) hS hl
section GS1
variable {E : gw_E} {pc : Nat} {lv : List (Nat × Value)} {st : List Value} {Wr : va_W → Prop} {k n b : Nat} {D : gw_D}
theorem gS_openN (kk : gw_W E pc lv st (gw_st [(b, .inr (2, [.null]))] Wr) k n) : gw_W E pc lv st (gw_sp (gS1 D b none) Wr) k n := by
  refine gw_ww (fun ws h => ?_) kk
  obtain ⟨w1, w2, rfl, h2, rfl⟩ := h
  exact ⟨w2, h2, rfl⟩
theorem gS_closeN {ws : va_W} (h : gw_st [(b, .inr (2, [.null]))] Wr ws) : gw_sp (gS1 D b none) Wr ws := by
  obtain ⟨w2, h2, rfl⟩ := h
  exact ⟨_, w2, rfl, h2, rfl⟩
theorem gS_open {x : Nat × Nat × (Nat → Int32) × (Nat → Int64)} (kk : x.1 < 4 → x.2.1 ≤ 60 → ∀ q : Nat, gw_W E pc lv st (gw_st [(b, .inr (2, [.ref q])), (q, gS_c D x.1 x.2.1 x.2.2.1 x.2.2.2)] Wr) k n) : gw_W E pc lv st (gw_sp (gS1 D b (some x)) Wr) k n := by
  rintro ws ⟨w1, w2, ⟨q, rfl, h1, h3⟩, h2, rfl⟩
  exact kk h1 h3 q _ ⟨w2, h2, rfl⟩
theorem gS_close {x : Nat × Nat × (Nat → Int32) × (Nat → Int64)} {q : Nat} {ws : va_W} (h1 : x.1 < 4) (h3 : x.2.1 ≤ 60) (h : gw_st [(b, .inr (2, [.ref q])), (q, gS_c D x.1 x.2.1 x.2.2.1 x.2.2.2)] Wr ws) : gw_sp (gS1 D b (some x)) Wr ws := by
  obtain ⟨w2, h2, rfl⟩ := h
  exact ⟨_, w2, ⟨q, rfl, h1, h3⟩, h2, rfl⟩
/-- whatever it held, its first cell -/
theorem gS_first {r : gw_R1} : ∀ ws, gw_sp (gS1 D b r) Wr ws → ∃ fs, ws[0]? = some (b, .inr (2, fs)) := by
  rintro ws ⟨w1, w2, h1, h2, rfl⟩
  cases r with
  | none => cases h1; exact ⟨_, rfl⟩
  | some x =>
    obtain ⟨q, rfl, -⟩ := h1
    exact ⟨_, rfl⟩
/-- an old row is forgotten, a new one taken -/
theorem gS_old {r : gw_R1} (kk : ∀ (v : Value) (w : va_W → Prop), gw_W E pc lv st (gw_st [(b, .inr (2, [v]))] (gw_sp w Wr)) k n) : gw_W E pc lv st (gw_sp (gS1 D b r) Wr) k n := by
  rintro ws ⟨w1, w2, h1, h2, rfl⟩
  cases r with
  | none => cases h1; exact kk .null (fun w => w = []) _ ⟨w2, ⟨[], w2, rfl, h2, rfl⟩, rfl⟩
  | some x =>
    obtain ⟨q, rfl, -⟩ := h1
    exact kk (.ref q) (fun w => w = [(q, gS_c D x.1 x.2.1 x.2.2.1 x.2.2.2)]) _ ⟨[(q, gS_c D x.1 x.2.1 x.2.2.1 x.2.2.2)] ++ w2, ⟨_, w2, rfl, h2, rfl⟩, rfl⟩
end GS1
abbrev rm_X2_size : Room := { frames := 8, cells := 1, slots := 8, locals := 10248 }
abbrev rm_X2_size0 : Room := { frames := 0, cells := 0, slots := 0, locals := 0 }
set_option maxHeartbeats 4000000 in
theorem mt_X2_size {l : Launch} {D : gw_D} {Wr : va_W → Prop} {b : Nat} {x : (Nat × Nat × (Nat → Int32) × (Nat → Int64))} : gw_Ct D l yX2_size cX2_size 1 (some .int) rm_X2_size0 [.ref b] (gw_sp (gS1 D b (some x)) Wr) (gw_pI (Int32.ofNat x.2.1) (gw_sp (gS1 D b (some x)) Wr)) := by
  refine gw_ct (own := RX2) [(0, .ref b)] (by decide) rfl (Nat.le_of_ble_eq_true rfl) rfl ?_
  intro E X
  obtain ⟨kd, N, f, g⟩ := x
  refine gS_open (fun hk hN q => ?_)
  replace hk : kd < 4 := hk
  replace hN : N ≤ 60 := hN
  obtain rfl | rfl | rfl | rfl : kd = 0 ∨ kd = 1 ∨ kd = 2 ∨ kd = 3 := by omega
  · refine gw_aload_n X 1 0 dX2_size_0 rfl rfl rfl ?_
    refine gl_get (q0 := 0) (fs := [.ref q]) X 4 in_X2 gl_cl2 (gl_at rfl) 0 (by decide) q274 rfl rfl dX2_size_1 rfl ?_
    refine gl_instY X 7 (q0 := 1) (t0 := 1) (gl_at rfl) rfl gl_nmB q1093 dX2_size_4 rfl ?_
    refine gw_if_eq X 21 10 dX2_size_7 rfl rfl (fun z => absurd z (by decide)) (fun _ => ?_)
    refine gw_aload_n X 11 0 dX2_size_10 rfl rfl rfl ?_
    refine gl_get (q0 := 0) (fs := [.ref q]) X 14 in_X2 gl_cl2 (gl_at rfl) 0 (by decide) q274 rfl rfl dX2_size_11 rfl ?_
    refine gl_castA X 17 (q0 := 1) (t0 := 1) (gl_at rfl) rfl gl_nmB q1093 dX2_size_14 rfl ?_
    refine gl_alen X 18 (q0 := 1) (t0 := 1) (gl_at rfl) rfl rfl dX2_size_17 rfl ?_
    refine gw_goto X 71 dX2_size_18 rfl ?_
    exact gw_iret X dX2_size_71 (fun _ h => ⟨rfl, gS_close (x := (0, N, f, g)) hk hN h⟩) (Nat.le_of_ble_eq_true rfl) (Nat.le_of_ble_eq_true rfl)
  · refine gw_aload_n X 1 0 dX2_size_0 rfl rfl rfl ?_
    refine gl_get (q0 := 0) (fs := [.ref q]) X 4 in_X2 gl_cl2 (gl_at rfl) 0 (by decide) q274 rfl rfl dX2_size_1 rfl ?_
    refine gl_instNo X 7 (q0 := 1) (t0 := 4) (gl_at rfl) rfl gl_nmS (by decide) q1093 dX2_size_4 rfl ?_
    refine gw_if_eq X 21 10 dX2_size_7 rfl rfl (fun _ => ?_) (fun z => absurd (by decide) z)
    refine gw_aload_n X 22 0 dX2_size_21 rfl rfl rfl ?_
    refine gl_get (q0 := 0) (fs := [.ref q]) X 25 in_X2 gl_cl2 (gl_at rfl) 0 (by decide) q274 rfl rfl dX2_size_22 rfl ?_
    refine gl_instY X 28 (q0 := 1) (t0 := 4) (gl_at rfl) rfl gl_nmS q1094 dX2_size_25 rfl ?_
    refine gw_if_eq X 42 31 dX2_size_28 rfl rfl (fun z => absurd z (by decide)) (fun _ => ?_)
    refine gw_aload_n X 32 0 dX2_size_31 rfl rfl rfl ?_
    refine gl_get (q0 := 0) (fs := [.ref q]) X 35 in_X2 gl_cl2 (gl_at rfl) 0 (by decide) q274 rfl rfl dX2_size_32 rfl ?_
    refine gl_castA X 38 (q0 := 1) (t0 := 4) (gl_at rfl) rfl gl_nmS q1094 dX2_size_35 rfl ?_
    refine gl_alen X 39 (q0 := 1) (t0 := 4) (gl_at rfl) rfl rfl dX2_size_38 rfl ?_
    refine gw_goto X 71 dX2_size_39 rfl ?_
    exact gw_iret X dX2_size_71 (fun _ h => ⟨rfl, gS_close (x := (1, N, f, g)) hk hN h⟩) (Nat.le_of_ble_eq_true rfl) (Nat.le_of_ble_eq_true rfl)
  · refine gw_aload_n X 1 0 dX2_size_0 rfl rfl rfl ?_
    refine gl_get (q0 := 0) (fs := [.ref q]) X 4 in_X2 gl_cl2 (gl_at rfl) 0 (by decide) q274 rfl rfl dX2_size_1 rfl ?_
    refine gl_instNo X 7 (q0 := 1) (t0 := 0) (gl_at rfl) rfl gl_nmI (by decide) q1093 dX2_size_4 rfl ?_
    refine gw_if_eq X 21 10 dX2_size_7 rfl rfl (fun _ => ?_) (fun z => absurd (by decide) z)
    refine gw_aload_n X 22 0 dX2_size_21 rfl rfl rfl ?_
    refine gl_get (q0 := 0) (fs := [.ref q]) X 25 in_X2 gl_cl2 (gl_at rfl) 0 (by decide) q274 rfl rfl dX2_size_22 rfl ?_
    refine gl_instNo X 28 (q0 := 1) (t0 := 0) (gl_at rfl) rfl gl_nmI (by decide) q1094 dX2_size_25 rfl ?_
    refine gw_if_eq X 42 31 dX2_size_28 rfl rfl (fun _ => ?_) (fun z => absurd (by decide) z)
    refine gw_aload_n X 43 0 dX2_size_42 rfl rfl rfl ?_
    refine gl_get (q0 := 0) (fs := [.ref q]) X 46 in_X2 gl_cl2 (gl_at rfl) 0 (by decide) q274 rfl rfl dX2_size_43 rfl ?_
    refine gl_instY X 49 (q0 := 1) (t0 := 0) (gl_at rfl) rfl gl_nmI q1095 dX2_size_46 rfl ?_
    refine gw_if_eq X 63 52 dX2_size_49 rfl rfl (fun z => absurd z (by decide)) (fun _ => ?_)
    refine gw_aload_n X 53 0 dX2_size_52 rfl rfl rfl ?_
    refine gl_get (q0 := 0) (fs := [.ref q]) X 56 in_X2 gl_cl2 (gl_at rfl) 0 (by decide) q274 rfl rfl dX2_size_53 rfl ?_
    refine gl_castA X 59 (q0 := 1) (t0 := 0) (gl_at rfl) rfl gl_nmI q1095 dX2_size_56 rfl ?_
    refine gl_alen X 60 (q0 := 1) (t0 := 0) (gl_at rfl) rfl rfl dX2_size_59 rfl ?_
    refine gw_goto X 71 dX2_size_60 rfl ?_
    exact gw_iret X dX2_size_71 (fun _ h => ⟨rfl, gS_close (x := (2, N, f, g)) hk hN h⟩) (Nat.le_of_ble_eq_true rfl) (Nat.le_of_ble_eq_true rfl)
  · refine gw_aload_n X 1 0 dX2_size_0 rfl rfl rfl ?_
    refine gl_get (q0 := 0) (fs := [.ref q]) X 4 in_X2 gl_cl2 (gl_at rfl) 0 (by decide) q274 rfl rfl dX2_size_1 rfl ?_
    refine gl_instNo X 7 (q0 := 1) (t0 := 2) (gl_at rfl) rfl gl_nmJ (by decide) q1093 dX2_size_4 rfl ?_
    refine gw_if_eq X 21 10 dX2_size_7 rfl rfl (fun _ => ?_) (fun z => absurd (by decide) z)
    refine gw_aload_n X 22 0 dX2_size_21 rfl rfl rfl ?_
    refine gl_get (q0 := 0) (fs := [.ref q]) X 25 in_X2 gl_cl2 (gl_at rfl) 0 (by decide) q274 rfl rfl dX2_size_22 rfl ?_
    refine gl_instNo X 28 (q0 := 1) (t0 := 2) (gl_at rfl) rfl gl_nmJ (by decide) q1094 dX2_size_25 rfl ?_
    refine gw_if_eq X 42 31 dX2_size_28 rfl rfl (fun _ => ?_) (fun z => absurd (by decide) z)
    refine gw_aload_n X 43 0 dX2_size_42 rfl rfl rfl ?_
    refine gl_get (q0 := 0) (fs := [.ref q]) X 46 in_X2 gl_cl2 (gl_at rfl) 0 (by decide) q274 rfl rfl dX2_size_43 rfl ?_
    refine gl_instNo X 49 (q0 := 1) (t0 := 2) (gl_at rfl) rfl gl_nmJ (by decide) q1095 dX2_size_46 rfl ?_
    refine gw_if_eq X 63 52 dX2_size_49 rfl rfl (fun _ => ?_) (fun z => absurd (by decide) z)
    refine gw_aload_n X 64 0 dX2_size_63 rfl rfl rfl ?_
    refine gl_get (q0 := 0) (fs := [.ref q]) X 67 in_X2 gl_cl2 (gl_at rfl) 0 (by decide) q274 rfl rfl dX2_size_64 rfl ?_
    refine gl_castA X 70 (q0 := 1) (t0 := 2) (gl_at rfl) rfl gl_nmJ q1096 dX2_size_67 rfl ?_
    refine gl_alen X 71 (q0 := 1) (t0 := 2) (gl_at rfl) rfl rfl dX2_size_70 rfl ?_
    exact gw_iret X dX2_size_71 (fun _ h => ⟨rfl, gS_close (x := (3, N, f, g)) hk hN h⟩) (Nat.le_of_ble_eq_true rfl) (Nat.le_of_ble_eq_true rfl)
set_option maxHeartbeats 4000000 in
theorem mx_X2_size {l : Launch} {D : gw_D} {Wr : va_W → Prop} {b : Nat}  : gx_Ct D l yX2_size cX2_size 1 (some .int) rm_X2_size [.ref b] (gw_sp (gS1 D b none) Wr) (fun _ _ => False) (gx_p gx_NP (fun _ => gw_sp (gS1 D b none) Wr)) := by
  refine gx_ct (own := RX2) [(0, .ref b)] (by decide) rfl (Nat.le_of_ble_eq_true rfl) rfl ?_
  intro E X Y
  refine gS_openN ?_
  refine gw_aload_n X 1 0 dX2_size_0 rfl rfl rfl ?_
  refine gl_get (q0 := 0) (fs := [.null]) X 4 in_X2 gl_cl2 (gl_at rfl) 0 (by decide) q274 rfl rfl dX2_size_1 rfl ?_
  refine gl_instN0 X 7 dX2_size_4 rfl ?_
  refine gw_if_eq X 21 10 dX2_size_7 rfl rfl (fun _ => ?_) (fun z => absurd (by decide) z)
  refine gw_aload_n X 22 0 dX2_size_21 rfl rfl rfl ?_
  refine gl_get (q0 := 0) (fs := [.null]) X 25 in_X2 gl_cl2 (gl_at rfl) 0 (by decide) q274 rfl rfl dX2_size_22 rfl ?_
  refine gl_instN0 X 28 dX2_size_25 rfl ?_
  refine gw_if_eq X 42 31 dX2_size_28 rfl rfl (fun _ => ?_) (fun z => absurd (by decide) z)
  refine gw_aload_n X 43 0 dX2_size_42 rfl rfl rfl ?_
  refine gl_get (q0 := 0) (fs := [.null]) X 46 in_X2 gl_cl2 (gl_at rfl) 0 (by decide) q274 rfl rfl dX2_size_43 rfl ?_
  refine gl_instN0 X 49 dX2_size_46 rfl ?_
  refine gw_if_eq X 63 52 dX2_size_49 rfl rfl (fun _ => ?_) (fun z => absurd (by decide) z)
  refine gw_aload_n X 64 0 dX2_size_63 rfl rfl rfl ?_
  refine gl_get (q0 := 0) (fs := [.null]) X 67 in_X2 gl_cl2 (gl_at rfl) 0 (by decide) q274 rfl rfl dX2_size_64 rfl ?_
  refine gl_castN0 X 70 dX2_size_67 rfl ?_
  refine gx_alenN X dX2_size_70 (fun ws hw => gx_npe X rfl rfl hw (fun q => ?_))
  exact gx_out X Y (fun _ h => ⟨rfl, gS_closeN h⟩) (Nat.le_of_ble_eq_true rfl) (Nat.le_of_ble_eq_true rfl)
abbrev rm_X2_at : Room := { frames := 0, cells := 0, slots := 0, locals := 0 }
set_option maxHeartbeats 4000000 in
theorem mt_X2_at {l : Launch} {D : gw_D} {Wr : va_W → Prop} {b : Nat} {x : (Nat × Nat × (Nat → Int32) × (Nat → Int64))} {x1 : Int32} (hin : vp_in x1 x.2.1) : gw_Ct D l yX2_at cX2_at 2 (some .long) rm_X2_at [.ref b, .int x1] (gw_sp (gS1 D b (some x)) Wr) (gw_pL (gv_at x x1.toNatClampNeg) (gw_sp (gS1 D b (some x)) Wr)) := by
  refine gw_ct (own := RX2) [(0, .ref b), (1, .int (x1))] (by decide) rfl (Nat.le_of_ble_eq_true rfl) rfl ?_
  intro E X
  obtain ⟨kd, N, f, g⟩ := x
  refine gS_open (fun hk hN q => ?_)
  replace hk : kd < 4 := hk
  replace hN : N ≤ 60 := hN
  obtain rfl | rfl | rfl | rfl : kd = 0 ∨ kd = 1 ∨ kd = 2 ∨ kd = 3 := by omega
  · replace hin : vp_in x1 N := hin
    refine gw_aload_n X 1 0 dX2_at_0 rfl rfl rfl ?_
    refine gl_get (q0 := 0) (fs := [.ref q]) X 4 in_X2 gl_cl2 (gl_at rfl) 0 (by decide) q274 rfl rfl dX2_at_1 rfl ?_
    refine gl_instY X 7 (q0 := 1) (t0 := 1) (gl_at rfl) rfl gl_nmB q1093 dX2_at_4 rfl ?_
    refine gw_if_eq X 23 10 dX2_at_7 rfl rfl (fun z => absurd z (by decide)) (fun _ => ?_)
    refine gw_aload_n X 11 0 dX2_at_10 rfl rfl rfl ?_
    refine gl_get (q0 := 0) (fs := [.ref q]) X 14 in_X2 gl_cl2 (gl_at rfl) 0 (by decide) q274 rfl rfl dX2_at_11 rfl ?_
    refine gl_castA X 17 (q0 := 1) (t0 := 1) (gl_at rfl) rfl gl_nmB q1093 dX2_at_14 rfl ?_
    refine gw_iload_n X 18 1 dX2_at_17 rfl rfl rfl ?_
    refine gl_bald' X 19 (q0 := 1) (gl_at rfl) hin dX2_at_18 rfl ?_
    refine gw_i2l X 20 dX2_at_19 rfl ?_
    refine gw_goto X 78 dX2_at_20 rfl ?_
    exact gw_lret X dX2_at_78 (fun _ h => ⟨rfl, gS_close (x := (0, N, f, g)) hk hN h⟩) (Nat.le_of_ble_eq_true rfl) (Nat.le_of_ble_eq_true rfl)
  · replace hin : vp_in x1 N := hin
    refine gw_aload_n X 1 0 dX2_at_0 rfl rfl rfl ?_
    refine gl_get (q0 := 0) (fs := [.ref q]) X 4 in_X2 gl_cl2 (gl_at rfl) 0 (by decide) q274 rfl rfl dX2_at_1 rfl ?_
    refine gl_instNo X 7 (q0 := 1) (t0 := 4) (gl_at rfl) rfl gl_nmS (by decide) q1093 dX2_at_4 rfl ?_
    refine gw_if_eq X 23 10 dX2_at_7 rfl rfl (fun _ => ?_) (fun z => absurd (by decide) z)
    refine gw_aload_n X 24 0 dX2_at_23 rfl rfl rfl ?_
    refine gl_get (q0 := 0) (fs := [.ref q]) X 27 in_X2 gl_cl2 (gl_at rfl) 0 (by decide) q274 rfl rfl dX2_at_24 rfl ?_
    refine gl_instY X 30 (q0 := 1) (t0 := 4) (gl_at rfl) rfl gl_nmS q1094 dX2_at_27 rfl ?_
    refine gw_if_eq X 46 33 dX2_at_30 rfl rfl (fun z => absurd z (by decide)) (fun _ => ?_)
    refine gw_aload_n X 34 0 dX2_at_33 rfl rfl rfl ?_
    refine gl_get (q0 := 0) (fs := [.ref q]) X 37 in_X2 gl_cl2 (gl_at rfl) 0 (by decide) q274 rfl rfl dX2_at_34 rfl ?_
    refine gl_castA X 40 (q0 := 1) (t0 := 4) (gl_at rfl) rfl gl_nmS q1094 dX2_at_37 rfl ?_
    refine gw_iload_n X 41 1 dX2_at_40 rfl rfl rfl ?_
    refine gl_sald' X 42 (q0 := 1) (gl_at rfl) hin dX2_at_41 rfl ?_
    refine gw_i2l X 43 dX2_at_42 rfl ?_
    refine gw_goto X 78 dX2_at_43 rfl ?_
    exact gw_lret X dX2_at_78 (fun _ h => ⟨rfl, gS_close (x := (1, N, f, g)) hk hN h⟩) (Nat.le_of_ble_eq_true rfl) (Nat.le_of_ble_eq_true rfl)
  · replace hin : vp_in x1 N := hin
    refine gw_aload_n X 1 0 dX2_at_0 rfl rfl rfl ?_
    refine gl_get (q0 := 0) (fs := [.ref q]) X 4 in_X2 gl_cl2 (gl_at rfl) 0 (by decide) q274 rfl rfl dX2_at_1 rfl ?_
    refine gl_instNo X 7 (q0 := 1) (t0 := 0) (gl_at rfl) rfl gl_nmI (by decide) q1093 dX2_at_4 rfl ?_
    refine gw_if_eq X 23 10 dX2_at_7 rfl rfl (fun _ => ?_) (fun z => absurd (by decide) z)
    refine gw_aload_n X 24 0 dX2_at_23 rfl rfl rfl ?_
    refine gl_get (q0 := 0) (fs := [.ref q]) X 27 in_X2 gl_cl2 (gl_at rfl) 0 (by decide) q274 rfl rfl dX2_at_24 rfl ?_
    refine gl_instNo X 30 (q0 := 1) (t0 := 0) (gl_at rfl) rfl gl_nmI (by decide) q1094 dX2_at_27 rfl ?_
    refine gw_if_eq X 46 33 dX2_at_30 rfl rfl (fun _ => ?_) (fun z => absurd (by decide) z)
    refine gw_aload_n X 47 0 dX2_at_46 rfl rfl rfl ?_
    refine gl_get (q0 := 0) (fs := [.ref q]) X 50 in_X2 gl_cl2 (gl_at rfl) 0 (by decide) q274 rfl rfl dX2_at_47 rfl ?_
    refine gl_instY X 53 (q0 := 1) (t0 := 0) (gl_at rfl) rfl gl_nmI q1095 dX2_at_50 rfl ?_
    refine gw_if_eq X 69 56 dX2_at_53 rfl rfl (fun z => absurd z (by decide)) (fun _ => ?_)
    refine gw_aload_n X 57 0 dX2_at_56 rfl rfl rfl ?_
    refine gl_get (q0 := 0) (fs := [.ref q]) X 60 in_X2 gl_cl2 (gl_at rfl) 0 (by decide) q274 rfl rfl dX2_at_57 rfl ?_
    refine gl_castA X 63 (q0 := 1) (t0 := 0) (gl_at rfl) rfl gl_nmI q1095 dX2_at_60 rfl ?_
    refine gw_iload_n X 64 1 dX2_at_63 rfl rfl rfl ?_
    refine gl_iald' X 65 (q0 := 1) (gl_at rfl) hin dX2_at_64 rfl ?_
    refine gw_i2l X 66 dX2_at_65 rfl ?_
    refine gw_goto X 78 dX2_at_66 rfl ?_
    exact gw_lret X dX2_at_78 (fun _ h => ⟨rfl, gS_close (x := (2, N, f, g)) hk hN h⟩) (Nat.le_of_ble_eq_true rfl) (Nat.le_of_ble_eq_true rfl)
  · replace hin : vp_in x1 N := hin
    refine gw_aload_n X 1 0 dX2_at_0 rfl rfl rfl ?_
    refine gl_get (q0 := 0) (fs := [.ref q]) X 4 in_X2 gl_cl2 (gl_at rfl) 0 (by decide) q274 rfl rfl dX2_at_1 rfl ?_
    refine gl_instNo X 7 (q0 := 1) (t0 := 2) (gl_at rfl) rfl gl_nmJ (by decide) q1093 dX2_at_4 rfl ?_
    refine gw_if_eq X 23 10 dX2_at_7 rfl rfl (fun _ => ?_) (fun z => absurd (by decide) z)
    refine gw_aload_n X 24 0 dX2_at_23 rfl rfl rfl ?_
    refine gl_get (q0 := 0) (fs := [.ref q]) X 27 in_X2 gl_cl2 (gl_at rfl) 0 (by decide) q274 rfl rfl dX2_at_24 rfl ?_
    refine gl_instNo X 30 (q0 := 1) (t0 := 2) (gl_at rfl) rfl gl_nmJ (by decide) q1094 dX2_at_27 rfl ?_
    refine gw_if_eq X 46 33 dX2_at_30 rfl rfl (fun _ => ?_) (fun z => absurd (by decide) z)
    refine gw_aload_n X 47 0 dX2_at_46 rfl rfl rfl ?_
    refine gl_get (q0 := 0) (fs := [.ref q]) X 50 in_X2 gl_cl2 (gl_at rfl) 0 (by decide) q274 rfl rfl dX2_at_47 rfl ?_
    refine gl_instNo X 53 (q0 := 1) (t0 := 2) (gl_at rfl) rfl gl_nmJ (by decide) q1095 dX2_at_50 rfl ?_
    refine gw_if_eq X 69 56 dX2_at_53 rfl rfl (fun _ => ?_) (fun z => absurd (by decide) z)
    refine gw_aload_n X 70 0 dX2_at_69 rfl rfl rfl ?_
    refine gl_get (q0 := 0) (fs := [.ref q]) X 73 in_X2 gl_cl2 (gl_at rfl) 0 (by decide) q274 rfl rfl dX2_at_70 rfl ?_
    refine gl_castA X 76 (q0 := 1) (t0 := 2) (gl_at rfl) rfl gl_nmJ q1096 dX2_at_73 rfl ?_
    refine gw_iload_n X 77 1 dX2_at_76 rfl rfl rfl ?_
    refine gl_lald' X 78 (q0 := 1) (gl_at rfl) hin dX2_at_77 rfl ?_
    exact gw_lret X dX2_at_78 (fun _ h => ⟨rfl, gS_close (x := (3, N, f, g)) hk hN h⟩) (Nat.le_of_ble_eq_true rfl) (Nat.le_of_ble_eq_true rfl)
abbrev rm_X2_put0 : Room := { frames := 0, cells := 0, slots := 0, locals := 0 }
abbrev rm_X2_put : Room := { frames := 8, cells := 3, slots := 222, locals := 10248 }
set_option maxHeartbeats 4000000 in
theorem mt_X2_put {l : Launch} {D : gw_D} {Wr : va_W → Prop} {b : Nat} {x : (Nat × Nat × (Nat → Int32) × (Nat → Int64))} {x1 : Int32} {x2 : Int64} (hin : vp_in x1 x.2.1) : gw_Ct D l yX2_put cX2_put 4 none rm_X2_put0 [.ref b, .int x1, .long x2] (gw_sp (gS1 D b (some x)) Wr) (gw_pV (gw_sp (gS1 D b (some (gv_put x x1.toNatClampNeg x2))) Wr)) := by
  refine gw_ct (own := RX2) [(0, .ref b), (1, .int (x1)), (2, .long (x2))] (by decide) rfl (Nat.le_of_ble_eq_true rfl) rfl ?_
  intro E X
  obtain ⟨kd, N, f, g⟩ := x
  refine gS_open (fun hk hN q => ?_)
  replace hk : kd < 4 := hk
  replace hN : N ≤ 60 := hN
  obtain rfl | rfl | rfl | rfl : kd = 0 ∨ kd = 1 ∨ kd = 2 ∨ kd = 3 := by omega
  · replace hin : vp_in x1 N := hin
    refine gw_aload_n X 1 0 dX2_put_0 rfl rfl rfl ?_
    refine gl_get (q0 := 0) (fs := [.ref q]) X 4 in_X2 gl_cl2 (gl_at rfl) 0 (by decide) q274 rfl rfl dX2_put_1 rfl ?_
    refine gl_instY X 7 (q0 := 1) (t0 := 1) (gl_at rfl) rfl gl_nmB q1093 dX2_put_4 rfl ?_
    refine gw_if_eq X 25 10 dX2_put_7 rfl rfl (fun z => absurd z (by decide)) (fun _ => ?_)
    refine gw_aload_n X 11 0 dX2_put_10 rfl rfl rfl ?_
    refine gl_get (q0 := 0) (fs := [.ref q]) X 14 in_X2 gl_cl2 (gl_at rfl) 0 (by decide) q274 rfl rfl dX2_put_11 rfl ?_
    refine gl_castA X 17 (q0 := 1) (t0 := 1) (gl_at rfl) rfl gl_nmB q1093 dX2_put_14 rfl ?_
    refine gw_iload_n X 18 1 dX2_put_17 rfl rfl rfl ?_
    refine gw_lload_n X 19 2 dX2_put_18 rfl rfl rfl ?_
    refine gw_l2i X 20 dX2_put_19 rfl ?_
    refine gw_i2b X 21 dX2_put_20 rfl ?_
    refine gl_bast' X 22 (q0 := 1) (gl_at rfl) hin (gl_set rfl rfl) dX2_put_21 rfl ?_
    refine gw_goto X 84 dX2_put_22 rfl ?_
    exact gw_vret X dX2_put_84 (fun _ h => ⟨rfl, gS_close (x := gv_put (0, N, f, g) x1.toNatClampNeg x2) hk hN h⟩) (Nat.le_of_ble_eq_true rfl) (Nat.le_of_ble_eq_true rfl)
  · replace hin : vp_in x1 N := hin
    refine gw_aload_n X 1 0 dX2_put_0 rfl rfl rfl ?_
    refine gl_get (q0 := 0) (fs := [.ref q]) X 4 in_X2 gl_cl2 (gl_at rfl) 0 (by decide) q274 rfl rfl dX2_put_1 rfl ?_
    refine gl_instNo X 7 (q0 := 1) (t0 := 4) (gl_at rfl) rfl gl_nmS (by decide) q1093 dX2_put_4 rfl ?_
    refine gw_if_eq X 25 10 dX2_put_7 rfl rfl (fun _ => ?_) (fun z => absurd (by decide) z)
    refine gw_aload_n X 26 0 dX2_put_25 rfl rfl rfl ?_
    refine gl_get (q0 := 0) (fs := [.ref q]) X 29 in_X2 gl_cl2 (gl_at rfl) 0 (by decide) q274 rfl rfl dX2_put_26 rfl ?_
    refine gl_instY X 32 (q0 := 1) (t0 := 4) (gl_at rfl) rfl gl_nmS q1094 dX2_put_29 rfl ?_
    refine gw_if_eq X 50 35 dX2_put_32 rfl rfl (fun z => absurd z (by decide)) (fun _ => ?_)
    refine gw_aload_n X 36 0 dX2_put_35 rfl rfl rfl ?_
    refine gl_get (q0 := 0) (fs := [.ref q]) X 39 in_X2 gl_cl2 (gl_at rfl) 0 (by decide) q274 rfl rfl dX2_put_36 rfl ?_
    refine gl_castA X 42 (q0 := 1) (t0 := 4) (gl_at rfl) rfl gl_nmS q1094 dX2_put_39 rfl ?_
    refine gw_iload_n X 43 1 dX2_put_42 rfl rfl rfl ?_
    refine gw_lload_n X 44 2 dX2_put_43 rfl rfl rfl ?_
    refine gw_l2i X 45 dX2_put_44 rfl ?_
    refine gw_i2s X 46 dX2_put_45 rfl ?_
    refine gl_sast' X 47 (q0 := 1) (gl_at rfl) hin (gl_set rfl rfl) dX2_put_46 rfl ?_
    refine gw_goto X 84 dX2_put_47 rfl ?_
    exact gw_vret X dX2_put_84 (fun _ h => ⟨rfl, gS_close (x := gv_put (1, N, f, g) x1.toNatClampNeg x2) hk hN h⟩) (Nat.le_of_ble_eq_true rfl) (Nat.le_of_ble_eq_true rfl)
  · replace hin : vp_in x1 N := hin
    refine gw_aload_n X 1 0 dX2_put_0 rfl rfl rfl ?_
    refine gl_get (q0 := 0) (fs := [.ref q]) X 4 in_X2 gl_cl2 (gl_at rfl) 0 (by decide) q274 rfl rfl dX2_put_1 rfl ?_
    refine gl_instNo X 7 (q0 := 1) (t0 := 0) (gl_at rfl) rfl gl_nmI (by decide) q1093 dX2_put_4 rfl ?_
    refine gw_if_eq X 25 10 dX2_put_7 rfl rfl (fun _ => ?_) (fun z => absurd (by decide) z)
    refine gw_aload_n X 26 0 dX2_put_25 rfl rfl rfl ?_
    refine gl_get (q0 := 0) (fs := [.ref q]) X 29 in_X2 gl_cl2 (gl_at rfl) 0 (by decide) q274 rfl rfl dX2_put_26 rfl ?_
    refine gl_instNo X 32 (q0 := 1) (t0 := 0) (gl_at rfl) rfl gl_nmI (by decide) q1094 dX2_put_29 rfl ?_
    refine gw_if_eq X 50 35 dX2_put_32 rfl rfl (fun _ => ?_) (fun z => absurd (by decide) z)
    refine gw_aload_n X 51 0 dX2_put_50 rfl rfl rfl ?_
    refine gl_get (q0 := 0) (fs := [.ref q]) X 54 in_X2 gl_cl2 (gl_at rfl) 0 (by decide) q274 rfl rfl dX2_put_51 rfl ?_
    refine gl_instY X 57 (q0 := 1) (t0 := 0) (gl_at rfl) rfl gl_nmI q1095 dX2_put_54 rfl ?_
    refine gw_if_eq X 74 60 dX2_put_57 rfl rfl (fun z => absurd z (by decide)) (fun _ => ?_)
    refine gw_aload_n X 61 0 dX2_put_60 rfl rfl rfl ?_
    refine gl_get (q0 := 0) (fs := [.ref q]) X 64 in_X2 gl_cl2 (gl_at rfl) 0 (by decide) q274 rfl rfl dX2_put_61 rfl ?_
    refine gl_castA X 67 (q0 := 1) (t0 := 0) (gl_at rfl) rfl gl_nmI q1095 dX2_put_64 rfl ?_
    refine gw_iload_n X 68 1 dX2_put_67 rfl rfl rfl ?_
    refine gw_lload_n X 69 2 dX2_put_68 rfl rfl rfl ?_
    refine gw_l2i X 70 dX2_put_69 rfl ?_
    refine gl_iast' X 71 (q0 := 1) (gl_at rfl) hin (gl_set rfl rfl) dX2_put_70 rfl ?_
    refine gw_goto X 84 dX2_put_71 rfl ?_
    exact gw_vret X dX2_put_84 (fun _ h => ⟨rfl, gS_close (x := gv_put (2, N, f, g) x1.toNatClampNeg x2) hk hN h⟩) (Nat.le_of_ble_eq_true rfl) (Nat.le_of_ble_eq_true rfl)
  · replace hin : vp_in x1 N := hin
    refine gw_aload_n X 1 0 dX2_put_0 rfl rfl rfl ?_
    refine gl_get (q0 := 0) (fs := [.ref q]) X 4 in_X2 gl_cl2 (gl_at rfl) 0 (by decide) q274 rfl rfl dX2_put_1 rfl ?_
    refine gl_instNo X 7 (q0 := 1) (t0 := 2) (gl_at rfl) rfl gl_nmJ (by decide) q1093 dX2_put_4 rfl ?_
    refine gw_if_eq X 25 10 dX2_put_7 rfl rfl (fun _ => ?_) (fun z => absurd (by decide) z)
    refine gw_aload_n X 26 0 dX2_put_25 rfl rfl rfl ?_
    refine gl_get (q0 := 0) (fs := [.ref q]) X 29 in_X2 gl_cl2 (gl_at rfl) 0 (by decide) q274 rfl rfl dX2_put_26 rfl ?_
    refine gl_instNo X 32 (q0 := 1) (t0 := 2) (gl_at rfl) rfl gl_nmJ (by decide) q1094 dX2_put_29 rfl ?_
    refine gw_if_eq X 50 35 dX2_put_32 rfl rfl (fun _ => ?_) (fun z => absurd (by decide) z)
    refine gw_aload_n X 51 0 dX2_put_50 rfl rfl rfl ?_
    refine gl_get (q0 := 0) (fs := [.ref q]) X 54 in_X2 gl_cl2 (gl_at rfl) 0 (by decide) q274 rfl rfl dX2_put_51 rfl ?_
    refine gl_instNo X 57 (q0 := 1) (t0 := 2) (gl_at rfl) rfl gl_nmJ (by decide) q1095 dX2_put_54 rfl ?_
    refine gw_if_eq X 74 60 dX2_put_57 rfl rfl (fun _ => ?_) (fun z => absurd (by decide) z)
    refine gw_aload_n X 75 0 dX2_put_74 rfl rfl rfl ?_
    refine gl_get (q0 := 0) (fs := [.ref q]) X 78 in_X2 gl_cl2 (gl_at rfl) 0 (by decide) q274 rfl rfl dX2_put_75 rfl ?_
    refine gl_castA X 81 (q0 := 1) (t0 := 2) (gl_at rfl) rfl gl_nmJ q1096 dX2_put_78 rfl ?_
    refine gw_iload_n X 82 1 dX2_put_81 rfl rfl rfl ?_
    refine gw_lload_n X 83 2 dX2_put_82 rfl rfl rfl ?_
    refine gl_last' X 84 (q0 := 1) (gl_at rfl) hin (gl_set rfl rfl) dX2_put_83 rfl ?_
    exact gw_vret X dX2_put_84 (fun _ h => ⟨rfl, gS_close (x := gv_put (3, N, f, g) x1.toNatClampNeg x2) hk hN h⟩) (Nat.le_of_ble_eq_true rfl) (Nat.le_of_ble_eq_true rfl)
set_option maxHeartbeats 4000000 in
theorem mx_X2_put {l : Launch} {D : gw_D} {Wr : va_W → Prop} {b : Nat} {x : (Nat × Nat × (Nat → Int32) × (Nat → Int64))} {x1 : Int32} {x2 : Int64} (hin : ¬ vp_in x1 x.2.1) : gx_Ct D l yX2_put cX2_put 4 none rm_X2_put [.ref b, .int x1, .long x2] (gw_sp (gS1 D b (some x)) Wr) (fun _ _ => False) (gx_p gx_I (fun _ => gw_sp (gS1 D b (some x)) Wr)) := by
  refine gx_ct (own := RX2) [(0, .ref b), (1, .int (x1)), (2, .long (x2))] (by decide) rfl (Nat.le_of_ble_eq_true rfl) rfl ?_
  intro E X Y
  obtain ⟨kd, N, f, g⟩ := x
  refine gS_open (fun hk hN q => ?_)
  replace hk : kd < 4 := hk
  replace hN : N ≤ 60 := hN
  obtain rfl | rfl | rfl | rfl : kd = 0 ∨ kd = 1 ∨ kd = 2 ∨ kd = 3 := by omega
  · replace hin : ¬ vp_in x1 N := hin
    refine gw_aload_n X 1 0 dX2_put_0 rfl rfl rfl ?_
    refine gl_get (q0 := 0) (fs := [.ref q]) X 4 in_X2 gl_cl2 (gl_at rfl) 0 (by decide) q274 rfl rfl dX2_put_1 rfl ?_
    refine gl_instY X 7 (q0 := 1) (t0 := 1) (gl_at rfl) rfl gl_nmB q1093 dX2_put_4 rfl ?_
    refine gw_if_eq X 25 10 dX2_put_7 rfl rfl (fun z => absurd z (by decide)) (fun _ => ?_)
    refine gw_aload_n X 11 0 dX2_put_10 rfl rfl rfl ?_
    refine gl_get (q0 := 0) (fs := [.ref q]) X 14 in_X2 gl_cl2 (gl_at rfl) 0 (by decide) q274 rfl rfl dX2_put_11 rfl ?_
    refine gl_castA X 17 (q0 := 1) (t0 := 1) (gl_at rfl) rfl gl_nmB q1093 dX2_put_14 rfl ?_
    refine gw_iload_n X 18 1 dX2_put_17 rfl rfl rfl ?_
    refine gw_lload_n X 19 2 dX2_put_18 rfl rfl rfl ?_
    refine gw_l2i X 20 dX2_put_19 rfl ?_
    refine gw_i2b X 21 dX2_put_20 rfl ?_
    refine gx_bastZ X (q0 := 1) (gl_at rfl) hin dX2_put_21 (fun ws hw => gx_msg X gx_lI gx_oI rfl (by decide) rfl rfl (index_text_modelled _ _) (index_text_bytes _ (n := N) (by omega)) (by decide) rfl (by decide) rfl hw (fun q => ?_))
    exact gx_out X Y (fun _ h => ⟨rfl, gS_close (x := (0, N, f, g)) hk hN h⟩) (Nat.le_of_ble_eq_true rfl) (Nat.le_of_ble_eq_true rfl)
  · replace hin : ¬ vp_in x1 N := hin
    refine gw_aload_n X 1 0 dX2_put_0 rfl rfl rfl ?_
    refine gl_get (q0 := 0) (fs := [.ref q]) X 4 in_X2 gl_cl2 (gl_at rfl) 0 (by decide) q274 rfl rfl dX2_put_1 rfl ?_
    refine gl_instNo X 7 (q0 := 1) (t0 := 4) (gl_at rfl) rfl gl_nmS (by decide) q1093 dX2_put_4 rfl ?_
    refine gw_if_eq X 25 10 dX2_put_7 rfl rfl (fun _ => ?_) (fun z => absurd (by decide) z)
    refine gw_aload_n X 26 0 dX2_put_25 rfl rfl rfl ?_
    refine gl_get (q0 := 0) (fs := [.ref q]) X 29 in_X2 gl_cl2 (gl_at rfl) 0 (by decide) q274 rfl rfl dX2_put_26 rfl ?_
    refine gl_instY X 32 (q0 := 1) (t0 := 4) (gl_at rfl) rfl gl_nmS q1094 dX2_put_29 rfl ?_
    refine gw_if_eq X 50 35 dX2_put_32 rfl rfl (fun z => absurd z (by decide)) (fun _ => ?_)
    refine gw_aload_n X 36 0 dX2_put_35 rfl rfl rfl ?_
    refine gl_get (q0 := 0) (fs := [.ref q]) X 39 in_X2 gl_cl2 (gl_at rfl) 0 (by decide) q274 rfl rfl dX2_put_36 rfl ?_
    refine gl_castA X 42 (q0 := 1) (t0 := 4) (gl_at rfl) rfl gl_nmS q1094 dX2_put_39 rfl ?_
    refine gw_iload_n X 43 1 dX2_put_42 rfl rfl rfl ?_
    refine gw_lload_n X 44 2 dX2_put_43 rfl rfl rfl ?_
    refine gw_l2i X 45 dX2_put_44 rfl ?_
    refine gw_i2s X 46 dX2_put_45 rfl ?_
    refine gx_sastZ X (q0 := 1) (gl_at rfl) hin dX2_put_46 (fun ws hw => gx_msg X gx_lI gx_oI rfl (by decide) rfl rfl (index_text_modelled _ _) (index_text_bytes _ (n := N) (by omega)) (by decide) rfl (by decide) rfl hw (fun q => ?_))
    exact gx_out X Y (fun _ h => ⟨rfl, gS_close (x := (1, N, f, g)) hk hN h⟩) (Nat.le_of_ble_eq_true rfl) (Nat.le_of_ble_eq_true rfl)
  · replace hin : ¬ vp_in x1 N := hin
    refine gw_aload_n X 1 0 dX2_put_0 rfl rfl rfl ?_
    refine gl_get (q0 := 0) (fs := [.ref q]) X 4 in_X2 gl_cl2 (gl_at rfl) 0 (by decide) q274 rfl rfl dX2_put_1 rfl ?_
    refine gl_instNo X 7 (q0 := 1) (t0 := 0) (gl_at rfl) rfl gl_nmI (by decide) q1093 dX2_put_4 rfl ?_
    refine gw_if_eq X 25 10 dX2_put_7 rfl rfl (fun _ => ?_) (fun z => absurd (by decide) z)
    refine gw_aload_n X 26 0 dX2_put_25 rfl rfl rfl ?_
    refine gl_get (q0 := 0) (fs := [.ref q]) X 29 in_X2 gl_cl2 (gl_at rfl) 0 (by decide) q274 rfl rfl dX2_put_26 rfl ?_
    refine gl_instNo X 32 (q0 := 1) (t0 := 0) (gl_at rfl) rfl gl_nmI (by decide) q1094 dX2_put_29 rfl ?_
    refine gw_if_eq X 50 35 dX2_put_32 rfl rfl (fun _ => ?_) (fun z => absurd (by decide) z)
    refine gw_aload_n X 51 0 dX2_put_50 rfl rfl rfl ?_
    refine gl_get (q0 := 0) (fs := [.ref q]) X 54 in_X2 gl_cl2 (gl_at rfl) 0 (by decide) q274 rfl rfl dX2_put_51 rfl ?_
    refine gl_instY X 57 (q0 := 1) (t0 := 0) (gl_at rfl) rfl gl_nmI q1095 dX2_put_54 rfl ?_
    refine gw_if_eq X 74 60 dX2_put_57 rfl rfl (fun z => absurd z (by decide)) (fun _ => ?_)
    refine gw_aload_n X 61 0 dX2_put_60 rfl rfl rfl ?_
    refine gl_get (q0 := 0) (fs := [.ref q]) X 64 in_X2 gl_cl2 (gl_at rfl) 0 (by decide) q274 rfl rfl dX2_put_61 rfl ?_
    refine gl_castA X 67 (q0 := 1) (t0 := 0) (gl_at rfl) rfl gl_nmI q1095 dX2_put_64 rfl ?_
    refine gw_iload_n X 68 1 dX2_put_67 rfl rfl rfl ?_
    refine gw_lload_n X 69 2 dX2_put_68 rfl rfl rfl ?_
    refine gw_l2i X 70 dX2_put_69 rfl ?_
    refine gx_iastZ X (q0 := 1) (gl_at rfl) hin dX2_put_70 (fun ws hw => gx_msg X gx_lI gx_oI rfl (by decide) rfl rfl (index_text_modelled _ _) (index_text_bytes _ (n := N) (by omega)) (by decide) rfl (by decide) rfl hw (fun q => ?_))
    exact gx_out X Y (fun _ h => ⟨rfl, gS_close (x := (2, N, f, g)) hk hN h⟩) (Nat.le_of_ble_eq_true rfl) (Nat.le_of_ble_eq_true rfl)
  · replace hin : ¬ vp_in x1 N := hin
    refine gw_aload_n X 1 0 dX2_put_0 rfl rfl rfl ?_
    refine gl_get (q0 := 0) (fs := [.ref q]) X 4 in_X2 gl_cl2 (gl_at rfl) 0 (by decide) q274 rfl rfl dX2_put_1 rfl ?_
    refine gl_instNo X 7 (q0 := 1) (t0 := 2) (gl_at rfl) rfl gl_nmJ (by decide) q1093 dX2_put_4 rfl ?_
    refine gw_if_eq X 25 10 dX2_put_7 rfl rfl (fun _ => ?_) (fun z => absurd (by decide) z)
    refine gw_aload_n X 26 0 dX2_put_25 rfl rfl rfl ?_
    refine gl_get (q0 := 0) (fs := [.ref q]) X 29 in_X2 gl_cl2 (gl_at rfl) 0 (by decide) q274 rfl rfl dX2_put_26 rfl ?_
    refine gl_instNo X 32 (q0 := 1) (t0 := 2) (gl_at rfl) rfl gl_nmJ (by decide) q1094 dX2_put_29 rfl ?_
    refine gw_if_eq X 50 35 dX2_put_32 rfl rfl (fun _ => ?_) (fun z => absurd (by decide) z)
    refine gw_aload_n X 51 0 dX2_put_50 rfl rfl rfl ?_
    refine gl_get (q0 := 0) (fs := [.ref q]) X 54 in_X2 gl_cl2 (gl_at rfl) 0 (by decide) q274 rfl rfl dX2_put_51 rfl ?_
    refine gl_instNo X 57 (q0 := 1) (t0 := 2) (gl_at rfl) rfl gl_nmJ (by decide) q1095 dX2_put_54 rfl ?_
    refine gw_if_eq X 74 60 dX2_put_57 rfl rfl (fun _ => ?_) (fun z => absurd (by decide) z)
    refine gw_aload_n X 75 0 dX2_put_74 rfl rfl rfl ?_
    refine gl_get (q0 := 0) (fs := [.ref q]) X 78 in_X2 gl_cl2 (gl_at rfl) 0 (by decide) q274 rfl rfl dX2_put_75 rfl ?_
    refine gl_castA X 81 (q0 := 1) (t0 := 2) (gl_at rfl) rfl gl_nmJ q1096 dX2_put_78 rfl ?_
    refine gw_iload_n X 82 1 dX2_put_81 rfl rfl rfl ?_
    refine gw_lload_n X 83 2 dX2_put_82 rfl rfl rfl ?_
    refine gx_lastZ X (q0 := 1) (gl_at rfl) hin dX2_put_83 (fun ws hw => gx_msg X gx_lI gx_oI rfl (by decide) rfl rfl (index_text_modelled _ _) (index_text_bytes _ (n := N) (by omega)) (by decide) rfl (by decide) rfl hw (fun q => ?_))
    exact gx_out X Y (fun _ h => ⟨rfl, gS_close (x := (3, N, f, g)) hk hN h⟩) (Nat.le_of_ble_eq_true rfl) (Nat.le_of_ble_eq_true rfl)
set_option maxHeartbeats 4000000 in
theorem mx_X2_put0 {l : Launch} {D : gw_D} {Wr : va_W → Prop} {b : Nat} {x1 : Int32} {x2 : Int64} : gx_Ct D l yX2_put cX2_put 4 none rm_X2_put [.ref b, .int x1, .long x2] (gw_sp (gS1 D b none) Wr) (fun _ _ => False) (gx_p gx_NP (fun _ => gw_sp (gS1 D b none) Wr)) := by
  refine gx_ct (own := RX2) [(0, .ref b), (1, .int (x1)), (2, .long (x2))] (by decide) rfl (Nat.le_of_ble_eq_true rfl) rfl ?_
  intro E X Y
  refine gS_openN ?_
  refine gw_aload_n X 1 0 dX2_put_0 rfl rfl rfl ?_
  refine gl_get (q0 := 0) (fs := [.null]) X 4 in_X2 gl_cl2 (gl_at rfl) 0 (by decide) q274 rfl rfl dX2_put_1 rfl ?_
  refine gl_instN0 X 7 dX2_put_4 rfl ?_
  refine gw_if_eq X 25 10 dX2_put_7 rfl rfl (fun _ => ?_) (fun z => absurd (by decide) z)
  refine gw_aload_n X 26 0 dX2_put_25 rfl rfl rfl ?_
  refine gl_get (q0 := 0) (fs := [.null]) X 29 in_X2 gl_cl2 (gl_at rfl) 0 (by decide) q274 rfl rfl dX2_put_26 rfl ?_
  refine gl_instN0 X 32 dX2_put_29 rfl ?_
  refine gw_if_eq X 50 35 dX2_put_32 rfl rfl (fun _ => ?_) (fun z => absurd (by decide) z)
  refine gw_aload_n X 51 0 dX2_put_50 rfl rfl rfl ?_
  refine gl_get (q0 := 0) (fs := [.null]) X 54 in_X2 gl_cl2 (gl_at rfl) 0 (by decide) q274 rfl rfl dX2_put_51 rfl ?_
  refine gl_instN0 X 57 dX2_put_54 rfl ?_
  refine gw_if_eq X 74 60 dX2_put_57 rfl rfl (fun _ => ?_) (fun z => absurd (by decide) z)
  refine gw_aload_n X 75 0 dX2_put_74 rfl rfl rfl ?_
  refine gl_get (q0 := 0) (fs := [.null]) X 78 in_X2 gl_cl2 (gl_at rfl) 0 (by decide) q274 rfl rfl dX2_put_75 rfl ?_
  refine gl_castN0 X 81 dX2_put_78 rfl ?_
  refine gw_iload_n X 82 1 dX2_put_81 rfl rfl rfl ?_
  refine gw_lload_n X 83 2 dX2_put_82 rfl rfl rfl ?_
  refine gx_lastN X dX2_put_83 (fun ws hw => gx_npe X rfl rfl hw (fun q => ?_))
  exact gx_out X Y (fun _ h => ⟨rfl, gS_closeN h⟩) (Nat.le_of_ble_eq_true rfl) (Nat.le_of_ble_eq_true rfl)
abbrev rm_X2_make : Room := { frames := 7, cells := 3, slots := 60, locals := 10248 }
set_option maxHeartbeats 4000000 in
theorem mt_X2_make {l : Launch} {D : gw_D} {Wr : va_W → Prop} {b : Nat} {r : gw_R1} {x1 x2 : Int32} {kd : Nat} (hw : (x1 = 0 ∧ kd = 0) ∨ (x1 = 1 ∧ kd = 1) ∨ (x1 = 2 ∧ kd = 2) ∨ (¬ x1 = 0 ∧ ¬ x1 = 1 ∧ ¬ x1 = 2 ∧ kd = 3)) (hz : ¬ x2 < 0) (hN : x2.toNatClampNeg ≤ 60) : gw_Ct D l yX2_make cX2_make 3 none { rm_X2_make with cells := 1 } [.ref b, .int x1, .int x2] (gw_sp (gS1 D b r) Wr) (gw_pV (gw_sp (gS1 D b (some (gv_new kd x2))) Wr)) := by
  refine gw_ct (own := RX2) [(0, .ref b), (1, .int (x1)), (2, .int (x2))] (by decide) rfl (Nat.le_of_ble_eq_true rfl) rfl ?_
  intro E X
  refine gS_old (fun v w => ?_)
  rcases hw with ⟨rfl, rfl⟩ | ⟨rfl, rfl⟩ | ⟨rfl, rfl⟩ | ⟨h0, h1, h2, rfl⟩
  · refine gw_aload_n X 1 0 dX2_make_0 rfl rfl rfl ?_
    refine gw_iload_n X 2 1 dX2_make_1 rfl rfl rfl ?_
    refine gw_if_ne X 11 5 dX2_make_2 rfl rfl (fun z => absurd rfl z) (fun _ => ?_)
    refine gw_iload_n X 6 2 dX2_make_5 rfl rfl rfl ?_
    refine gl_newa (atype := .byte) (a0 := (x2.toNatClampNeg, .inl (fun _ => 0))) X 8 .byte 1 q266 rfl rfl (fun _ _ h => h) (fun _ => rfl) hz rfl (Nat.le_trans (Nat.mul_le_mul_right _ hN) (by decide)) (Nat.le_of_ble_eq_true rfl) (by show 0 + x2.toNatClampNeg ≤ 60; omega) dX2_make_6 rfl rfl rfl (fun q => ?_)
    refine gl_merge (w := [(q, gS_c D 0 x2.toNatClampNeg (fun _ => 0) (fun _ => 0)), (b, .inr (2, [v]))]) rfl ?_
    refine gw_goto X 36 dX2_make_8 rfl ?_
    refine gl_put (q0 := 1) (fs := [v]) (Ws' := gw_st [(q, gS_c D 0 x2.toNatClampNeg (fun _ => 0) (fun _ => 0)), (b, .inr (2, [.ref q]))] (gw_sp w Wr)) (ty := tyX2 0) X 39 tyX2 tyX2_ok nmX2 in_X2 gl_cl2 (gl_at rfl) 0 (by decide) q274 rfl rfl (tyX2_ok 0 (by decide)) rfl rfl (Nat.le_of_ble_eq_true rfl) (gl_set rfl rfl) dX2_make_36 rfl ?_
    refine gl_ord [1, 0] rfl (w' := [(b, .inr (2, [.ref q])), (q, gS_c D 0 x2.toNatClampNeg (fun _ => 0) (fun _ => 0))]) rfl ?_
    refine gl_drop (Ws' := gw_sp (gS1 D b (some (gv_new 0 x2))) Wr) (by rintro ws ⟨_, ⟨w1, w2, -, h2, rfl⟩, rfl⟩; exact ⟨_, ⟨_, w2, ⟨q, rfl, (show 0 < 4 by decide), hN⟩, h2, rfl⟩, List.Sublist.append (List.Sublist.refl _) (List.sublist_append_right _ _)⟩) ?_
    exact gw_vret X dX2_make_39 (fun _ h => ⟨rfl, h⟩) (Nat.le_of_ble_eq_true rfl) (by show 0 + x2.toNatClampNeg ≤ 60; omega)
  · refine gw_aload_n X 1 0 dX2_make_0 rfl rfl rfl ?_
    refine gw_iload_n X 2 1 dX2_make_1 rfl rfl rfl ?_
    refine gw_if_ne X 11 5 dX2_make_2 rfl rfl (fun _ => ?_) (fun z => absurd z (by decide))
    refine gw_iload_n X 12 1 dX2_make_11 rfl rfl rfl ?_
    refine gw_iconst X 13 dX2_make_12 rfl gw_ci_1 ?_
    refine gw_icmp_ne X 22 16 dX2_make_13 rfl rfl (fun z => absurd rfl z) (fun _ => ?_)
    refine gw_iload_n X 17 2 dX2_make_16 rfl rfl rfl ?_
    refine gl_newa (atype := .short) (a0 := (x2.toNatClampNeg, .inl (fun _ => 0))) X 19 .short 4 q1340 rfl rfl (fun _ _ h => h) (fun _ => rfl) hz rfl (Nat.le_trans (Nat.mul_le_mul_right _ hN) (by decide)) (Nat.le_of_ble_eq_true rfl) (by show 0 + x2.toNatClampNeg ≤ 60; omega) dX2_make_17 rfl rfl rfl (fun q => ?_)
    refine gl_merge (w := [(q, gS_c D 1 x2.toNatClampNeg (fun _ => 0) (fun _ => 0)), (b, .inr (2, [v]))]) rfl ?_
    refine gw_goto X 36 dX2_make_19 rfl ?_
    refine gl_put (q0 := 1) (fs := [v]) (Ws' := gw_st [(q, gS_c D 1 x2.toNatClampNeg (fun _ => 0) (fun _ => 0)), (b, .inr (2, [.ref q]))] (gw_sp w Wr)) (ty := tyX2 0) X 39 tyX2 tyX2_ok nmX2 in_X2 gl_cl2 (gl_at rfl) 0 (by decide) q274 rfl rfl (tyX2_ok 0 (by decide)) rfl rfl (Nat.le_of_ble_eq_true rfl) (gl_set rfl rfl) dX2_make_36 rfl ?_
    refine gl_ord [1, 0] rfl (w' := [(b, .inr (2, [.ref q])), (q, gS_c D 1 x2.toNatClampNeg (fun _ => 0) (fun _ => 0))]) rfl ?_
    refine gl_drop (Ws' := gw_sp (gS1 D b (some (gv_new 1 x2))) Wr) (by rintro ws ⟨_, ⟨w1, w2, -, h2, rfl⟩, rfl⟩; exact ⟨_, ⟨_, w2, ⟨q, rfl, (show 1 < 4 by decide), hN⟩, h2, rfl⟩, List.Sublist.append (List.Sublist.refl _) (List.sublist_append_right _ _)⟩) ?_
    exact gw_vret X dX2_make_39 (fun _ h => ⟨rfl, h⟩) (Nat.le_of_ble_eq_true rfl) (by show 0 + x2.toNatClampNeg ≤ 60; omega)
  · refine gw_aload_n X 1 0 dX2_make_0 rfl rfl rfl ?_
    refine gw_iload_n X 2 1 dX2_make_1 rfl rfl rfl ?_
    refine gw_if_ne X 11 5 dX2_make_2 rfl rfl (fun _ => ?_) (fun z => absurd z (by decide))
    refine gw_iload_n X 12 1 dX2_make_11 rfl rfl rfl ?_
    refine gw_iconst X 13 dX2_make_12 rfl gw_ci_1 ?_
    refine gw_icmp_ne X 22 16 dX2_make_13 rfl rfl (fun _ => ?_) (fun z => absurd z (by decide))
    refine gw_iload_n X 23 1 dX2_make_22 rfl rfl rfl ?_
    refine gw_iconst X 24 dX2_make_23 rfl gw_ci_2 ?_
    refine gw_icmp_ne X 33 27 dX2_make_24 rfl rfl (fun z => absurd rfl z) (fun _ => ?_)
    refine gw_iload_n X 28 2 dX2_make_27 rfl rfl rfl ?_
    refine gl_newa (atype := .int) (a0 := (x2.toNatClampNeg, .inl (fun _ => 0))) X 30 .int 0 q239 rfl rfl (fun _ _ h => h) (fun _ => rfl) hz rfl (Nat.le_trans (Nat.mul_le_mul_right _ hN) (by decide)) (Nat.le_of_ble_eq_true rfl) (by show 0 + x2.toNatClampNeg ≤ 60; omega) dX2_make_28 rfl rfl rfl (fun q => ?_)
    refine gl_merge (w := [(q, gS_c D 2 x2.toNatClampNeg (fun _ => 0) (fun _ => 0)), (b, .inr (2, [v]))]) rfl ?_
    refine gw_goto X 36 dX2_make_30 rfl ?_
    refine gl_put (q0 := 1) (fs := [v]) (Ws' := gw_st [(q, gS_c D 2 x2.toNatClampNeg (fun _ => 0) (fun _ => 0)), (b, .inr (2, [.ref q]))] (gw_sp w Wr)) (ty := tyX2 0) X 39 tyX2 tyX2_ok nmX2 in_X2 gl_cl2 (gl_at rfl) 0 (by decide) q274 rfl rfl (tyX2_ok 0 (by decide)) rfl rfl (Nat.le_of_ble_eq_true rfl) (gl_set rfl rfl) dX2_make_36 rfl ?_
    refine gl_ord [1, 0] rfl (w' := [(b, .inr (2, [.ref q])), (q, gS_c D 2 x2.toNatClampNeg (fun _ => 0) (fun _ => 0))]) rfl ?_
    refine gl_drop (Ws' := gw_sp (gS1 D b (some (gv_new 2 x2))) Wr) (by rintro ws ⟨_, ⟨w1, w2, -, h2, rfl⟩, rfl⟩; exact ⟨_, ⟨_, w2, ⟨q, rfl, (show 2 < 4 by decide), hN⟩, h2, rfl⟩, List.Sublist.append (List.Sublist.refl _) (List.sublist_append_right _ _)⟩) ?_
    exact gw_vret X dX2_make_39 (fun _ h => ⟨rfl, h⟩) (Nat.le_of_ble_eq_true rfl) (by show 0 + x2.toNatClampNeg ≤ 60; omega)
  · refine gw_aload_n X 1 0 dX2_make_0 rfl rfl rfl ?_
    refine gw_iload_n X 2 1 dX2_make_1 rfl rfl rfl ?_
    refine gw_if_ne X 11 5 dX2_make_2 rfl rfl (fun _ => ?_) (fun z => absurd z h0)
    refine gw_iload_n X 12 1 dX2_make_11 rfl rfl rfl ?_
    refine gw_iconst X 13 dX2_make_12 rfl gw_ci_1 ?_
    refine gw_icmp_ne X 22 16 dX2_make_13 rfl rfl (fun _ => ?_) (fun z => absurd z h1)
    refine gw_iload_n X 23 1 dX2_make_22 rfl rfl rfl ?_
    refine gw_iconst X 24 dX2_make_23 rfl gw_ci_2 ?_
    refine gw_icmp_ne X 33 27 dX2_make_24 rfl rfl (fun _ => ?_) (fun z => absurd z h2)
    refine gw_iload_n X 34 2 dX2_make_33 rfl rfl rfl ?_
    refine gl_newa (atype := .long) (a0 := (x2.toNatClampNeg, .inr (.inl (fun _ => 0)))) X 36 .long 2 q1341 rfl rfl (fun _ _ h => h) (fun _ => rfl) hz rfl (Nat.le_trans (Nat.mul_le_mul_right _ hN) (by decide)) (Nat.le_of_ble_eq_true rfl) (by show 0 + x2.toNatClampNeg ≤ 60; omega) dX2_make_34 rfl rfl rfl (fun q => ?_)
    refine gl_merge (w := [(q, gS_c D 3 x2.toNatClampNeg (fun _ => 0) (fun _ => 0)), (b, .inr (2, [v]))]) rfl ?_
    refine gl_put (q0 := 1) (fs := [v]) (Ws' := gw_st [(q, gS_c D 3 x2.toNatClampNeg (fun _ => 0) (fun _ => 0)), (b, .inr (2, [.ref q]))] (gw_sp w Wr)) (ty := tyX2 0) X 39 tyX2 tyX2_ok nmX2 in_X2 gl_cl2 (gl_at rfl) 0 (by decide) q274 rfl rfl (tyX2_ok 0 (by decide)) rfl rfl (Nat.le_of_ble_eq_true rfl) (gl_set rfl rfl) dX2_make_36 rfl ?_
    refine gl_ord [1, 0] rfl (w' := [(b, .inr (2, [.ref q])), (q, gS_c D 3 x2.toNatClampNeg (fun _ => 0) (fun _ => 0))]) rfl ?_
    refine gl_drop (Ws' := gw_sp (gS1 D b (some (gv_new 3 x2))) Wr) (by rintro ws ⟨_, ⟨w1, w2, -, h2, rfl⟩, rfl⟩; exact ⟨_, ⟨_, w2, ⟨q, rfl, (show 3 < 4 by decide), hN⟩, h2, rfl⟩, List.Sublist.append (List.Sublist.refl _) (List.sublist_append_right _ _)⟩) ?_
    exact gw_vret X dX2_make_39 (fun _ h => ⟨rfl, h⟩) (Nat.le_of_ble_eq_true rfl) (by show 0 + x2.toNatClampNeg ≤ 60; omega)
set_option maxHeartbeats 4000000 in
theorem mx_X2_make {l : Launch} {D : gw_D} {Wr : va_W → Prop} {b : Nat} {x1 x2 : Int32} {kd : Nat} (hw : (x1 = 0 ∧ kd = 0) ∨ (x1 = 1 ∧ kd = 1) ∨ (x1 = 2 ∧ kd = 2) ∨ (¬ x1 = 0 ∧ ¬ x1 = 1 ∧ ¬ x1 = 2 ∧ kd = 3)) {Ws : va_W → Prop} (hz : x2 < 0) : gx_Ct D l yX2_make cX2_make 3 none rm_X2_make [.ref b, .int x1, .int x2] Ws (fun _ _ => False) (gx_p gx_NS (fun _ => Ws)) := by
  refine gx_ct (own := RX2) [(0, .ref b), (1, .int (x1)), (2, .int (x2))] (by decide) rfl (Nat.le_of_ble_eq_true rfl) rfl ?_
  intro E X Y
  rcases hw with ⟨rfl, rfl⟩ | ⟨rfl, rfl⟩ | ⟨rfl, rfl⟩ | ⟨h0, h1, h2, rfl⟩
  · refine gw_aload_n X 1 0 dX2_make_0 rfl rfl rfl ?_
    refine gw_iload_n X 2 1 dX2_make_1 rfl rfl rfl ?_
    refine gw_if_ne X 11 5 dX2_make_2 rfl rfl (fun z => absurd rfl z) (fun _ => ?_)
    refine gw_iload_n X 6 2 dX2_make_5 rfl rfl rfl ?_
    refine gx_newaZ X hz dX2_make_6 (fun ws hw => gx_msg X (nb := 44) gx_lS gx_oS rfl (by decide) rfl rfl (negative_text_modelled hz) (negative_text_bytes _) (by decide) rfl (by decide) rfl hw (fun q => ?_))
    exact gx_out X Y (fun _ h => ⟨rfl, h⟩) (Nat.le_of_ble_eq_true rfl) (Nat.le_of_ble_eq_true rfl)
  · refine gw_aload_n X 1 0 dX2_make_0 rfl rfl rfl ?_
    refine gw_iload_n X 2 1 dX2_make_1 rfl rfl rfl ?_
    refine gw_if_ne X 11 5 dX2_make_2 rfl rfl (fun _ => ?_) (fun z => absurd z (by decide))
    refine gw_iload_n X 12 1 dX2_make_11 rfl rfl rfl ?_
    refine gw_iconst X 13 dX2_make_12 rfl gw_ci_1 ?_
    refine gw_icmp_ne X 22 16 dX2_make_13 rfl rfl (fun z => absurd rfl z) (fun _ => ?_)
    refine gw_iload_n X 17 2 dX2_make_16 rfl rfl rfl ?_
    refine gx_newaZ X hz dX2_make_17 (fun ws hw => gx_msg X (nb := 44) gx_lS gx_oS rfl (by decide) rfl rfl (negative_text_modelled hz) (negative_text_bytes _) (by decide) rfl (by decide) rfl hw (fun q => ?_))
    exact gx_out X Y (fun _ h => ⟨rfl, h⟩) (Nat.le_of_ble_eq_true rfl) (Nat.le_of_ble_eq_true rfl)
  · refine gw_aload_n X 1 0 dX2_make_0 rfl rfl rfl ?_
    refine gw_iload_n X 2 1 dX2_make_1 rfl rfl rfl ?_
    refine gw_if_ne X 11 5 dX2_make_2 rfl rfl (fun _ => ?_) (fun z => absurd z (by decide))
    refine gw_iload_n X 12 1 dX2_make_11 rfl rfl rfl ?_
    refine gw_iconst X 13 dX2_make_12 rfl gw_ci_1 ?_
    refine gw_icmp_ne X 22 16 dX2_make_13 rfl rfl (fun _ => ?_) (fun z => absurd z (by decide))
    refine gw_iload_n X 23 1 dX2_make_22 rfl rfl rfl ?_
    refine gw_iconst X 24 dX2_make_23 rfl gw_ci_2 ?_
    refine gw_icmp_ne X 33 27 dX2_make_24 rfl rfl (fun z => absurd rfl z) (fun _ => ?_)
    refine gw_iload_n X 28 2 dX2_make_27 rfl rfl rfl ?_
    refine gx_newaZ X hz dX2_make_28 (fun ws hw => gx_msg X (nb := 44) gx_lS gx_oS rfl (by decide) rfl rfl (negative_text_modelled hz) (negative_text_bytes _) (by decide) rfl (by decide) rfl hw (fun q => ?_))
    exact gx_out X Y (fun _ h => ⟨rfl, h⟩) (Nat.le_of_ble_eq_true rfl) (Nat.le_of_ble_eq_true rfl)
  · refine gw_aload_n X 1 0 dX2_make_0 rfl rfl rfl ?_
    refine gw_iload_n X 2 1 dX2_make_1 rfl rfl rfl ?_
    refine gw_if_ne X 11 5 dX2_make_2 rfl rfl (fun _ => ?_) (fun z => absurd z h0)
    refine gw_iload_n X 12 1 dX2_make_11 rfl rfl rfl ?_
    refine gw_iconst X 13 dX2_make_12 rfl gw_ci_1 ?_
    refine gw_icmp_ne X 22 16 dX2_make_13 rfl rfl (fun _ => ?_) (fun z => absurd z h1)
    refine gw_iload_n X 23 1 dX2_make_22 rfl rfl rfl ?_
    refine gw_iconst X 24 dX2_make_23 rfl gw_ci_2 ?_
    refine gw_icmp_ne X 33 27 dX2_make_24 rfl rfl (fun _ => ?_) (fun z => absurd z h2)
    refine gw_iload_n X 34 2 dX2_make_33 rfl rfl rfl ?_
    refine gx_newaZ X hz dX2_make_34 (fun ws hw => gx_msg X (nb := 44) gx_lS gx_oS rfl (by decide) rfl rfl (negative_text_modelled hz) (negative_text_bytes _) (by decide) rfl (by decide) rfl hw (fun q => ?_))
    exact gx_out X Y (fun _ h => ⟨rfl, h⟩) (Nat.le_of_ble_eq_true rfl) (Nat.le_of_ble_eq_true rfl)
