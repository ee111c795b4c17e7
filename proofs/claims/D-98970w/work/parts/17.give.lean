/-! GIVE's constructor: two fields of one name, in Ask and in Give; both come to hold the outer object, whether their slots are apart or not -/
set_option maxRecDepth 100000
section GVE
variable {E : gw_E} {cc : ByteArray} {nL : Nat} {own : String} {ret : Option FieldType} {l : Launch} {D : gw_D} {R : Room} {post : Option (Option Value → va_W → Prop)} {pc : Nat} {lv : List (Nat × Value)} {st : List Value} {Wr : va_W → Prop} {k n : Nat}
theorem gl_putGive (hI : gw_init E) (X : gw_X E cc nL own ret l D R post) (pc' : Nat) {idx q h : Nat} {f0 f1 : Value} (j : Nat) (hj : j < 2) (hlk0 : Cond.fieldLink own idx (TX8 j).1 (TX8 j).2.1 (TX8 j).2.2.1 ∈ lw_all) (hfin : (TX8 j).2.2.2 = true) (hdc : (TX8 j).1 = own) (hn0 : narrow (tyX8 j) (.ref h) = .ref h) (hf0 : fits (tyX8 j) (.ref h) = true) (d : decode cc pc = .ok (.putfield idx, 3)) (hp : pc + 3 = pc')
    (kk : ∀ g0 g1 : Value, (g0 = f0 ∨ g0 = .ref h) → (g1 = f1 ∨ g1 = .ref h) → (j = 0 → g0 = .ref h) → (j = 1 → g1 = .ref h) → gw_W E pc' lv st (gw_st [(q, .inr (7, [g0, g1]))] Wr) k n) : gw_W E pc lv (.ref h :: .ref q :: st) (gw_st [(q, .inr (7, [f0, f1]))] Wr) k n := by
  subst hp
  obtain ⟨p, e, s, m, args, below, meth, c, A, l1, D1, R1, Q1⟩ := E
  obtain ⟨rfl, rfl, rfl, hQ, hx, hb, hml, hr, hlk, hown, hts, hK, hA, hST, hfl⟩ := X
  rintro ws ⟨w2, h2, rfl⟩ H locs ls hP hD hS hl
  have he : ([(q, .inr (7, [f0, f1]))] ++ w2 : va_W)[0]? = some (q, .inr (7, [f0, f1])) := rfl
  obtain ⟨r, h1, cell, q1, q2, q3, q4⟩ := hP 0 _ he
  have hr0 : r = (RX8, TX8, 2) := Option.some.inj (h1.symm.trans gl_cl7)
  subst hr0
  obtain ⟨hSl, hfc, kC, hkC, hkind⟩ := hK.1.1 7 _ gl_cl7
  obtain ⟨cf, kf, fi, f, hi, hsl⟩ := hSl j hj
  have hlay := hts _ (in_X8 _ (u_in_lay hj))
  unfold u_lay at hlay
  rw [if_pos hfin] at hlay
  have hst := (u_facts hfc hkC (u_lays hts in_X8 hj) hi).1
  have hcf : m.cls = cf := by
    obtain ⟨_, _, c', _, _, _, -, -, hf', -, -, -, hown2, -⟩ := Cond.laysFinal_spec hlay
    have e1 : c' = cf := by have := hi.symm.trans hf'; simp at this; exact this.1.symm
    rw [hdc] at hown2
    rw [← e1]; exact Option.some.inj (hown.symm.trans hown2)
  have h6 := u_fits hfc hkC hkind (Or.inr hlay) hi (tyX8_ok j hj) hn0 hf0
  refine W.putFinK hx hb hown (hts _ hlk0) hi hst hcf hI (by rw [q2]; exact h6) q1 q3 (by rw [hsl]; exact k2_hasslot (q4 j hj)) rfl rfl d fun H' e1 e2 e3 => ?_
  rw [hsl] at e1 ⊢
  have hval : ∀ i, i < 2 → (cell.setSlot (D1.1.2 7 j) (.ref h)).slots[D1.1.2 7 i]? = some (if D1.1.2 7 i = D1.1.2 7 j then .ref h else vp_V [f0, f1] i) := by
    intro i hi2
    by_cases ee : D1.1.2 7 i = D1.1.2 7 j
    · rw [if_pos ee, ee, Cell.slots_setSlot_self _ (k2_hasslot (q4 j hj))]
    · rw [if_neg ee, slot_ne _ _ (Ne.symm ee), q4 i hi2]
  refine kk (if D1.1.2 7 0 = D1.1.2 7 j then .ref h else f0) (if D1.1.2 7 1 = D1.1.2 7 j then .ref h else f1) ?_ ?_ ?_ ?_ _ ⟨w2, h2, rfl⟩ H' _ ls ?_ ?_ (hS.put e2 e3 (hD.2 0 _ he)) hl
  · split
    · exact Or.inr rfl
    · exact Or.inl rfl
  · split
    · exact Or.inr rfl
    · exact Or.inl rfl
  · intro hj0
    subst hj0
    exact if_pos rfl
  · intro hj0
    subst hj0
    exact if_pos rfl
  · refine hP.set (p := 0) hD he ⟨_, gl_cl7, _, e1, q2, q3, ?_⟩ e3
    intro i hi2
    rw [hval i hi2]
    match i, hi2 with
    | 0, _ => rfl
    | 1, _ => rfl
  · exact hD.set (p := 0) he
end GVE
abbrev rml_X7_initG : Room := { frames := 2, cells := 0, slots := 0, locals := 40 }
set_option maxHeartbeats 4000000 in
theorem lm_X7_initG {l : Launch} {D : gw_D} {Wr : va_W → Prop} {b h : Nat} {g0 : Value} : gw_Ct D l yX7_init cX7_init 2 none rml_X7_initG [.ref b, .ref h] (gw_st [(b, .inr (7, [g0, .ref h]))] Wr) (gw_pV (gw_st [(b, .inr (7, [.ref h, .ref h]))] Wr)) := by
  refine gw_ctI (own := RX7) [(0, .ref b), (1, .ref h)] (by decide) rfl rfl (Nat.le_of_ble_eq_true rfl) rfl ?_
  intro E X hI
  refine gw_aload_n X 1 0 dX7_init_0 rfl rfl rfl ?_
  refine gw_aload_n X 2 1 dX7_init_1 rfl rfl rfl ?_
  refine gl_putGive hI X 5 0 (by decide) q675 rfl rfl rfl rfl dX7_init_2 rfl (fun k0 k1 h0 h1 h2 h3 => ?_)
  obtain rfl := h2 rfl
  obtain rfl : k1 = .ref h := h1.elim id id
  refine gw_aload_n X 6 0 dX7_init_5 rfl rfl rfl ?_
  refine gl_split (w1 := []) (w2 := [(b, .inr (7, [.ref h, .ref h]))]) rfl ?_
  refine gl_callINv X 9 [] (lm_X6_init (b := b)) q671 (lw_meth q673) q672 q155 rfl yd_X6_init rfl rfl rfl dX7_init_6 rfl rfl rfl ?_
  refine gl_merge (w := [(b, .inr (7, [.ref h, .ref h]))]) rfl ?_
  exact gw_vret X dX7_init_9 (fun _ h => ⟨rfl, h⟩) (Nat.le_of_ble_eq_true rfl) (Nat.le_of_ble_eq_true rfl)
abbrev rml_X8_init : Room := { frames := 3, cells := 0, slots := 0, locals := 70 }
set_option maxHeartbeats 4000000 in
theorem lm_X8_init {l : Launch} {D : gw_D} {Wr : va_W → Prop} {b h : Nat} : gw_Ct D l yX8_init cX8_init 2 none rml_X8_init [.ref b, .ref h] (gw_st [(b, .inr (7, [.null, .null]))] Wr) (gw_pV (gw_st [(b, .inr (7, [.ref h, .ref h]))] Wr)) := by
  refine gw_ctI (own := RX8) [(0, .ref b), (1, .ref h)] (by decide) rfl rfl (Nat.le_of_ble_eq_true rfl) rfl ?_
  intro E X hI
  refine gw_aload_n X 1 0 dX8_init_0 rfl rfl rfl ?_
  refine gw_aload_n X 2 1 dX8_init_1 rfl rfl rfl ?_
  refine gl_putGive hI X 5 1 (by decide) q745 rfl rfl rfl rfl dX8_init_2 rfl (fun k0 k1 h0 h1 h2 h3 => ?_)
  obtain rfl := h3 rfl
  refine gw_aload_n X 6 0 dX8_init_5 rfl rfl rfl ?_
  refine gw_aload_n X 7 1 dX8_init_6 rfl rfl rfl ?_
  refine gl_callINv X 10 [.ref h] (lm_X7_initG (b := b) (h := h) (g0 := k0)) q744 (lw_meth q670) q669 q156 rfl yd_X7_init rfl rfl rfl dX8_init_7 rfl rfl rfl ?_
  exact gw_vret X dX8_init_10 (fun _ h => ⟨rfl, h⟩) (Nat.le_of_ble_eq_true rfl) (Nat.le_of_ble_eq_true rfl)
