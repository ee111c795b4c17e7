/-! CLASSES BY NUMBER, their fields at birth; more rules of listed cells -/
set_option maxRecDepth 100000
theorem gl_cl0 : gw_cl[0]? = some (RX0, TX0, 23) := rfl
theorem gl_cl1 : gw_cl[1]? = some (RX1, TX1, 11) := rfl
theorem gl_cl2 : gw_cl[2]? = some (RX2, TX2, 1) := rfl
theorem gl_cl3 : gw_cl[3]? = some (RX3, TX3, 31) := rfl
theorem gl_cl4 : gw_cl[4]? = some (RX4, TX4, 7) := rfl
theorem gl_cl5 : gw_cl[5]? = some (RX5, TX5, 8) := rfl
theorem gl_cl6 : gw_cl[6]? = some (RX7, TX7, 1) := rfl
theorem gl_cl7 : gw_cl[7]? = some (RX8, TX8, 2) := rfl
theorem gl_cl8 : gw_cl[8]? = some (RX9, TX9, 1) := rfl
theorem gl_cl9 : gw_cl[9]? = some (RX10, TX10, 1) := rfl
theorem gl_cl10 : gw_cl[10]? = some (RX11, TX11, 1) := rfl
theorem gl_cl11 : gw_cl[11]? = some (RJ2, TJ2, 3) := rfl
theorem gl_dfX0 : ∀ j, j < 23 → defaultValue (tyX0 j) = vp_V [.null, .null, .int 0, .int 0, .int 0, .int 0, .int 0, .int 0, .int 0, .null, .null, .null, .null, .null, .null, .int 0, .int 0, .int 0, .int 0, .int 0, .null, .null, .null] j := fun j hj => match j, hj with
  | 0, _ => rfl
  | 1, _ => rfl
  | 2, _ => rfl
  | 3, _ => rfl
  | 4, _ => rfl
  | 5, _ => rfl
  | 6, _ => rfl
  | 7, _ => rfl
  | 8, _ => rfl
  | 9, _ => rfl
  | 10, _ => rfl
  | 11, _ => rfl
  | 12, _ => rfl
  | 13, _ => rfl
  | 14, _ => rfl
  | 15, _ => rfl
  | 16, _ => rfl
  | 17, _ => rfl
  | 18, _ => rfl
  | 19, _ => rfl
  | 20, _ => rfl
  | 21, _ => rfl
  | 22, _ => rfl
  | n + 23, h => absurd h (by omega)
theorem gl_dfX1 : ∀ j, j < 11 → defaultValue (tyX1 j) = vp_V [.int 0, .int 0, .int 0, .int 0, .int 0, .int 0, .null, .null, .null, .null, .null] j := fun j hj => match j, hj with
  | 0, _ => rfl
  | 1, _ => rfl
  | 2, _ => rfl
  | 3, _ => rfl
  | 4, _ => rfl
  | 5, _ => rfl
  | 6, _ => rfl
  | 7, _ => rfl
  | 8, _ => rfl
  | 9, _ => rfl
  | 10, _ => rfl
  | n + 11, h => absurd h (by omega)
theorem gl_dfX2 : ∀ j, j < 1 → defaultValue (tyX2 j) = vp_V [.null] j := fun j hj => match j, hj with
  | 0, _ => rfl
  | n + 1, h => absurd h (by omega)
theorem gl_dfX3 : ∀ j, j < 31 → defaultValue (tyX3 j) = vp_V [.int 0, .null, .null, .null, .null, .null, .int 0, .int 0, .int 0, .int 0, .int 0, .long 0, .int 0, .int 0, .int 0, .int 0, .null, .null, .null, .null, .null, .null, .null, .null, .int 0, .int 0, .int 0, .int 0, .null, .int 0, .int 0] j := fun j hj => match j, hj with
  | 0, _ => rfl
  | 1, _ => rfl
  | 2, _ => rfl
  | 3, _ => rfl
  | 4, _ => rfl
  | 5, _ => rfl
  | 6, _ => rfl
  | 7, _ => rfl
  | 8, _ => rfl
  | 9, _ => rfl
  | 10, _ => rfl
  | 11, _ => rfl
  | 12, _ => rfl
  | 13, _ => rfl
  | 14, _ => rfl
  | 15, _ => rfl
  | 16, _ => rfl
  | 17, _ => rfl
  | 18, _ => rfl
  | 19, _ => rfl
  | 20, _ => rfl
  | 21, _ => rfl
  | 22, _ => rfl
  | 23, _ => rfl
  | 24, _ => rfl
  | 25, _ => rfl
  | 26, _ => rfl
  | 27, _ => rfl
  | 28, _ => rfl
  | 29, _ => rfl
  | 30, _ => rfl
  | n + 31, h => absurd h (by omega)
theorem gl_dfX4 : ∀ j, j < 7 → defaultValue (tyX4 j) = vp_V [.int 0, .null, .int 0, .int 0, .int 0, .null, .null] j := fun j hj => match j, hj with
  | 0, _ => rfl
  | 1, _ => rfl
  | 2, _ => rfl
  | 3, _ => rfl
  | 4, _ => rfl
  | 5, _ => rfl
  | 6, _ => rfl
  | n + 7, h => absurd h (by omega)
theorem gl_dfX5 : ∀ j, j < 8 → defaultValue (tyX5 j) = vp_V [.null, .null, .null, .null, .null, .int 0, .int 0, .int 0] j := fun j hj => match j, hj with
  | 0, _ => rfl
  | 1, _ => rfl
  | 2, _ => rfl
  | 3, _ => rfl
  | 4, _ => rfl
  | 5, _ => rfl
  | 6, _ => rfl
  | 7, _ => rfl
  | n + 8, h => absurd h (by omega)
theorem gl_dfX7 : ∀ j, j < 1 → defaultValue (tyX7 j) = vp_V [.null] j := fun j hj => match j, hj with
  | 0, _ => rfl
  | n + 1, h => absurd h (by omega)
theorem gl_dfX8 : ∀ j, j < 2 → defaultValue (tyX8 j) = vp_V [.null, .null] j := fun j hj => match j, hj with
  | 0, _ => rfl
  | 1, _ => rfl
  | n + 2, h => absurd h (by omega)
theorem gl_dfX9 : ∀ j, j < 1 → defaultValue (tyX9 j) = vp_V [.null] j := fun j hj => match j, hj with
  | 0, _ => rfl
  | n + 1, h => absurd h (by omega)
theorem gl_dfX10 : ∀ j, j < 1 → defaultValue (tyX10 j) = vp_V [.null] j := fun j hj => match j, hj with
  | 0, _ => rfl
  | n + 1, h => absurd h (by omega)
theorem gl_dfX11 : ∀ j, j < 1 → defaultValue (tyX11 j) = vp_V [.null] j := fun j hj => match j, hj with
  | 0, _ => rfl
  | n + 1, h => absurd h (by omega)
theorem gl_dfJ2 : ∀ j, j < 3 → defaultValue (tyJ2 j) = vp_V [.int 0, .null, .int 0] j := fun j hj => match j, hj with
  | 0, _ => rfl
  | 1, _ => rfl
  | 2, _ => rfl
  | n + 3, h => absurd h (by omega)
section GL2
variable {E : gw_E} {cc : ByteArray} {nL : Nat} {own : String} {ret : Option FieldType} {l : Launch} {D : gw_D} {R : Room} {post : Option (Option Value → va_W → Prop)} {pst0 : Option Value → va_W → Prop} {pc : Nat} {lv : List (Nat × Value)} {st : List Value} {ws : va_W} {Ws Ws' : va_W → Prop} {k n : Nat}
theorem gl_zAL (X : gw_X E cc nL own ret l D R post) (pc' : Nat) {idx : Nat} (hl0 : Cond.fieldLink own idx "java/util/ArrayList" "DEFAULTCAPACITY_EMPTY_ELEMENTDATA" "[Ljava/lang/Object;" ∈ lw_all) (d : decode cc pc = .ok (.getstatic idx, 3)) (hp : pc + 3 = pc') (kk : gw_W E pc' lv (.ref (D.2 100) :: st) Ws k n) : gw_W E pc lv st Ws k n := by
  subst hp
  obtain ⟨p, e, s, m, args, below, meth, c, A, l1, D1, R1, Q1⟩ := E
  obtain ⟨rfl, rfl, rfl, hQ, hx, hb, hml, hr, hlk, hown, hts, hK, hA, hST, hfl⟩ := X
  intro ws hw0 H locs ls hP hD hS hl
  exact va_gets hx hb hST.1 hS hown (hts _ hl0) (fun x h => h) d (kk ws hw0 H locs ls hP hD hS hl)
theorem gl_zALlen (X : gw_X E cc nL own ret l D R post) (pc' : Nat) (d : decode cc pc = .ok (.arraylength, 1)) (hp : pc + 1 = pc') (kk : gw_W E pc' lv (.int 0 :: st) Ws k n) : gw_W E pc lv (.ref (D.2 100) :: st) Ws k n := by
  subst hp
  obtain ⟨p, e, s, m, args, below, meth, c, A, l1, D1, R1, Q1⟩ := E
  obtain ⟨rfl, rfl, rfl, hQ, hx, hb, hml, hr, hlk, hown, hts, hK, hA, hST, hfl⟩ := X
  intro ws hw0 H locs ls hP hD hS hl
  exact va_tlen hx hb hST.2.1 hS (by decide) d (kk ws hw0 H locs ls hP hD hS hl)
theorem gl_tok (X : gw_X E cc nL own ret l D R post) (pc' : Nat) (i : Nat) {idx : Nat} {nm : String} (hi : i < 5) (hn : gw_tok.getD i "" = nm) (hl0 : Cond.fieldLink own idx "CardHolder$Token" nm "LCardHolder$Token;" ∈ lw_all) (d : decode cc pc = .ok (.getstatic idx, 3)) (hp : pc + 3 = pc') (kk : gw_W E pc' lv (.ref (D.2 (101 + i)) :: st) Ws k n) : gw_W E pc lv st Ws k n := by
  subst hp
  subst hn
  obtain ⟨p, e, s, m, args, below, meth, c, A, l1, D1, R1, Q1⟩ := E
  obtain ⟨rfl, rfl, rfl, hQ, hx, hb, hml, hr, hlk, hown, hts, hK, hA, hST, hfl⟩ := X
  intro ws hw0 H locs ls hP hD hS hl
  exact va_gets hx hb (hST.2.2.1 i hi) hS hown (hts _ hl0) (fun x h => h) d (kk ws hw0 H locs ls hP hD hS hl)
theorem gl_topi {x y : Int32} (h : x = y) (kk : gw_W E pc lv (.int y :: st) Ws k n) : gw_W E pc lv (.int x :: st) Ws k n := h ▸ kk
theorem gl_cast (X : gw_X E cc nL own ret l D R post) (pc' : Nat) {C nm : String} {T : u_T} {N ci idx q0 b : Nat} {fs : List Value} (hcl : Cond.classLink own idx nm ∈ lw_all) (hca : Cond.castable C nm ∈ lw_tbl) (hc : gw_cl[ci]? = some (C, T, N)) (he : ∀ ws, Ws ws → ws[q0]? = some (b, .inr (ci, fs))) (d : decode cc pc = .ok (.checkcast idx, 3)) (hp : pc + 3 = pc') (kk : gw_W E pc' lv (.ref b :: st) Ws k n) : gw_W E pc lv (.ref b :: st) Ws k n := by
  subst hp
  obtain ⟨p, e, s, m, args, below, meth, c, A, l1, D1, R1, Q1⟩ := E
  obtain ⟨rfl, rfl, rfl, hQ, hx, hb, hml, hr, hlk, hown, hts, hK, hA, hST, hfl⟩ := X
  intro ws hw0 H locs ls hP hD hS hl
  exact va_castY hx hb hown (hts _ hcl) (hK.2.1 _ hca rfl) (va_recv hK.1 hP hc (he ws hw0)) d (kk ws hw0 H locs ls hP hD hS hl)
theorem gl_lveq {i : Nat} {x y : Int32} {lv0 lv' : List (Nat × Value)} (h : x = y) (e : (i, Value.int y) :: lv0 = lv') (kk : gw_W E pc lv' st Ws k n) : gw_W E pc ((i, .int x) :: lv0) st Ws k n := by
  subst h
  subst e
  exact kk
theorem gl_dup_x1 (X : gw_X E cc nL own ret l D R post) (pc' : Nat) {v w : Value} (d : decode cc pc = .ok (.dup_x1, 1)) (hp : pc + 1 = pc') (hv : v.category = 1) (hw : w.category = 1) (kk : gw_W E pc' lv (v :: w :: v :: st) Ws k n) : gw_W E pc lv (v :: w :: st) Ws k n := by
  subst hp
  obtain ⟨p, e, s, m, args, below, meth, c, A, l1, D1, R1, Q1⟩ := E
  obtain ⟨rfl, rfl, rfl, hQ, hx, hb, hml, hr, hlk, hown, hts, hK, hA, hST, hfl⟩ := X
  intro ws hw0 H locs ls hP hD hS hl
  exact lv_dup_x1 hx hb d hv hw (kk ws hw0 H locs ls hP hD hS hl)
theorem gl_aload_nN (X : gw_X E cc nL own ret l D R post) (pc' : Nat) (j : Nat) {f4 : Fin 4} {i : Nat} (d : decode cc pc = .ok (.aload_n f4, 1)) (hp : pc + 1 = pc') (hi : (f4 : Nat) = i) (hj : lv[j]? = some (i, .null)) (kk : gw_W E pc' lv (.null :: st) Ws k n) : gw_W E pc lv st Ws k n := by
  subst hp
  obtain ⟨p, e, s, m, args, below, meth, c, A, l1, D1, R1, Q1⟩ := E
  obtain ⟨rfl, rfl, rfl, hQ, hx, hb, hml, hr, hlk, hown, hts, hK, hA, hST, hfl⟩ := X
  intro ws hw0 H locs ls hP hD hS hl
  exact lv_aload_nN hx hb d hi (lv_at hl j hj) (kk ws hw0 H locs ls hP hD hS hl)
theorem gw_astore_nN (X : gw_X E cc nL own ret l D R post) (pc' : Nat) (lv' : List (Nat × Value)) {f4 : Fin 4} {i : Nat} (d : decode cc pc = .ok (.astore_n f4, 1)) (hp : pc + 1 = pc') (hi : (f4 : Nat) = i) (hn : i < nL) (hf : (i, Value.null) :: lv.filter (fun q => !(q.1 == i) && !(q.1 + 1 == i && q.2.category == 2)) = lv') (kk : gw_W E pc' lv' st Ws k n) : gw_W E pc lv (.null :: st) Ws k n := by
  subst hp
  obtain ⟨p, e, s, m, args, below, meth, c, A, l1, D1, R1, Q1⟩ := E
  obtain ⟨rfl, rfl, rfl, hQ, hx, hb, hml, hr, hlk, hown, hts, hK, hA, hST, hfl⟩ := X
  intro ws hw0 H locs ls hP hD hS hl
  exact lv_astore_nN hx hb d hi hl (by rw [hml]; exact hn) hf (fun ls' hl' => kk ws hw0 H locs ls' hP hD hS hl')
theorem gl_aretA {t : FieldType} {v : Nat} (X : gw_X E cc nL own (some (.array t)) l D R (some pst0)) (d : decode cc pc = .ok (.areturn, 1)) (hq : ∀ ws, Ws ws → pst0 (some (.ref v)) ws) (hk : k ≤ R.cells) (hn : n ≤ R.slots) : gw_W E pc lv [.ref v] Ws k n := by
  obtain ⟨p, e, s, m, args, below, meth, c, A, l1, D1, R1, Q1⟩ := E
  obtain ⟨rfl, rfl, rfl, hQ, hx, hb, hml, hr, hlk, hown, hts, hK, hA, hST, hfl⟩ := X
  intro ws hw0 H locs ls hP hD hS hl
  obtain rfl := hQ _ rfl
  refine W.widen hk hn ?_
  exact W.aret hx hb hr (Or.inr ⟨_, rfl⟩) (Or.inr ⟨_, rfl⟩) (fun t ht hW => ⟨⟨_, ws, rfl, hq ws hw0, by rw [ht]; exact hP, hD⟩, hS.F ht⟩) hS.2.2 d hlk
theorem gl_aretN {C : String} (X : gw_X E cc nL own (some (.object C)) l D R (some pst0)) (d : decode cc pc = .ok (.areturn, 1)) (hq : ∀ ws, Ws ws → pst0 (some .null) ws) (hk : k ≤ R.cells) (hn : n ≤ R.slots) : gw_W E pc lv [.null] Ws k n := by
  obtain ⟨p, e, s, m, args, below, meth, c, A, l1, D1, R1, Q1⟩ := E
  obtain ⟨rfl, rfl, rfl, hQ, hx, hb, hml, hr, hlk, hown, hts, hK, hA, hST, hfl⟩ := X
  intro ws hw0 H locs ls hP hD hS hl
  obtain rfl := hQ _ rfl
  refine W.widen hk hn ?_
  exact W.aret hx hb hr (Or.inl ⟨_, rfl⟩) (Or.inl rfl) (fun t ht hW => ⟨⟨_, ws, rfl, hq ws hw0, by rw [ht]; exact hP, hD⟩, hS.F ht⟩) hS.2.2 d hlk
end GL2
