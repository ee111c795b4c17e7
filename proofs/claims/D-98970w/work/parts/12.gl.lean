/-! CELLS BY PLACE: worlds whose first cells are listed; a new cell comes in front; an order is taken by places -/
set_option maxRecDepth 100000
theorem gl_P_perm {D : va_G} {cl : List vw_C} {ws ws' : va_W} {H : Heap} (h : ws.Perm ws') (hP : va_P D cl ws H) : va_P D cl ws' H := by
  intro k q hk
  have hm : q ∈ ws := h.mem_iff.mpr (List.mem_of_getElem? hk)
  obtain ⟨i, hi⟩ := List.getElem?_of_mem hm
  exact hP i q hi
theorem gl_D_nodup {A : Nat → Prop} {ws : va_W} (hD : va_D A ws) : (ws.map Prod.fst).Nodup := by
  rw [List.Nodup, List.pairwise_iff_getElem]
  intro i j hi hj hij e
  rw [List.length_map] at hi hj
  rw [List.getElem_map, List.getElem_map] at e
  have := hD.1 i j ws[i] ws[j] (List.getElem?_eq_getElem hi) (List.getElem?_eq_getElem hj) e
  omega
theorem gl_D_of {A : Nat → Prop} {ws : va_W} (h1 : (ws.map Prod.fst).Nodup) (h2 : ∀ q ∈ ws, A q.1) : va_D A ws := by
  refine ⟨fun i j p q hi hj e => ?_, fun k q hk => h2 q (List.mem_of_getElem? hk)⟩
  have a1 : (ws.map Prod.fst)[i]? = some p.1 := by rw [List.getElem?_map, hi]; rfl
  have a2 : (ws.map Prod.fst)[j]? = some q.1 := by rw [List.getElem?_map, hj]; rfl
  have hil : i < (ws.map Prod.fst).length := (List.getElem?_eq_some_iff.mp a1).1
  exact (List.getElem?_inj hil h1).mp (by rw [a1, a2, e])
theorem gl_D_perm {A : Nat → Prop} {ws ws' : va_W} (h : ws.Perm ws') (hD : va_D A ws) : va_D A ws' := by
  refine gl_D_of ((h.map Prod.fst).nodup_iff.mp (gl_D_nodup hD)) (fun q hq => ?_)
  obtain ⟨i, hi⟩ := List.getElem?_of_mem (h.mem_iff.mpr hq)
  exact hD.2 i q hi
theorem gl_rng : ∀ (w : va_W), (List.range w.length).filterMap (fun i => w[i]?) = w
  | [] => rfl
  | x :: w => by
    have h : ((fun i => (x :: w)[i]?) ∘ Nat.succ) = (fun i => w[i]?) := by
      funext i
      exact List.getElem?_cons_succ
    rw [List.length_cons, List.range_succ_eq_map, List.filterMap_cons, List.filterMap_map, h, gl_rng w]
    rfl
/-- the places is of w, all of them, in that order -/
theorem gl_pick {w : va_W} (is : List Nat) (hp : is.isPerm (List.range w.length) = true) : w.Perm (is.filterMap (fun i => w[i]?)) := by
  have h2 := (List.isPerm_iff.mp hp).filterMap (fun i => w[i]?)
  rw [gl_rng] at h2
  exact h2.symm
section GLR
variable {E : gw_E} {cc : ByteArray} {nL : Nat} {own : String} {ret : Option FieldType} {l : Launch} {D : gw_D} {R : Room} {post : Option (Option Value → va_W → Prop)} {pc : Nat} {lv : List (Nat × Value)} {st : List Value} {ws : va_W} {Ws Ws' : va_W → Prop} {Wr : va_W → Prop} {w w' w1 w2 : va_W} {k n : Nat}
theorem gl_perm (h : ∀ ws, Ws ws → ∃ ws', Ws' ws' ∧ ws.Perm ws') (kk : gw_W E pc lv st Ws' k n) : gw_W E pc lv st Ws k n := by
  obtain ⟨p, e, s, m, args, below, meth, c, A, l1, D1, R1, Q1⟩ := E
  intro ws hw H locs ls hP hD hS hl
  obtain ⟨ws', hw', hpm⟩ := h ws hw
  exact kk ws' hw' H locs ls (gl_P_perm hpm hP) (gl_D_perm hpm hD) hS hl
theorem gl_ord (is : List Nat) (hp : is.isPerm (List.range w.length) = true) (hw : is.filterMap (fun i => w[i]?) = w') (kk : gw_W E pc lv st (gw_st w' Wr) k n) : gw_W E pc lv st (gw_st w Wr) k n := by
  refine gl_perm (fun ws h => ?_) kk
  obtain ⟨x, hx, rfl⟩ := h
  exact ⟨w' ++ x, ⟨x, hx, rfl⟩, (hw ▸ gl_pick is hp).append_right x⟩
theorem gl_split (e : w = w1 ++ w2) (kk : gw_W E pc lv st (gw_st w1 (gw_st w2 Wr)) k n) : gw_W E pc lv st (gw_st w Wr) k n := by
  refine gw_ww (fun ws h => ?_) kk
  obtain ⟨x, hx, rfl⟩ := h
  exact ⟨w2 ++ x, ⟨x, hx, rfl⟩, by rw [e, List.append_assoc]⟩
theorem gl_merge (e : w1 ++ w2 = w) (kk : gw_W E pc lv st (gw_st w Wr) k n) : gw_W E pc lv st (gw_st w1 (gw_st w2 Wr)) k n := by
  refine gw_ww (fun ws h => ?_) kk
  obtain ⟨x, ⟨y, hy, rfl⟩, rfl⟩ := h
  exact ⟨y, hy, by rw [← e, List.append_assoc]⟩
/-- what is at a place -/
theorem gl_at {q0 : Nat} {x : Nat × va_E} (h : w[q0]? = some x) : ∀ ws, gw_st w Wr ws → ws[q0]? = some x := by
  rintro ws ⟨y, -, rfl⟩
  have := (List.getElem?_eq_some_iff.mp h).1
  rw [List.getElem?_append_left this]
  exact h
theorem gl_ate {q0 b ci : Nat} {fs : List Value} (h : w[q0]? = some (b, .inr (ci, fs))) : ∀ ws, gw_st w Wr ws → ∃ fs, ws[q0]? = some (b, .inr (ci, fs)) := fun ws hw => ⟨fs, gl_at h ws hw⟩
theorem gl_set {q0 : Nat} {x : Nat × va_E} (hl : Nat.ble (q0 + 1) w.length = true) (e : w.set q0 x = w') : ∀ ws, gw_st w Wr ws → gw_st w' Wr (ws.set q0 x) := by
  rintro ws ⟨y, hy, rfl⟩
  exact ⟨y, hy, by rw [List.set_append_left _ _ (Nat.le_of_ble_eq_true hl), e]⟩
theorem gl_get (X : gw_X E cc nL own ret l D R post) (pc' : Nat) {C ref : String} {T : u_T} {N ci idx q0 b : Nat} {fs : List Value}  {v : Value} (hin : ∀ w ∈ u_ws C T N, w ∈ lw_all) (hc : gw_cl[ci]? = some (C, T, N)) (he : ∀ ws, Ws ws → ws[q0]? = some (b, .inr (ci, fs))) (j : Nat) (hj : j < N) (hlk0 : Cond.fieldLink own idx ref (T j).2.1 (T j).2.2.1 ∈ lw_all) (hr0 : (T j).1 = ref) (hv : fs[j]? = some v) (d : decode cc pc = .ok (.getfield idx, 3)) (hp : pc + 3 = pc') (kk : gw_W E pc' lv (v :: st) Ws k n) : gw_W E pc lv (.ref b :: st) Ws k n := by
  subst hp
  obtain ⟨p, e, s, m, args, below, meth, c, A, l1, D1, R1, Q1⟩ := E
  obtain ⟨rfl, rfl, rfl, hQ, hx, hb, hml, hr, hlk, hown, hts, hK, hA, hST, hfl⟩ := X
  intro ws hw0 H locs ls hP hD hS hl
  exact va_get hx hb hts hin hown hK.1 hP q0 (he ws hw0) hc j hj (hts _ hlk0) (fun x h => by rw [hr0] at h; exact h) hv d (kk ws hw0 H locs ls hP hD hS hl)
theorem gl_getN (X : gw_X E cc nL own ret l D R post) (pc' : Nat) {C ref : String} {T : u_T} {N ci idx q0 b : Nat} {fs : List Value} {host : String} {v : Value} (hin : ∀ w ∈ u_ws C T N, w ∈ lw_all) (hc : gw_cl[ci]? = some (C, T, N)) (he : ∀ ws, Ws ws → ws[q0]? = some (b, .inr (ci, fs))) (j : Nat) (hj : j < N) (hlk0 : Cond.fieldLinkNest own idx ref (T j).2.1 (T j).2.2.1 host ∈ lw_tbl) (hr0 : (T j).1 = ref) (hv : fs[j]? = some v) (d : decode cc pc = .ok (.getfield idx, 3)) (hp : pc + 3 = pc') (kk : gw_W E pc' lv (v :: st) Ws k n) : gw_W E pc lv (.ref b :: st) Ws k n := by
  subst hp
  obtain ⟨p, e, s, m, args, below, meth, c, A, l1, D1, R1, Q1⟩ := E
  obtain ⟨rfl, rfl, rfl, hQ, hx, hb, hml, hr, hlk, hown, hts, hK, hA, hST, hfl⟩ := X
  intro ws hw0 H locs ls hP hD hS hl
  exact va_getN hx hb hts hin hown hK.1 hP q0 (he ws hw0) hc j hj (va_Nw.use rfl (hK.2.1 _ hlk0 rfl)) (fun x h => by rw [hr0] at h; exact h) hv d (kk ws hw0 H locs ls hP hD hS hl)
theorem gl_getI (X : gw_X E cc nL own ret l D R post) (pc' : Nat) {C ref : String} {T : u_T} {N ci idx q0 b : Nat} {fs : List Value} {v : Value} (hin : ∀ w ∈ u_ws C T N, w ∈ lw_all) (hc : gw_cl[ci]? = some (C, T, N)) (he : ∀ ws, Ws ws → ws[q0]? = some (b, .inr (ci, fs))) (j : Nat) (hj : j < N) (hlk0 : Cond.fieldLink own idx ref (T j).2.1 (T j).2.2.1 ∈ lw_all) (hsm : Cond.sameField ref (T j).1 (T j).2.1 (T j).2.2.1 ∈ lw_all) (hv : fs[j]? = some v) (d : decode cc pc = .ok (.getfield idx, 3)) (hp : pc + 3 = pc') (kk : gw_W E pc' lv (v :: st) Ws k n) : gw_W E pc lv (.ref b :: st) Ws k n := by
  subst hp
  obtain ⟨p, e, s, m, args, below, meth, c, A, l1, D1, R1, Q1⟩ := E
  obtain ⟨rfl, rfl, rfl, hQ, hx, hb, hml, hr, hlk, hown, hts, hK, hA, hST, hfl⟩ := X
  intro ws hw0 H locs ls hP hD hS hl
  exact va_get hx hb hts hin hown hK.1 hP q0 (he ws hw0) hc j hj (hts _ hlk0) (fun x h => u_same (hts _ hsm) x h) hv d (kk ws hw0 H locs ls hP hD hS hl)
theorem gl_putI (X : gw_X E cc nL own ret l D R post) (pc' : Nat) {C ref : String} {T : u_T} {N ci idx q0 b : Nat} {fs : List Value} {v : Value} {ty : FieldType} (ty0 : Nat → FieldType) (hty : ∀ k, k < N → parseFieldDescriptor (T k).2.2.1 = some (ty0 k)) (hnm : ∀ a, a < N → ∀ b, b < N → a ≠ b → (T a).2.1 ≠ (T b).2.1) (hin : ∀ w ∈ u_ws C T N, w ∈ lw_all) (hc : gw_cl[ci]? = some (C, T, N)) (he : ∀ ws, Ws ws → ws[q0]? = some (b, .inr (ci, fs))) (j : Nat) (hj : j < N) (hlk0 : Cond.fieldLink own idx ref (T j).2.1 (T j).2.2.1 ∈ lw_all) (hsm : Cond.sameField ref (T j).1 (T j).2.1 (T j).2.2.1 ∈ lw_all) (hfin : (T j).2.2.2 = false) (hd : parseFieldDescriptor (T j).2.2.1 = some ty) (hn : narrow ty v = v) (hfit : fits ty v = true) (hl0 : j < fs.length) (hw : ∀ ws, Ws ws → Ws' (ws.set q0 (b, .inr (ci, fs.set j v)))) (d : decode cc pc = .ok (.putfield idx, 3)) (hp : pc + 3 = pc') (kk : gw_W E pc' lv st Ws' k n) : gw_W E pc lv (v :: .ref b :: st) Ws k n := by
  subst hp
  obtain ⟨p, e, s, m, args, below, meth, c, A, l1, D1, R1, Q1⟩ := E
  obtain ⟨rfl, rfl, rfl, hQ, hx, hb, hml, hr, hlk, hown, hts, hK, hA, hST, hfl⟩ := X
  intro ws hw0 H locs ls hP hD hS hl
  exact va_put hx hb hts hin ty0 hty hnm hown hK.1 hP hD hS q0 (he ws hw0) hc j hj (hts _ hlk0) (fun x h => u_same (hts _ hsm) x h) hfin hd hn hfit hl0 d (fun H1 locs1 hP1 hD1 hS1 => kk _ (hw ws hw0) H1 locs1 ls hP1 hD1 hS1 hl)
theorem gl_put (X : gw_X E cc nL own ret l D R post) (pc' : Nat) {C ref : String} {T : u_T} {N ci idx q0 b : Nat} {fs : List Value}  {v : Value} {ty : FieldType} (ty0 : Nat → FieldType) (hty : ∀ k, k < N → parseFieldDescriptor (T k).2.2.1 = some (ty0 k)) (hnm : ∀ a, a < N → ∀ b, b < N → a ≠ b → (T a).2.1 ≠ (T b).2.1) (hin : ∀ w ∈ u_ws C T N, w ∈ lw_all) (hc : gw_cl[ci]? = some (C, T, N)) (he : ∀ ws, Ws ws → ws[q0]? = some (b, .inr (ci, fs))) (j : Nat) (hj : j < N) (hlk0 : Cond.fieldLink own idx ref (T j).2.1 (T j).2.2.1 ∈ lw_all) (hr0 : (T j).1 = ref) (hfin : (T j).2.2.2 = false) (hd : parseFieldDescriptor (T j).2.2.1 = some ty) (hn : narrow ty v = v) (hfit : fits ty v = true) (hl0 : j < fs.length) (hw : ∀ ws, Ws ws → Ws' (ws.set q0 (b, .inr (ci, fs.set j v)))) (d : decode cc pc = .ok (.putfield idx, 3)) (hp : pc + 3 = pc') (kk : gw_W E pc' lv st Ws' k n) : gw_W E pc lv (v :: .ref b :: st) Ws k n := by
  subst hp
  obtain ⟨p, e, s, m, args, below, meth, c, A, l1, D1, R1, Q1⟩ := E
  obtain ⟨rfl, rfl, rfl, hQ, hx, hb, hml, hr, hlk, hown, hts, hK, hA, hST, hfl⟩ := X
  intro ws hw0 H locs ls hP hD hS hl
  exact va_put hx hb hts hin ty0 hty hnm hown hK.1 hP hD hS q0 (he ws hw0) hc j hj (hts _ hlk0) (fun x h => by rw [hr0] at h; exact h) hfin hd hn hfit hl0 d (fun H1 locs1 hP1 hD1 hS1 => kk _ (hw ws hw0) H1 locs1 ls hP1 hD1 hS1 hl)
theorem gl_putN (X : gw_X E cc nL own ret l D R post) (pc' : Nat) {C ref : String} {T : u_T} {N ci idx q0 b : Nat} {fs : List Value} {host : String} {v : Value} {ty : FieldType} (ty0 : Nat → FieldType) (hty : ∀ k, k < N → parseFieldDescriptor (T k).2.2.1 = some (ty0 k)) (hnm : ∀ a, a < N → ∀ b, b < N → a ≠ b → (T a).2.1 ≠ (T b).2.1) (hin : ∀ w ∈ u_ws C T N, w ∈ lw_all) (hc : gw_cl[ci]? = some (C, T, N)) (he : ∀ ws, Ws ws → ws[q0]? = some (b, .inr (ci, fs))) (j : Nat) (hj : j < N) (hlk0 : Cond.fieldLinkNest own idx ref (T j).2.1 (T j).2.2.1 host ∈ lw_tbl) (hr0 : (T j).1 = ref) (hfin : (T j).2.2.2 = false) (hd : parseFieldDescriptor (T j).2.2.1 = some ty) (hn : narrow ty v = v) (hfit : fits ty v = true) (hl0 : j < fs.length) (hw : ∀ ws, Ws ws → Ws' (ws.set q0 (b, .inr (ci, fs.set j v)))) (d : decode cc pc = .ok (.putfield idx, 3)) (hp : pc + 3 = pc') (kk : gw_W E pc' lv st Ws' k n) : gw_W E pc lv (v :: .ref b :: st) Ws k n := by
  subst hp
  obtain ⟨p, e, s, m, args, below, meth, c, A, l1, D1, R1, Q1⟩ := E
  obtain ⟨rfl, rfl, rfl, hQ, hx, hb, hml, hr, hlk, hown, hts, hK, hA, hST, hfl⟩ := X
  intro ws hw0 H locs ls hP hD hS hl
  exact va_putN hx hb hts hin ty0 hty hnm hown hK.1 hP hD hS q0 (he ws hw0) hc j hj (va_Nw.use rfl (hK.2.1 _ hlk0 rfl)) (fun x h => by rw [hr0] at h; exact h) hfin hd hn hfit hl0 d (fun H1 locs1 hP1 hD1 hS1 => kk _ (hw ws hw0) H1 locs1 ls hP1 hD1 hS1 hl)
theorem gl_putF (hI : gw_init E) (X : gw_X E cc nL own ret l D R post) (pc' : Nat) {C ref : String} {T : u_T} {N ci idx q0 b : Nat} {fs : List Value} {v : Value} {ty : FieldType} (ty0 : Nat → FieldType) (hty : ∀ k, k < N → parseFieldDescriptor (T k).2.2.1 = some (ty0 k)) (hnm : ∀ a, a < N → ∀ b, b < N → a ≠ b → (T a).2.1 ≠ (T b).2.1) (hin : ∀ w ∈ u_ws C T N, w ∈ lw_all) (hc : gw_cl[ci]? = some (C, T, N)) (he : ∀ ws, Ws ws → ws[q0]? = some (b, .inr (ci, fs))) (j : Nat) (hj : j < N) (hlk0 : Cond.fieldLink own idx ref (T j).2.1 (T j).2.2.1 ∈ lw_all) (hr0 : (T j).1 = ref) (hfin : (T j).2.2.2 = true) (hdc : (T j).1 = own) (hd : parseFieldDescriptor (T j).2.2.1 = some ty) (hn : narrow ty v = v) (hfit : fits ty v = true) (hl0 : j < fs.length) (hw : ∀ ws, Ws ws → Ws' (ws.set q0 (b, .inr (ci, fs.set j v)))) (d : decode cc pc = .ok (.putfield idx, 3)) (hp : pc + 3 = pc') (kk : gw_W E pc' lv st Ws' k n) : gw_W E pc lv (v :: .ref b :: st) Ws k n := by
  subst hp
  obtain ⟨p, e, s, m, args, below, meth, c, A, l1, D1, R1, Q1⟩ := E
  obtain ⟨rfl, rfl, rfl, hQ, hx, hb, hml, hr, hlk, hown, hts, hK, hA, hST, hfl⟩ := X
  intro ws hw0 H locs ls hP hD hS hl
  exact va_putF hx hb hts hin ty0 hty hnm hown hK.1 hP hD hS q0 (he ws hw0) hc j hj (hts _ hlk0) (fun x h => by rw [hr0] at h; exact h) hfin hI hdc hd hn hfit hl0 d (fun H1 locs1 hP1 hD1 hS1 => kk _ (hw ws hw0) H1 locs1 ls hP1 hD1 hS1 hl)
theorem gl_new (X : gw_X E cc nL own ret l D R post) (pc' : Nat) {C : String} {T : u_T} {N ci idx k' n' : Nat} {fs : List Value} (ty0 : Nat → FieldType) (hty : ∀ k, k < N → parseFieldDescriptor (T k).2.2.1 = some (ty0 k)) (hin : ∀ w ∈ u_ws C T N, w ∈ lw_all) (hc : gw_cl[ci]? = some (C, T, N)) (hcl : Cond.classLink own idx C ∈ lw_all) (hinst : Cond.instantiable C N ∈ lw_all) (hini : Cond.initialized C ∈ lw_all) (hfs : ∀ j, j < N → defaultValue (ty0 j) = vp_V fs j) (hR : (Nat.ble (k + 1) R.cells && Nat.ble (n + N) R.slots) = true) (d : decode cc pc = .ok (.new idx, 3)) (hp : pc + 3 = pc') (ek : k + 1 = k') (en : n + N = n') (kk : ∀ q : Nat, gw_W E pc' lv (.ref q :: st) (gw_st [(q, .inr (ci, fs))] Ws) k' n') : gw_W E pc lv st Ws k n := by
  subst hp
  subst ek
  subst en
  simp only [Bool.and_eq_true] at hR
  have r1 := Nat.le_of_ble_eq_true hR.1
  have r2 := Nat.le_of_ble_eq_true hR.2
  obtain ⟨p, e, s, m, args, below, meth, c, A, l1, D1, R1, Q1⟩ := E
  obtain ⟨rfl, rfl, rfl, hQ, hx, hb, hml, hr, hlk, hown, hts, hK, hA, hST, hfl⟩ := X
  intro ws hw0 H locs ls hP hD hS hl
  exact va_new hx hb hts hin ty0 hty hown (hts _ hcl) (hts _ hinst) (hts _ hini) hK.1 hP hD hS hA hc hfs r1 r2 d (fun q H1 hP1 hD1 hS1 => kk q _ ⟨ws, hw0, rfl⟩ H1 locs ls (gl_P_perm List.perm_append_comm hP1) (gl_D_perm List.perm_append_comm hD1) hS1 hl)
theorem gl_newa (X : gw_X E cc nL own ret l D R post) (pc' : Nat) {atype : ArrayType} (ty : FieldType) (t0 : Nat) {z : Int32} {N k' n' : Nat} {a0 : vp_A} (harr : Cond.arrayClass (newarray.typeOf atype) ∈ lw_all) (hty : newarray.typeOf atype = ty) (ht : (gw_ty D.2)[t0]? = some (D.2 t0, ty)) (hobj : ∀ (U : State) (cA : ClassId), va_RA U cA ty → U.vm.findClass ("[" ++ ty.toString) = some cA) (ha : ∀ cA : ClassId, vp_cell cA a0 = arrV cA N (fun _ => defaultValue ty)) (hz : ¬ z < 0) (hN : z.toNatClampNeg = N) (hby : N * componentBytes ty ≤ 536870912) (h1 : k + 1 ≤ R.cells) (h2 : n + N ≤ R.slots) (d : decode cc pc = .ok (.newarray atype, 2)) (hp : pc + 2 = pc') (ek : k + 1 = k') (en : n + N = n') (kk : ∀ q : Nat, gw_W E pc' lv (.ref q :: st) (gw_st [(q, .inl (D.2 t0, a0))] Ws) k' n') : gw_W E pc lv (.int z :: st) Ws k n := by
  subst hp
  subst ek
  subst en
  obtain ⟨p, e, s, m, args, below, meth, c, A, l1, D1, R1, Q1⟩ := E
  obtain ⟨rfl, rfl, rfl, hQ, hx, hb, hml, hr, hlk, hown, hts, hK, hA, hST, hfl⟩ := X
  intro ws hw0 H locs ls hP hD hS hl
  refine va_newa hx hb (hts _ harr) hty hK.1 hP hD hS hA ha hz hN hby h1 h2 d (fun q cA H1 hK1 hP1 hD1 hS1 => ?_)
  have e1 : s.vm.findClass ("[" ++ ty.toString) = some cA := hobj s cA (hK1.2 (gw_ty D1.2).length (cA, ty) (by rw [List.getElem?_append_right (Nat.le_refl _), Nat.sub_self]; rfl)).2
  have e2 : s.vm.findClass ("[" ++ ty.toString) = some (D1.2 t0) := hobj s _ (hK.1.2 t0 _ ht).2
  obtain rfl : cA = D1.2 t0 := Option.some.inj (e1.symm.trans e2)
  exact kk q _ ⟨ws, hw0, rfl⟩ H1 locs ls (gl_P_perm List.perm_append_comm hP1) (gl_D_perm List.perm_append_comm hD1) hS1 hl
theorem gl_anew (X : gw_X E cc nL own ret l D R post) (pc' : Nat) {C : String} (t0 : Nat) {idx : Nat} {z : Int32} {N k' n' : Nat} (hcl : Cond.classLink own idx C ∈ lw_all) (hao : ∀ U, gw_K2 U → va_AO C U) (ht : (gw_ty D.2)[t0]? = some (D.2 t0, .object C)) (hz : ¬ z < 0) (hN : z.toNatClampNeg = N) (hby : N * 4 ≤ 536870912) (h1 : k + 1 ≤ R.cells) (h2 : n + N ≤ R.slots) (d : decode cc pc = .ok (.anewarray idx, 3)) (hp : pc + 3 = pc') (ek : k + 1 = k') (en : n + N = n') (kk : ∀ q : Nat, gw_W E pc' lv (.ref q :: st) (gw_st [(q, .inl (D.2 t0, N, .inr (.inr (.inr (.inr (fun _ => none))))))] Ws) k' n') : gw_W E pc lv (.int z :: st) Ws k n := by
  subst hp
  subst ek
  subst en
  obtain ⟨p, e, s, m, args, below, meth, c, A, l1, D1, R1, Q1⟩ := E
  obtain ⟨rfl, rfl, rfl, hQ, hx, hb, hml, hr, hlk, hown, hts, hK, hA, hST, hfl⟩ := X
  intro ws hw0 H locs ls hP hD hS hl
  refine va_newq hx hb hown (hts _ hcl) (hao s hK.2.2) hK.1 hP hD hS hA hz hN hby h1 h2 d (fun q cA H1 hK1 hP1 hD1 hS1 => ?_)
  obtain ⟨_, _, _, _, _, e1⟩ := (hK1.2 (gw_ty D1.2).length (cA, .object C) (by rw [List.getElem?_append_right (Nat.le_refl _), Nat.sub_self]; rfl)).2
  obtain ⟨_, _, _, _, _, e2⟩ := (hK.1.2 t0 _ ht).2
  obtain rfl : cA = D1.2 t0 := Option.some.inj (e1.symm.trans e2)
  exact kk q _ ⟨ws, hw0, rfl⟩ H1 locs ls (gl_P_perm List.perm_append_comm hP1) (gl_D_perm List.perm_append_comm hD1) hS1 hl
theorem gl_aald (X : gw_X E cc nL own ret l D R post) (pc' : Nat) {C : String} {t0 q0 b N : Nat} {f : Nat → Option Nat} {i : Int32} {v : Value} (he : ∀ ws, Ws ws → ws[q0]? = some (b, .inl (D.2 t0, N, .inr (.inr (.inr (.inr f)))))) (ht : (gw_ty D.2)[t0]? = some (D.2 t0, .object C)) (hin : vp_in i N) (hv : va_rf (f i.toNatClampNeg) = v) (d : decode cc pc = .ok (.aaload, 1)) (hp : pc + 1 = pc') (kk : gw_W E pc' lv (v :: st) Ws k n) : gw_W E pc lv (.int i :: .ref b :: st) Ws k n := by
  subst hp
  subst hv
  obtain ⟨p, e, s, m, args, below, meth, c, A, l1, D1, R1, Q1⟩ := E
  obtain ⟨rfl, rfl, rfl, hQ, hx, hb, hml, hr, hlk, hown, hts, hK, hA, hST, hfl⟩ := X
  intro ws hw0 H locs ls hP hD hS hl
  exact va_aldq hx hb hK.1 hP q0 t0 (he ws hw0) ht hin d (kk ws hw0 H locs ls hP hD hS hl)
theorem gl_aast (X : gw_X E cc nL own ret l D R post) (pc' : Nat) {t0 q0 qk ci b x N : Nat} {r : vw_C} {vs : List Value} {f : Nat → Option Nat} {i : Int32} (he : ∀ ws, Ws ws → ws[q0]? = some (b, .inl (D.2 t0, N, .inr (.inr (.inr (.inr f)))))) (ht : (gw_ty D.2)[t0]? = some (D.2 t0, .object r.1)) (hv : ∀ ws, Ws ws → ws[qk]? = some (x, .inr (ci, vs))) (hc : gw_cl[ci]? = some r) (hin : vp_in i N) (hw : ∀ ws, Ws ws → Ws' (ws.set q0 (b, .inl (D.2 t0, N, .inr (.inr (.inr (.inr (va_up f i.toNatClampNeg (some x))))))))) (d : decode cc pc = .ok (.aastore, 1)) (hp : pc + 1 = pc') (kk : gw_W E pc' lv st Ws' k n) : gw_W E pc lv (.ref x :: .int i :: .ref b :: st) Ws k n := by
  subst hp
  obtain ⟨p, e, s, m, args, below, meth, c, A, l1, D1, R1, Q1⟩ := E
  obtain ⟨rfl, rfl, rfl, hQ, hx, hb, hml, hr, hlk, hown, hts, hK, hA, hST, hfl⟩ := X
  intro ws hw0 H locs ls hP hD hS hl
  exact va_astq hx hb hK.1 hP hD hS q0 t0 qk ci (he ws hw0) ht (hv ws hw0) hc hin d (fun H1 locs1 hP1 hD1 hS1 => kk _ (hw ws hw0) H1 locs1 ls hP1 hD1 hS1 hl)
theorem gl_aastO (X : gw_X E cc nL own ret l D R post) (pc' : Nat) {t0 q0 qk ci b x N : Nat} {Eo : String} {r : vw_C} {vs : List Value} {f : Nat → Option Nat} {i : Int32} (he : ∀ ws, Ws ws → ws[q0]? = some (b, .inl (D.2 t0, N, .inr (.inr (.inr (.inr f)))))) (ht : (gw_ty D.2)[t0]? = some (D.2 t0, .object Eo)) (hca : Cond.castable r.1 Eo ∈ lw_tbl) (hv : ∀ ws, Ws ws → ws[qk]? = some (x, .inr (ci, vs))) (hc : gw_cl[ci]? = some r) (hin : vp_in i N) (hw : ∀ ws, Ws ws → Ws' (ws.set q0 (b, .inl (D.2 t0, N, .inr (.inr (.inr (.inr (va_up f i.toNatClampNeg (some x))))))))) (d : decode cc pc = .ok (.aastore, 1)) (hp : pc + 1 = pc') (kk : gw_W E pc' lv st Ws' k n) : gw_W E pc lv (.ref x :: .int i :: .ref b :: st) Ws k n := by
  subst hp
  obtain ⟨p, e, s, m, args, below, meth, c, A, l1, D1, R1, Q1⟩ := E
  obtain ⟨rfl, rfl, rfl, hQ, hx, hb, hml, hr, hlk, hown, hts, hK, hA, hST, hfl⟩ := X
  intro ws hw0 H locs ls hP hD hS hl
  exact va_astqO hx hb hK.1 hP hD hS q0 t0 qk ci (he ws hw0) ht (hK.2.1 _ hca rfl) (hv ws hw0) hc hin d (fun H1 locs1 hP1 hD1 hS1 => kk _ (hw ws hw0) H1 locs1 ls hP1 hD1 hS1 hl)
theorem gl_aastN (X : gw_X E cc nL own ret l D R post) (pc' : Nat) {C : String} {t0 q0 b N : Nat} {f : Nat → Option Nat} {i : Int32} (he : ∀ ws, Ws ws → ws[q0]? = some (b, .inl (D.2 t0, N, .inr (.inr (.inr (.inr f)))))) (ht : (gw_ty D.2)[t0]? = some (D.2 t0, .object C)) (hin : vp_in i N) (hw : ∀ ws, Ws ws → Ws' (ws.set q0 (b, .inl (D.2 t0, N, .inr (.inr (.inr (.inr (va_up f i.toNatClampNeg none)))))))) (d : decode cc pc = .ok (.aastore, 1)) (hp : pc + 1 = pc') (kk : gw_W E pc' lv st Ws' k n) : gw_W E pc lv (.null :: .int i :: .ref b :: st) Ws k n := by
  subst hp
  obtain ⟨p, e, s, m, args, below, meth, c, A, l1, D1, R1, Q1⟩ := E
  obtain ⟨rfl, rfl, rfl, hQ, hx, hb, hml, hr, hlk, hown, hts, hK, hA, hST, hfl⟩ := X
  intro ws hw0 H locs ls hP hD hS hl
  exact va_astqN hx hb hK.1 hP hD hS q0 t0 (he ws hw0) ht hin d (fun H1 locs1 hP1 hD1 hS1 => kk _ (hw ws hw0) H1 locs1 ls hP1 hD1 hS1 hl)
theorem gl_alen (X : gw_X E cc nL own ret l D R post) (pc' : Nat) {t0 q0 b : Nat} {cA : ClassId} {x : vp_A} {ty : FieldType} {v : Int32} (he : ∀ ws, Ws ws → ws[q0]? = some (b, .inl (cA, x))) (ht : (gw_ty D.2)[t0]? = some (cA, ty)) (hv : Int32.ofNat x.1 = v) (d : decode cc pc = .ok (.arraylength, 1)) (hp : pc + 1 = pc') (kk : gw_W E pc' lv (.int v :: st) Ws k n) : gw_W E pc lv (.ref b :: st) Ws k n := by
  subst hp
  obtain ⟨p, e, s, m, args, below, meth, c, A, l1, D1, R1, Q1⟩ := E
  obtain ⟨rfl, rfl, rfl, hQ, hx, hb, hml, hr, hlk, hown, hts, hK, hA, hST, hfl⟩ := X
  intro ws hw0 H locs ls hP hD hS hl
  exact va_alen hx hb hK.1 hP q0 t0 (he ws hw0) ht hv d (kk ws hw0 H locs ls hP hD hS hl)
theorem gl_iast (X : gw_X E cc nL own ret l D R post) (pc' : Nat) {q0 b N : Nat} {f : Nat → Int32} {i x : Int32} (he : ∀ ws, Ws ws → ws[q0]? = some (b, .inl (D.2 0, N, .inl f))) (hin : vp_in i N) (hw : ∀ ws, Ws ws → Ws' (ws.set q0 (b, .inl (D.2 0, N, .inl (upd f i.toNatClampNeg x))))) (d : decode cc pc = .ok (.iastore, 1)) (hp : pc + 1 = pc') (kk : gw_W E pc' lv st Ws' k n) : gw_W E pc lv (.int x :: .int i :: .ref b :: st) Ws k n := by
  subst hp
  obtain ⟨p, e, s, m, args, below, meth, c, A, l1, D1, R1, Q1⟩ := E
  obtain ⟨rfl, rfl, rfl, hQ, hx, hb, hml, hr, hlk, hown, hts, hK, hA, hST, hfl⟩ := X
  intro ws hw0 H locs ls hP hD hS hl
  exact va_iast hx hb hK.1 hP hD hS q0 0 (he ws hw0) rfl hin d (fun H1 locs1 hP1 hD1 hS1 => kk _ (hw ws hw0) H1 locs1 ls hP1 hD1 hS1 hl)
theorem gl_acmp_eq (X : gw_X E cc nL own ret l D R post) (pt pf : Nat) {x y : Nat} {off : Int} (d : decode cc pc = .ok (.if_acmp .eq off, 3)) (ht : (pc : Int) + off = (pt : Int)) (hp : pc + 3 = pf) (kt : x = y → gw_W E pt lv st Ws k n) (kf : ¬ x = y → gw_W E pf lv st Ws k n) : gw_W E pc lv (.ref y :: .ref x :: st) Ws k n := by
  subst hp
  obtain ⟨p, e, s, m, args, below, meth, c, A, l1, D1, R1, Q1⟩ := E
  obtain ⟨rfl, rfl, rfl, hQ, hx, hb, hml, hr, hlk, hown, hts, hK, hA, hST, hfl⟩ := X
  intro ws hw0 H locs ls hP hD hS hl
  exact lv_acmp_eq (rx := some x) (ry := some y) hx hb d ht (fun z => kt (Option.some.inj z) ws hw0 H locs ls hP hD hS hl) (fun z => kf (fun e => z (by rw [e])) ws hw0 H locs ls hP hD hS hl)
theorem gl_acmp_ne (X : gw_X E cc nL own ret l D R post) (pt pf : Nat) {x y : Nat} {off : Int} (d : decode cc pc = .ok (.if_acmp .ne off, 3)) (ht : (pc : Int) + off = (pt : Int)) (hp : pc + 3 = pf) (kt : ¬ x = y → gw_W E pt lv st Ws k n) (kf : x = y → gw_W E pf lv st Ws k n) : gw_W E pc lv (.ref y :: .ref x :: st) Ws k n := by
  subst hp
  obtain ⟨p, e, s, m, args, below, meth, c, A, l1, D1, R1, Q1⟩ := E
  obtain ⟨rfl, rfl, rfl, hQ, hx, hb, hml, hr, hlk, hown, hts, hK, hA, hST, hfl⟩ := X
  intro ws hw0 H locs ls hP hD hS hl
  exact lv_acmp_ne (rx := some x) (ry := some y) hx hb d ht (fun z => kt (fun e => z (by rw [e])) ws hw0 H locs ls hP hD hS hl) (fun z => kf (Option.some.inj z) ws hw0 H locs ls hP hD hS hl)
theorem gl_objInit (X : gw_X E cc nL own ret l D R post) (pc' : Nat) {idx b : Nat} (hl0 : Cond.methodLink own idx Lib.objectInit ∈ lw_all) (hi0 : Cond.instanceMethod Lib.objectInit ∈ lw_all) (hc0 : Cond.code Lib.objectInit ⟨#[0xb1]⟩ 1 none ∈ lw_all) (hR : (Nat.ble 1 R.frames && Nat.ble 20 R.locals) = true) (h8 : gw_cat st = true) (d : decode cc pc = .ok (.invokespecial idx, 3)) (hp : pc + 3 = pc') (kk : gw_W E pc' lv st Ws k n) : gw_W E pc lv (.ref b :: st) Ws k n := by
  subst hp
  simp only [Bool.and_eq_true] at hR
  have r1 := Nat.le_of_ble_eq_true hR.1
  have r2 := Nat.le_of_ble_eq_true hR.2
  have r8 := Nat.le_of_ble_eq_true h8
  obtain ⟨p, e, s, m, args, below, meth, c, A, l1, D1, R1, Q1⟩ := E
  obtain ⟨rfl, rfl, rfl, hQ, hx, hb, hml, hr, hlk, hown, hts, hK, hA, hST, hfl⟩ := X
  intro ws hw0 H locs ls hP hD hS hl
  exact W.objInit hx hb hown (hts _ hl0) (hts _ hi0) (hts _ hc0) rfl hl.1 rfl d r1 (by have := lv_room (m := m) (pc := pc) (ls := ls) (rest := st) r8; show 2 * 0 + _ + 12 ≤ _; omega) (kk ws hw0 H locs ls hP hD hS hl)
theorem gl_callI (X : gw_X E cc nL own ret l D R post) (pc' : Nat) (As : List Value) {y : MethodName} {bc : ByteArray} {L idx bb : Nat} {rm : Room} {pst : Option Value → va_W → Prop} {st0 : List Value} (hM : gw_Ct D l y bc L none rm (.ref bb :: As) Ws pst) (hl1 : Cond.methodLink own idx y ∈ lw_all) (hg : GoodIn lw_all (ws_ y bc L none)) (hi1 : Cond.instanceMethod y ∈ lw_all) (hi : Cond.initialized y.cls ∈ lw_all) (hy1 : y.name = "<init>") (hd : y.cls ≠ "java/lang/invoke/MethodHandle" ∧ y.cls ≠ "java/lang/invoke/VarHandle" ∧ (parseMethodDescriptor y.desc).map (fun d => d.parameters.length) = some As.length) (hR : gw_fit rm R L k n = true) (hst : st0 = As.reverse ++ .ref bb :: st) (h8 : gw_cat st = true) (d : decode cc pc = .ok (.invokespecial idx, 3)) (hp : pc + 3 = pc') (kk : ∀ (v : Option Value) (u : va_W), pst v u → gw_w E pc' lv (v.toList ++ st) u (k + rm.cells) (n + rm.slots)) : gw_W E pc lv st0 Ws k n := by
  subst hp
  have hf := gw_fit_of hR
  obtain ⟨p, e, s, m, args, below, meth, c, A, l1, D1, R1, Q1⟩ := E
  obtain ⟨rfl, rfl, rfl, hQ, hx, hb, hml, hr, hlk, hown, hts, hK, hA, hST, hfl⟩ := X
  intro ws hw0 H locs ls hP hD hS hl
  exact gw_back (va_runI (As := As) (rest := st) ⟨hx, hb, hml, hown, hts⟩ (hM hfl ws hw0 H.size) (cwI As.length hts hg rfl rfl rfl (hts _ hi) (hts _ hl1) (hts _ hi1) hy1 hd hf.1) ⟨gw_blind, gw_pre hP hK hD hS hA hST⟩ rfl rfl (hl.1.trans hml) hst (lv_room (Nat.le_of_ble_eq_true h8)) d hf.2) hD hS hA (fun v u hp H1 locs1 hP1 hD1 hS1 => kk v u hp H1 locs1 ls hP1 hD1 hS1 hl)
theorem gl_callIv (X : gw_X E cc nL own ret l D R post) (pc' : Nat) (As : List Value) {y : MethodName} {bc : ByteArray} {L idx bb : Nat} {rm : Room} {st0 : List Value} {k' n' : Nat} (hM : gw_Ct D l y bc L none rm (.ref bb :: As) Ws (gw_pV Ws')) (hl1 : Cond.methodLink own idx y ∈ lw_all) (hg : GoodIn lw_all (ws_ y bc L none)) (hi1 : Cond.instanceMethod y ∈ lw_all) (hi : Cond.initialized y.cls ∈ lw_all) (hy1 : y.name = "<init>") (hd : y.cls ≠ "java/lang/invoke/MethodHandle" ∧ y.cls ≠ "java/lang/invoke/VarHandle" ∧ (parseMethodDescriptor y.desc).map (fun d => d.parameters.length) = some As.length) (hR : gw_fit rm R L k n = true) (hst : st0 = As.reverse ++ .ref bb :: st) (h8 : gw_cat st = true) (d : decode cc pc = .ok (.invokespecial idx, 3)) (hp : pc + 3 = pc') (hk' : k + rm.cells = k') (hn' : n + rm.slots = n') (kk : gw_W E pc' lv st Ws' k' n') : gw_W E pc lv st0 Ws k n := by
  subst hk'
  subst hn'
  exact gl_callI X pc' As hM hl1 hg hi1 hi hy1 hd hR hst h8 d hp (fun v u h => by obtain ⟨rfl, h⟩ := h; exact kk u h)
theorem gl_callIN (X : gw_X E cc nL own ret l D R post) (pc' : Nat) (As : List Value) {y : MethodName} {bc : ByteArray} {L idx bb : Nat} {rm : Room} {pst : Option Value → va_W → Prop} {st0 : List Value} (hM : gw_Ct D l y bc L none rm (.ref bb :: As) Ws pst) {host : String} (hl1 : Cond.methodLinkNest own idx y host ∈ lw_tbl) (hg : GoodIn lw_all (ws_ y bc L none)) (hi1 : Cond.instanceMethod y ∈ lw_all) (hi : Cond.initialized y.cls ∈ lw_all) (hy1 : y.name = "<init>") (hd : y.cls ≠ "java/lang/invoke/MethodHandle" ∧ y.cls ≠ "java/lang/invoke/VarHandle" ∧ (parseMethodDescriptor y.desc).map (fun d => d.parameters.length) = some As.length) (hR : gw_fit rm R L k n = true) (hst : st0 = As.reverse ++ .ref bb :: st) (h8 : gw_cat st = true) (d : decode cc pc = .ok (.invokespecial idx, 3)) (hp : pc + 3 = pc') (kk : ∀ (v : Option Value) (u : va_W), pst v u → gw_w E pc' lv (v.toList ++ st) u (k + rm.cells) (n + rm.slots)) : gw_W E pc lv st0 Ws k n := by
  subst hp
  have hf := gw_fit_of hR
  obtain ⟨p, e, s, m, args, below, meth, c, A, l1, D1, R1, Q1⟩ := E
  obtain ⟨rfl, rfl, rfl, hQ, hx, hb, hml, hr, hlk, hown, hts, hK, hA, hST, hfl⟩ := X
  intro ws hw0 H locs ls hP hD hS hl
  exact gw_back (va_runIN (As := As) (rest := st) ⟨hx, hb, hml, hown, hts⟩ (hM hfl ws hw0 H.size) (⟨va_cnB As.length hts hg rfl rfl rfl (hK.2.1 _ hl1 rfl) (hts _ hi) hd hf.1, hy1, hts _ hi1⟩) ⟨gw_blind, gw_pre hP hK hD hS hA hST⟩ rfl rfl (hl.1.trans hml) hst (lv_room (Nat.le_of_ble_eq_true h8)) d hf.2) hD hS hA (fun v u hp H1 locs1 hP1 hD1 hS1 => kk v u hp H1 locs1 ls hP1 hD1 hS1 hl)
theorem gl_callINv (X : gw_X E cc nL own ret l D R post) (pc' : Nat) (As : List Value) {y : MethodName} {bc : ByteArray} {L idx bb : Nat} {rm : Room} {st0 : List Value} {k' n' : Nat} (hM : gw_Ct D l y bc L none rm (.ref bb :: As) Ws (gw_pV Ws')) {host : String} (hl1 : Cond.methodLinkNest own idx y host ∈ lw_tbl) (hg : GoodIn lw_all (ws_ y bc L none)) (hi1 : Cond.instanceMethod y ∈ lw_all) (hi : Cond.initialized y.cls ∈ lw_all) (hy1 : y.name = "<init>") (hd : y.cls ≠ "java/lang/invoke/MethodHandle" ∧ y.cls ≠ "java/lang/invoke/VarHandle" ∧ (parseMethodDescriptor y.desc).map (fun d => d.parameters.length) = some As.length) (hR : gw_fit rm R L k n = true) (hst : st0 = As.reverse ++ .ref bb :: st) (h8 : gw_cat st = true) (d : decode cc pc = .ok (.invokespecial idx, 3)) (hp : pc + 3 = pc') (hk' : k + rm.cells = k') (hn' : n + rm.slots = n') (kk : gw_W E pc' lv st Ws' k' n') : gw_W E pc lv st0 Ws k n := by
  subst hk'
  subst hn'
  exact gl_callIN X pc' As hM hl1 hg hi1 hi hy1 hd hR hst h8 d hp (fun v u h => by obtain ⟨rfl, h⟩ := h; exact kk u h)
end GLR
