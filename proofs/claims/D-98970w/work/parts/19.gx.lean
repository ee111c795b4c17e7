/-! throws, at the frame's level: gx_W (q is thrown here), contracts of methods that may throw (gx_Ct) or have handlers (gw_CtH) -/
set_option maxRecDepth 100000
def gx_XC (D : gw_D) (xp : Nat → String → va_W → Prop) (A : Nat → Prop) : Addr → String → State → State → Prop := fun q C st t => (∃ u : va_W, xp q C u ∧ va_P D.1 gw_cl u t.heap ∧ va_D A u) ∧ va_F A st t
def gx_Ct (D : gw_D) (l : Launch) (y : MethodName) (cc : ByteArray) (nL : Nat) (ret : Option FieldType) (rm : Room) (As : List Value) (Ws : va_W → Prop) (post : Option Value → va_W → Prop) (xp : Nat → String → va_W → Prop) : Prop :=
  l.stackTraces = false → ∀ (ws : va_W), Ws ws → ∀ sz : Nat, vy_Met l y (ws_ y cc nL ret) rm (va_Pc As (gw_B D ws sz)) (gw_Q D post (va_A ws sz)) (gx_XC D xp (va_A ws sz)) rm.cells rm.slots (va_A ws sz)
def gw_CtH (D : gw_D) (l : Launch) (y : MethodName) (cc : ByteArray) (nL : Nat) (ret : Option FieldType) (hh : List (Nat × Nat × Nat × Nat)) (rm : Room) (As : List Value) (Ws : va_W → Prop) (post : Option Value → va_W → Prop) : Prop :=
  l.stackTraces = false → ∀ (ws : va_W), Ws ws → ∀ sz : Nat, Met l y (wsW_ y cc nL ret hh) rm (va_Pc As (gw_B D ws sz)) (gw_Q D post (va_A ws sz)) rm.cells rm.slots (va_A ws sz)
/-- what a method that may throw owes; it has no handlers -/
def gx_X (E : gw_E) (post : Option Value → va_W → Prop) (xp : Nat → String → va_W → Prop) : Prop :=
  match E with
  | (_, _, s, _, args, below, _, c, A, _, D, R, Q) => Q = vy_MQ below (gw_Q D post A) (gx_XC D xp A) args s R.cells R.slots A ∧ ∀ x ∈ c.exceptionTable.toList, False
/-- the handlers -/
def gx_H (E : gw_E) (hh : List (Nat × Nat × Nat × Nat)) : Prop :=
  match E with
  | (_, _, _, _, _, _, _, c, _, _, _, _, _) => c.exceptionTable.toList = tableOf hh
def gx_W (E : gw_E) (pc : Nat) (lv : List (Nat × Value)) (Ws : va_W → Prop) (k n q : Nat) (C : String) : Prop :=
  match E with
  | (p, e, s, m, args, below, meth, c, A, l, D, R, Q) => ∀ (ws : va_W), Ws ws → ∀ (H : Heap) (locs : List Loc) (ls : Array Slot) (ce : Cell) (rest : List Value), va_P D.1 gw_cl ws H → va_D A ws → va_S A s.heap H locs → lv_has ls c.maxLocals lv → H[q]? = some ce → ce.vm = .none → s.vm.findClass C = some ce.cls → vx_W p l e R s m args below meth c H locs k n Q (F0 m pc ls rest) q
theorem gx_ct {D : gw_D} {l : Launch} {y : MethodName} {cc : ByteArray} {nL : Nat} {ret : Option FieldType} {rm : Room} {As : List Value} {Ws : va_W → Prop} {post : Option Value → va_W → Prop} {xp : Nat → String → va_W → Prop} {own : String} (lv0 : List (Nat × Value)) (hy : plainName y.cls = true) (hyc : y.cls = own) (hlen : (lg_sl As).length ≤ nL) (hl0 : lv_args 0 As = lv0)
    (body : ∀ E : gw_E, gw_X E cc nL own ret l D rm none → gx_X E post xp → gw_W E 0 lv0 [] Ws 0 0) : gx_Ct D l y cc nL ret rm As Ws post xp := by
  intro hfl ws hws sz
  refine vy_ofW (cc := cc) (maxL := nL) (ret := ret) hy rfl ?_
  intro p e s m args below meth c s₁ B hml hex hv
  obtain ⟨rfl, hsz, hP, hK, hD0, hST⟩ := hv
  have hts := atoms_spec (ws := ws_ y cc nL ret) B.pre
  have hts : ∀ w ∈ lw_all, w.before _ s = true := fun w h => hts w (List.mem_cons_of_mem _ h)
  have hown : s.vm.findClass own = some m.cls := hyc ▸ findClass_of_methodNamed B.named
  subst hsz
  have hD := hD0.self (sz := s.heap.size)
  have hl := lv_entry As (n := nL) hlen
  rw [lg_entry_eq]
  subst hl0
  exact body (p, e, s, m, As.toArray, below, meth, c, va_A ws s.heap.size, l, D, rm, vy_MQ below (gw_Q D post (va_A ws s.heap.size)) (gx_XC D xp (va_A ws s.heap.size)) As.toArray s rm.cells rm.slots (va_A ws s.heap.size)) ⟨rfl, rfl, rfl, fun q hq => (nomatch hq), B.exec, B.bytes, hml, B.returns, B.notSynchronized, hown, hts, hK, fun q h => Or.inr h, hST, hfl⟩ ⟨rfl, hex⟩ ws hws s.heap [] _ hP hD va_S.rf (by rw [hml]; exact hl)
theorem gw_ctH {D : gw_D} {l : Launch} {y : MethodName} {cc : ByteArray} {nL : Nat} {ret : Option FieldType} {hh : List (Nat × Nat × Nat × Nat)} {rm : Room} {As : List Value} {Ws : va_W → Prop} {post : Option Value → va_W → Prop} {own : String} (lv0 : List (Nat × Value)) (hy : plainName y.cls = true) (hyc : y.cls = own) (hlen : (lg_sl As).length ≤ nL) (hl0 : lv_args 0 As = lv0)
    (body : ∀ E : gw_E, gw_X E cc nL own ret l D rm (some post) → gx_H E hh → gw_W E 0 lv0 [] Ws 0 0) : gw_CtH D l y cc nL ret hh rm As Ws post := by
  intro hfl ws hws sz
  refine vy_ofWM (cc := cc) (maxL := nL) (ret := ret) (hh := hh) hy rfl ?_
  intro p e s m args below meth c s₁ B hml hv
  obtain ⟨rfl, hsz, hP, hK, hD0, hST⟩ := hv
  have hts0 := atoms_spec (ws := wsW_ y cc nL ret hh) B.pre
  have hts : ∀ w ∈ lw_all, w.before _ s = true := fun w h => hts0 w (List.mem_cons_of_mem _ h)
  have htb := vx_table (x := y) B (hts0 _ List.mem_cons_self)
  have hown : s.vm.findClass own = some m.cls := hyc ▸ findClass_of_methodNamed B.named
  subst hsz
  have hD := hD0.self (sz := s.heap.size)
  have hl := lv_entry As (n := nL) hlen
  rw [lg_entry_eq]
  subst hl0
  exact body (p, e, s, m, As.toArray, below, meth, c, va_A ws s.heap.size, l, D, rm, MQ below (gw_Q D post (va_A ws s.heap.size)) As.toArray s rm.cells rm.slots (va_A ws s.heap.size)) ⟨rfl, rfl, rfl, fun q hq => by cases hq; rfl, B.exec, B.bytes, hml, B.returns, B.notSynchronized, hown, hts, hK, fun q h => Or.inr h, hST, hfl⟩ htb ws hws s.heap [] _ hP hD va_S.rf (by rw [hml]; exact hl)
section GXR
variable {E : gw_E} {cc : ByteArray} {nL : Nat} {own : String} {ret : Option FieldType} {l : Launch} {D : gw_D} {R : Room} {post : Option (Option Value → va_W → Prop)} {pst0 : Option Value → va_W → Prop} {xp : Nat → String → va_W → Prop} {hh : List (Nat × Nat × Nat × Nat)}
variable {pc : Nat} {lv : List (Nat × Value)} {st : List Value} {ws : va_W} {Ws Ws' : va_W → Prop} {k n q : Nat} {C : String}
/-- a return of a method that may throw: as if it could not -/
theorem gx_ret (X : gw_X E cc nL own ret l D R none) (Y : gx_X E pst0 xp) (h : ∀ E' : gw_E, gw_X E' cc nL own ret l D R (some pst0) → gw_W E' pc lv st Ws k n) : gw_W E pc lv st Ws k n := by
  obtain ⟨p, e, s, m, args, below, meth, c, A, l1, D1, R1, Q1⟩ := E
  obtain ⟨rfl, rfl, rfl, hQ, hX⟩ := X
  obtain ⟨rfl, hex⟩ := Y
  intro ws hw0 H locs ls hP hD hS hl
  exact vy_ret (h (p, e, s, m, args, below, meth, c, A, l1, D1, R1, MQ below (gw_Q D1 pst0 A) args s R1.cells R1.slots A) ⟨rfl, rfl, rfl, fun q hq => by cases hq; rfl, hX⟩ ws hw0 H locs ls hP hD hS hl)
/-- it goes on to the caller -/
theorem gx_out (X : gw_X E cc nL own ret l D R none) (Y : gx_X E pst0 xp) (h : ∀ ws, Ws ws → xp q C ws) (hk : k ≤ R.cells) (hn : n ≤ R.slots) : gx_W E pc lv Ws k n q C := by
  obtain ⟨p, e, s, m, args, below, meth, c, A, l1, D1, R1, Q1⟩ := E
  obtain ⟨rfl, rfl, rfl, hQ, hx, hb, hml, hr, hlk, hown, hts, hK, hA, hST, hfl⟩ := X
  obtain ⟨rfl, hex⟩ := Y
  intro ws hw0 H locs ls ce rest hP hD hS hl hce hv hcl
  exact vy_out (fun x hx => (hex x hx).elim) hlk hce hv hcl (fun t ht _ => ⟨⟨ws, h ws hw0, by rw [ht]; exact hP, hD⟩, hS.F ht⟩) hS.2.2 hk hn
theorem gx_widen {k' n' : Nat} (h1 : k ≤ k') (h2 : n ≤ n') (kk : gx_W E pc lv Ws k' n' q C) : gx_W E pc lv Ws k n q C := by
  obtain ⟨p, e, s, m, args, below, meth, c, A, l1, D1, R1, Q1⟩ := E
  intro ws hw0 H locs ls ce rest hP hD hS hl hce hv hcl
  exact vx_widen h1 h2 (kk ws hw0 H locs ls ce rest hP hD hS hl hce hv hcl)
theorem gx_ww (h : ∀ ws, Ws ws → Ws' ws) (kk : gx_W E pc lv Ws' k n q C) : gx_W E pc lv Ws k n q C := by
  obtain ⟨p, e, s, m, args, below, meth, c, A, l1, D1, R1, Q1⟩ := E
  intro ws hw0
  exact kk ws (h ws hw0)
/-- caught -/
theorem gx_catch (X : gw_X E cc nL own ret l D R post) (Y : gx_H E hh) (pc' : Nat) {T : String} (pre : List ExceptionTableEntry) (x : ExceptionTableEntry) (suf : List ExceptionTableEntry) (hsplit : tableOf hh = pre ++ x :: suf)
    (hpass : ∀ z ∈ pre, covers z pc = false ∨ (z.catchType ≠ 0 ∧ ∃ nm : String, Cond.classLink own z.catchType nm ∈ lw_all ∧ (C, nm) ∈ gw_nc)) (hx0 : covers x pc = true) (h0 : x.catchType ≠ 0)
    (hlink : Cond.classLink own x.catchType T ∈ lw_all) (hcast : Cond.castable C T ∈ lw_tbl) (hpc : x.handlerPc = pc')
    (kk : gw_W E pc' lv [.ref q] Ws k n) : gx_W E pc lv Ws k n q C := by
  subst hpc
  obtain ⟨p, e, s, m, args, below, meth, c, A, l1, D1, R1, Q1⟩ := E
  obtain ⟨rfl, rfl, rfl, hQ, hx, hb, hml, hr, hlk, hown, hts, hK, hA, hST, hfl⟩ := X
  intro ws hw0 H locs ls ce rest hP hD hS hl hce hv hcl
  refine vx_catch (own := own) hown pre x suf (Y.trans hsplit) (fun z hz => ?_) hx0 h0 (hts _ hlink) (va_Nw.use rfl (hK.2.1 _ hcast rfl)) hce hv hcl (kk ws hw0 H locs ls hP hD hS hl)
  rcases hpass z hz with h | ⟨h1, nm, h2, h3⟩
  · exact Or.inl h
  · exact Or.inr ⟨h1, nm, hts _ h2, hK.2.2.2.2 _ h3⟩
end GXR
