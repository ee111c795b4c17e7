/-! KINDS OF ACTS: the list of them, not made yet or made; calls of super and of an abstract method -/
set_option maxRecDepth 100000
def wKf (b : Nat → Nat) : Nat → Option Nat := va_up (va_up (va_up (va_up (va_up (fun _ => none) 0 (some (b 1))) 1 (some (b 2))) 2 (some (b 3))) 3 (some (b 4))) 4 (some (b 5))
def wK (D : gw_D) (a b : Nat → Nat) : va_W := [(a 14, .inr (11, [.int 5, .ref (b 0), .int 5])), (b 0, .inl (D.2 6, 10, .inr (.inr (.inr (.inr (wKf b)))))), (b 1, .inr (6, [.ref (a 0)])), (b 2, .inr (7, [.ref (a 0), .ref (a 0)])), (b 3, .inr (8, [.ref (a 0)])), (b 4, .inr (9, [.ref (a 0)])), (b 5, .inr (10, [.ref (a 0)]))]
def gK (D : gw_D) (a : Nat → Nat) : va_W → Prop := fun w => w = [(a 14, .inr (11, [.int 0, .ref (D.2 100), .int 0]))] ∨ ∃ b : Nat → Nat, w = wK D a b
section GKR
variable {E : gw_E} {cc : ByteArray} {nL : Nat} {own : String} {ret : Option FieldType} {l : Launch} {D : gw_D} {R : Room} {post : Option (Option Value → va_W → Prop)} {pc : Nat} {lv : List (Nat × Value)} {st : List Value} {Ws Ws' : va_W → Prop} {Wr : va_W → Prop} {k n : Nat} {a b : Nat → Nat} {σ : gw_S}
theorem gA_g1 (X : gw_X E cc nL own ret l D R post) (pc' : Nat) {idx : Nat} (hlk : Cond.fieldLink own idx "CardHolder$Ask" "this$0" "LCardHolder;" ∈ lw_all) (d : decode cc pc = .ok (.getfield idx, 3)) (hp : pc + 3 = pc') (kk : gw_W E pc' lv (.ref (a 0) :: st) (gw_st (wX D a σ) (gw_st (wK D a b) Wr)) k n) : gw_W E pc lv (.ref (b 1) :: st) (gw_st (wX D a σ) (gw_st (wK D a b) Wr)) k n :=
  gl_get (q0 := 16) (fs := [.ref (a 0)]) X pc' in_X7 gl_cl6 (by rintro _ ⟨_, ⟨_, _, rfl⟩, rfl⟩; rfl) 0 (by decide) hlk rfl rfl d hp kk
theorem gA_g2 (X : gw_X E cc nL own ret l D R post) (pc' : Nat) {idx : Nat} (hlk : Cond.fieldLink own idx "CardHolder$Give" "this$0" "LCardHolder;" ∈ lw_all) (d : decode cc pc = .ok (.getfield idx, 3)) (hp : pc + 3 = pc') (kk : gw_W E pc' lv (.ref (a 0) :: st) (gw_st (wX D a σ) (gw_st (wK D a b) Wr)) k n) : gw_W E pc lv (.ref (b 2) :: st) (gw_st (wX D a σ) (gw_st (wK D a b) Wr)) k n :=
  gl_get (q0 := 17) (fs := [.ref (a 0), .ref (a 0)]) X pc' in_X8 gl_cl7 (by rintro _ ⟨_, ⟨_, _, rfl⟩, rfl⟩; rfl) 1 (by decide) hlk rfl rfl d hp kk
theorem gA_g2a (X : gw_X E cc nL own ret l D R post) (pc' : Nat) {idx : Nat} (hlk : Cond.fieldLink own idx "CardHolder$Ask" "this$0" "LCardHolder;" ∈ lw_all) (d : decode cc pc = .ok (.getfield idx, 3)) (hp : pc + 3 = pc') (kk : gw_W E pc' lv (.ref (a 0) :: st) (gw_st (wX D a σ) (gw_st (wK D a b) Wr)) k n) : gw_W E pc lv (.ref (b 2) :: st) (gw_st (wX D a σ) (gw_st (wK D a b) Wr)) k n :=
  gl_get (q0 := 17) (fs := [.ref (a 0), .ref (a 0)]) X pc' in_X8 gl_cl7 (by rintro _ ⟨_, ⟨_, _, rfl⟩, rfl⟩; rfl) 0 (by decide) hlk rfl rfl d hp kk
theorem gA_g3 (X : gw_X E cc nL own ret l D R post) (pc' : Nat) {idx : Nat} (hlk : Cond.fieldLink own idx "CardHolder$Swap" "this$0" "LCardHolder;" ∈ lw_all) (d : decode cc pc = .ok (.getfield idx, 3)) (hp : pc + 3 = pc') (kk : gw_W E pc' lv (.ref (a 0) :: st) (gw_st (wX D a σ) (gw_st (wK D a b) Wr)) k n) : gw_W E pc lv (.ref (b 3) :: st) (gw_st (wX D a σ) (gw_st (wK D a b) Wr)) k n :=
  gl_get (q0 := 18) (fs := [.ref (a 0)]) X pc' in_X9 gl_cl8 (by rintro _ ⟨_, ⟨_, _, rfl⟩, rfl⟩; rfl) 0 (by decide) hlk rfl rfl d hp kk
theorem gA_g4 (X : gw_X E cc nL own ret l D R post) (pc' : Nat) {idx : Nat} (hlk : Cond.fieldLink own idx "CardHolder$Steal" "this$0" "LCardHolder;" ∈ lw_all) (d : decode cc pc = .ok (.getfield idx, 3)) (hp : pc + 3 = pc') (kk : gw_W E pc' lv (.ref (a 0) :: st) (gw_st (wX D a σ) (gw_st (wK D a b) Wr)) k n) : gw_W E pc lv (.ref (b 4) :: st) (gw_st (wX D a σ) (gw_st (wK D a b) Wr)) k n :=
  gl_get (q0 := 19) (fs := [.ref (a 0)]) X pc' in_X10 gl_cl9 (by rintro _ ⟨_, ⟨_, _, rfl⟩, rfl⟩; rfl) 0 (by decide) hlk rfl rfl d hp kk
theorem gA_g5 (X : gw_X E cc nL own ret l D R post) (pc' : Nat) {idx : Nat} (hlk : Cond.fieldLink own idx "CardHolder$Day" "this$0" "LCardHolder;" ∈ lw_all) (d : decode cc pc = .ok (.getfield idx, 3)) (hp : pc + 3 = pc') (kk : gw_W E pc' lv (.ref (a 0) :: st) (gw_st (wX D a σ) (gw_st (wK D a b) Wr)) k n) : gw_W E pc lv (.ref (b 5) :: st) (gw_st (wX D a σ) (gw_st (wK D a b) Wr)) k n :=
  gl_get (q0 := 20) (fs := [.ref (a 0)]) X pc' in_X11 gl_cl10 (by rintro _ ⟨_, ⟨_, _, rfl⟩, rfl⟩; rfl) 0 (by decide) hlk rfl rfl d hp kk
/-- super.m(..) -/
theorem gw_callSUv (X : gw_X E cc nL own ret l D R post) (pc' : Nat) (As : List Value) {y : MethodName} {bc : ByteArray} {L idx : Nat} {rm : Room} {C : String} {T : u_T} {N ci q0 bb : Nat} {st0 : List Value} {k' n' : Nat} (hM : gw_Ct D l y bc L none rm (.ref bb :: As) Ws (gw_pV Ws')) (hg : GoodIn lw_all (va_wsSU own idx y (ws_ y bc L none))) (hd : y.name ≠ "<init>" ∧ (parseMethodDescriptor y.desc).map (fun d => d.parameters.length) = some As.length) (hc : gw_cl[ci]? = some (C, T, N)) (he0 : ∀ ws, Ws ws → ∃ fs, ws[q0]? = some (bb, .inr (ci, fs))) (hR : gw_fit rm R L k n = true) (hst : st0 = As.reverse ++ .ref bb :: st) (h8 : gw_cat st = true) (d : decode cc pc = .ok (.invokespecial idx, 3)) (hp : pc + 3 = pc') (hk' : k + rm.cells = k') (hn' : n + rm.slots = n') (kk : gw_W E pc' lv st Ws' k' n') : gw_W E pc lv st0 Ws k n := by
  subst hp
  subst hk'
  subst hn'
  have hf := gw_fit_of hR
  obtain ⟨p, e, s, m, args, below, meth, c, A, l1, D1, R1, Q1⟩ := E
  obtain ⟨rfl, rfl, rfl, hQ, hx, hb, hml, hr, hlk, hown, hts, hK, hA, hST, hfl⟩ := X
  intro ws hw0 H locs ls hP hD hS hl
  obtain ⟨fs, he⟩ := he0 ws hw0
  exact gw_back (va_runSU (As := As) (rest := st) (hK.1.1 ci _ hc).2 ⟨hx, hb, hml, hown, hts⟩ (hM hfl ws hw0 H.size) (va_cwSU As.length hts hg rfl rfl rfl hd hf.1) ⟨gw_blind, va_recv hK.1 hP hc he, gw_pre hP hK hD hS hA hST⟩ rfl rfl (hl.1.trans hml) hst (lv_room (Nat.le_of_ble_eq_true h8)) d hf.2) hD hS hA (fun v u hp H1 locs1 hP1 hD1 hS1 => by obtain ⟨rfl, hp⟩ := hp; exact kk u hp H1 locs1 ls hP1 hD1 hS1 hl)
/-- a call whose named method is abstract -/
theorem gw_callAv (X : gw_X E cc nL own ret l D R post) (pc' : Nat) (As : List Value) {x y : MethodName} {owner : String} {bc : ByteArray} {L idx : Nat} {rm : Room} {C : String} {T : u_T} {N ci q0 bb : Nat} {st0 : List Value} {k' n' : Nat} (hM : gw_Ct D l y bc L none rm (.ref bb :: As) Ws (gw_pV Ws')) (hg : GoodIn lw_all (va_wsU own idx C owner x y (ws_ y bc L none))) (hz : Cond.declares ⟨owner, x.name, x.desc⟩ ∈ lw_tbl) (hd : owner ≠ "java/lang/invoke/MethodHandle" ∧ owner ≠ "java/lang/invoke/VarHandle" ∧ (parseMethodDescriptor x.desc).map (fun d => d.parameters.length) = some As.length) (hc : gw_cl[ci]? = some (C, T, N)) (he0 : ∀ ws, Ws ws → ∃ fs, ws[q0]? = some (bb, .inr (ci, fs))) (hR : gw_fit rm R L k n = true) (hst : st0 = As.reverse ++ .ref bb :: st) (h8 : gw_cat st = true) (d : decode cc pc = .ok (.invokevirtual idx, 3)) (hp : pc + 3 = pc') (hk' : k + rm.cells = k') (hn' : n + rm.slots = n') (kk : gw_W E pc' lv st Ws' k' n') : gw_W E pc lv st0 Ws k n := by
  subst hp
  subst hk'
  subst hn'
  have hf := gw_fit_of hR
  obtain ⟨p, e, s, m, args, below, meth, c, A, l1, D1, R1, Q1⟩ := E
  obtain ⟨rfl, rfl, rfl, hQ, hx, hb, hml, hr, hlk, hown, hts, hK, hA, hST, hfl⟩ := X
  intro ws hw0 H locs ls hP hD hS hl
  obtain ⟨fs, he⟩ := he0 ws hw0
  exact gw_back (va_runU (As := As) (rest := st) ⟨hx, hb, hml, hown, hts⟩ (hM hfl ws hw0 H.size) (va_cwA As.length hts hg rfl rfl rfl (hK.2.1 _ hz rfl) hd hf.1) ⟨gw_blind, va_recv hK.1 hP hc he, gw_pre hP hK hD hS hA hST⟩ rfl rfl (hl.1.trans hml) hst (lv_room (Nat.le_of_ble_eq_true h8)) d hf.2) hD hS hA (fun v u hp H1 locs1 hP1 hD1 hS1 => by obtain ⟨rfl, hp⟩ := hp; exact kk u hp H1 locs1 ls hP1 hD1 hS1 hl)
end GKR
/-- the words of such calls, one by one -/
theorem gw_gSU {own : String} {idx : Nat} {y : MethodName} {b : ByteArray} {L : Nat} {r : Option FieldType} (h1 : Cond.methodLink own idx y ∈ lw_all) (h2 : Cond.sameMethod y.cls y.cls y.name y.desc ∈ lw_all) (h3 : Cond.superclass own y.cls ∈ lw_all) (h4 : Cond.instanceMethod y ∈ lw_all) (h5 : Cond.initialized y.cls ∈ lw_all) (h6 : Cond.code y b L r ∈ lw_all) : GoodIn lw_all (va_wsSU own idx y (ws_ y b L r)) := by
  refine lw_app ?_ (lw_meth h6)
  intro w hw
  simp only [List.mem_cons, List.not_mem_nil, or_false] at hw
  rcases hw with e | e | e | e | e <;> (rw [e]; assumption)
theorem gw_gU {own : String} {idx : Nat} {C owner : String} {x y : MethodName} {b : ByteArray} {L : Nat} {r : Option FieldType} (h1 : Cond.methodLink own idx x ∈ lw_all) (h2 : Cond.sameMethod x.cls owner x.name x.desc ∈ lw_all) (h3 : Cond.selects C x y ∈ lw_all) (h4 : Cond.instanceMethod y ∈ lw_all) (h5 : Cond.initialized y.cls ∈ lw_all) (h6 : Cond.code y b L r ∈ lw_all) : GoodIn lw_all (va_wsU own idx C owner x y (ws_ y b L r)) := by
  refine lw_app ?_ (lw_meth h6)
  intro w hw
  simp only [List.mem_cons, List.not_mem_nil, or_false] at hw
  rcases hw with e | e | e | e | e <;> (rw [e]; assumption)
