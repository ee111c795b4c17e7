/-! the machine's own throws, calls that throw, checkcast and instanceof of arrays -/
set_option maxRecDepth 100000
def gx_M (E : gw_E) (pc : Nat) (lv : List (Nat × Value)) (st : List Value) (ws : va_W) (k n : Nat) (C text : String) : Prop :=
  match E with
  | (p, e, s, m, args, below, meth, c, A, l, D, R, Q) => ∀ (H : Heap) (locs : List Loc) (ls : Array Slot), va_P D.1 gw_cl ws H → va_D A ws → va_S A s.heap H locs → lv_has ls c.maxLocals lv → vx_Note p l e R s m args below meth c H locs k n Q (F0 m pc ls st) C text
def gx_MN (E : gw_E) (pc : Nat) (lv : List (Nat × Value)) (st : List Value) (ws : va_W) (k n : Nat) : Prop :=
  match E with
  | (p, e, s, m, args, below, meth, c, A, l, D, R, Q) => ∀ (H : Heap) (locs : List Loc) (ls : Array Slot), va_P D.1 gw_cl ws H → va_D A ws → va_S A s.heap H locs → lv_has ls c.maxLocals lv → vx_NoteN p l e R s m args below meth c H locs k n Q (F0 m pc ls st)
abbrev gx_I : String := "java/lang/ArrayIndexOutOfBoundsException"
abbrev gx_NP : String := "java/lang/NullPointerException"
abbrev gx_NS : String := "java/lang/NegativeArraySizeException"
abbrev gx_AS : String := "java/lang/ArrayStoreException"
/-- of this class, the cells so -/
def gx_p (c0 : String) (Ws : Nat → va_W → Prop) : Nat → String → va_W → Prop := fun q C u => C = c0 ∧ Ws q u
section GX2
variable {E : gw_E} {cc : ByteArray} {nL : Nat} {own : String} {ret : Option FieldType} {l : Launch} {D : gw_D} {R : Room} {post : Option (Option Value → va_W → Prop)} {pst0 : Option Value → va_W → Prop} {xp : Nat → String → va_W → Prop} {hh : List (Nat × Nat × Nat × Nat)}
variable {pc : Nat} {lv : List (Nat × Value)} {st : List Value} {ws : va_W} {Ws Ws' : va_W → Prop} {k n q : Nat} {C : String}
theorem gx_cls {c0 : String} {Wq : Nat → va_W → Prop} (kk : gx_W E pc lv (Wq q) k n q c0) : gx_W E pc lv (gx_p c0 Wq q C) k n q C := by
  obtain ⟨p, e, s, m, args, below, meth, c, A, l1, D1, R1, Q1⟩ := E
  rintro ws ⟨rfl, hw⟩
  exact kk ws hw
theorem gx_msg (X : gw_X E cc nL own ret l D R post) {cls text : String} {names : List String} {nb : Nat} (hat : (vx_atM cls names).all (fun w => decide (w ∈ lw_tbl) && (goodWord w || gw_nk w)) = true) (hot : (vx_atM cls names).all vx_ot = true) (hcls : Bundle.fit cls = true) (hnames : ∀ n ∈ names, Bundle.fit n = true) (hsoe : (cls == "java/lang/StackOverflowError") = false) (hoom : (cls == "java/lang/OutOfMemoryError") = false)
    (htext : (text == notModelled) = false) (hnb : (stringBytes (stringToUtf16 text)).size ≤ nb) (hnb1 : nb ≤ 1000) (hR : (Nat.ble (names.length + 5) R.frames && Nat.ble 10248 R.locals && Nat.ble (k + 3) R.cells && Nat.ble (n + (nb + 10)) R.slots) = true) (hsh : 13 * names.length + 55 ≤ 10240) (h8 : gw_cat st = true) (hws : Ws ws)
    (kk : ∀ q, gx_W E pc lv Ws (k + 3) (n + (nb + 10)) q cls) : gx_M E pc lv st ws k n cls text := by
  simp only [Bool.and_eq_true] at hR
  have r1 := Nat.le_of_ble_eq_true hR.1.1.1
  have r2 := Nat.le_of_ble_eq_true hR.1.1.2
  have r3 := Nat.le_of_ble_eq_true hR.1.2
  have r4 := Nat.le_of_ble_eq_true hR.2
  have r8 := Nat.le_of_ble_eq_true h8
  obtain ⟨p, e, s, m, args, below, meth, c, A, l1, D1, R1, Q1⟩ := E
  obtain ⟨rfl, rfl, rfl, hQ, hx, hb, hml, hr, hlk, hown, hts, hK, hA, hST, hfl⟩ := X
  intro H locs ls hP hD hS hl
  refine vx_vm hx hfl hcls hnames hsoe hoom (gx_all hat hts hK.2.1) (fun w hw => List.all_eq_true.mp hot w hw) hST.2.2.2.2.2.2.2.2.1 hST.2.2.2.2.2.2.2.2.2 hS hl.1 htext hnb hnb1 (by omega) (by omega) hsh r3 r4 hlk ?_
  intro H1 q9 ce hz hk hS1 hce hv hcl
  exact kk q9 ws hws H1 locs ls ce st (hP.kept (fun i q hq => hk _ (vx_lt hP hq))) hD hS1 hl hce hv hcl
theorem gx_npe (X : gw_X E cc nL own ret l D R post) (hR : (Nat.ble 8 R.frames && Nat.ble 10248 R.locals && Nat.ble (k + 1) R.cells && Nat.ble (n + 8) R.slots) = true) (h8 : gw_cat st = true) (hws : Ws ws)
    (kk : ∀ q, gx_W E pc lv Ws (k + 1) (n + 8) q gx_NP) : gx_MN E pc lv st ws k n := by
  simp only [Bool.and_eq_true] at hR
  have r1 := Nat.le_of_ble_eq_true hR.1.1.1
  have r2 := Nat.le_of_ble_eq_true hR.1.1.2
  have r3 := Nat.le_of_ble_eq_true hR.1.2
  have r4 := Nat.le_of_ble_eq_true hR.2
  have r8 := Nat.le_of_ble_eq_true h8
  obtain ⟨p, e, s, m, args, below, meth, c, A, l1, D1, R1, Q1⟩ := E
  obtain ⟨rfl, rfl, rfl, hQ, hx, hb, hml, hr, hlk, hown, hts, hK, hA, hST, hfl⟩ := X
  intro H locs ls hP hD hS hl
  refine vx_npe (nb := 8) hx hfl (gx_all gx_lN hts hK.2.1) (fun w hw => List.all_eq_true.mp gx_oN w hw) hST.2.2.2.2.2.2.2.2.1 hST.2.2.2.2.2.2.2.2.2 hS hl.1 (by omega) (by omega) r3 r4 hlk ?_
  intro H1 q9 ce hz hk hS1 hce hv hcl
  exact kk q9 ws hws H1 locs ls ce st (hP.kept (fun i q hq => hk _ (vx_lt hP hq))) hD hS1 hl hce hv hcl
theorem gx_alenN (X : gw_X E cc nL own ret l D R post) (d : decode cc pc = .ok (.arraylength, 1)) (h : ∀ ws, Ws ws → gx_MN E pc lv st ws k n) : gw_W E pc lv (.null :: st) Ws k n := by
  obtain ⟨p, e, s, m, args, below, meth, c, A, l1, D1, R1, Q1⟩ := E
  obtain ⟨rfl, rfl, rfl, hQ, hx, hb, hml, hr, hlk, hown, hts, hK, hA, hST, hfl⟩ := X
  intro ws hw0 H locs ls hP hD hS hl
  exact vx_arraylengthN hx hb d (h ws hw0 H locs ls hP hD hS hl)
theorem gx_lastN (X : gw_X E cc nL own ret l D R post) {x : Int64} {i : Int32} (d : decode cc pc = .ok (.lastore, 1)) (h : ∀ ws, Ws ws → gx_MN E pc lv st ws k n) : gw_W E pc lv (.long x :: .int i :: .null :: st) Ws k n := by
  obtain ⟨p, e, s, m, args, below, meth, c, A, l1, D1, R1, Q1⟩ := E
  obtain ⟨rfl, rfl, rfl, hQ, hx, hb, hml, hr, hlk, hown, hts, hK, hA, hST, hfl⟩ := X
  intro ws hw0 H locs ls hP hD hS hl
  exact vx_lastoreN hx hb d (h ws hw0 H locs ls hP hD hS hl)
theorem gx_newaZ (X : gw_X E cc nL own ret l D R post) {atype : ArrayType} {z : Int32} (h0 : z < 0) (d : decode cc pc = .ok (.newarray atype, 2)) (h : ∀ ws, Ws ws → gx_M E pc lv st ws k n gx_NS (toString z)) : gw_W E pc lv (.int z :: st) Ws k n := by
  obtain ⟨p, e, s, m, args, below, meth, c, A, l1, D1, R1, Q1⟩ := E
  obtain ⟨rfl, rfl, rfl, hQ, hx, hb, hml, hr, hlk, hown, hts, hK, hA, hST, hfl⟩ := X
  intro ws hw0 H locs ls hP hD hS hl
  exact vx_newarrayZ hx hb h0 d (fun tx e => by rw [e]; exact h ws hw0 H locs ls hP hD hS hl)
theorem gx_bastZ (X : gw_X E cc nL own ret l D R post) {q0 b N : Nat} {f : Nat → Int32} {i : Int32} {x : Int32} (he : ∀ ws, Ws ws → ws[q0]? = some (b, .inl (D.2 1, N, .inl f))) (hout : ¬ vp_in i N) (d : decode cc pc = .ok (.bastore, 1)) (h : ∀ ws, Ws ws → gx_M E pc lv st ws k n gx_I (toString "Index " ++ toString i ++ toString " out of bounds for length " ++ toString N : String)) : gw_W E pc lv (.int x :: .int i :: .ref b :: st) Ws k n := by
  obtain ⟨p, e, s, m, args, below, meth, c, A, l1, D1, R1, Q1⟩ := E
  obtain ⟨rfl, rfl, rfl, hQ, hx, hb, hml, hr, hlk, hown, hts, hK, hA, hST, hfl⟩ := X
  intro ws hw0 H locs ls hP hD hS hl
  exact vx_bastZ hx hb hK.1 hP q0 1 (he ws hw0) rfl hout d (fun tx e => by rw [e]; exact h ws hw0 H locs ls hP hD hS hl)
theorem gl_bald' (X : gw_X E cc nL own ret l D R post) (pc' : Nat) {q0 b N : Nat} {f : Nat → Int32} {i : Int32} (he : ∀ ws, Ws ws → ws[q0]? = some (b, .inl (D.2 1, N, .inl f))) (hin : vp_in i N) (d : decode cc pc = .ok (.baload, 1)) (hp : pc + 1 = pc') (kk : gw_W E pc' lv (.int (f i.toNatClampNeg) :: st) Ws k n) : gw_W E pc lv (.int i :: .ref b :: st) Ws k n := by
  subst hp
  obtain ⟨p, e, s, m, args, below, meth, c, A, l1, D1, R1, Q1⟩ := E
  obtain ⟨rfl, rfl, rfl, hQ, hx, hb, hml, hr, hlk, hown, hts, hK, hA, hST, hfl⟩ := X
  intro ws hw0 H locs ls hP hD hS hl
  exact va_bald hx hb hK.1 hP q0 1 (he ws hw0) rfl hin d (kk ws hw0 H locs ls hP hD hS hl)
theorem gl_bast' (X : gw_X E cc nL own ret l D R post) (pc' : Nat) {q0 b N : Nat} {f : Nat → Int32} {i : Int32} {x : Int32} (he : ∀ ws, Ws ws → ws[q0]? = some (b, .inl (D.2 1, N, .inl f))) (hin : vp_in i N) (hw : ∀ ws, Ws ws → Ws' (ws.set q0 (b, .inl (D.2 1, N, .inl (upd f i.toNatClampNeg (vp_nar .byte x)))))) (d : decode cc pc = .ok (.bastore, 1)) (hp : pc + 1 = pc') (kk : gw_W E pc' lv st Ws' k n) : gw_W E pc lv (.int x :: .int i :: .ref b :: st) Ws k n := by
  subst hp
  obtain ⟨p, e, s, m, args, below, meth, c, A, l1, D1, R1, Q1⟩ := E
  obtain ⟨rfl, rfl, rfl, hQ, hx, hb, hml, hr, hlk, hown, hts, hK, hA, hST, hfl⟩ := X
  intro ws hw0 H locs ls hP hD hS hl
  exact va_bast hx hb hK.1 hP hD hS q0 1 (he ws hw0) rfl hin d (fun H1 locs1 hP1 hD1 hS1 => kk _ (hw ws hw0) H1 locs1 ls hP1 hD1 hS1 hl)
theorem gx_sastZ (X : gw_X E cc nL own ret l D R post) {q0 b N : Nat} {f : Nat → Int32} {i : Int32} {x : Int32} (he : ∀ ws, Ws ws → ws[q0]? = some (b, .inl (D.2 4, N, .inl f))) (hout : ¬ vp_in i N) (d : decode cc pc = .ok (.sastore, 1)) (h : ∀ ws, Ws ws → gx_M E pc lv st ws k n gx_I (toString "Index " ++ toString i ++ toString " out of bounds for length " ++ toString N : String)) : gw_W E pc lv (.int x :: .int i :: .ref b :: st) Ws k n := by
  obtain ⟨p, e, s, m, args, below, meth, c, A, l1, D1, R1, Q1⟩ := E
  obtain ⟨rfl, rfl, rfl, hQ, hx, hb, hml, hr, hlk, hown, hts, hK, hA, hST, hfl⟩ := X
  intro ws hw0 H locs ls hP hD hS hl
  exact vx_sastZ hx hb hK.1 hP q0 4 (he ws hw0) rfl hout d (fun tx e => by rw [e]; exact h ws hw0 H locs ls hP hD hS hl)
theorem gl_sald' (X : gw_X E cc nL own ret l D R post) (pc' : Nat) {q0 b N : Nat} {f : Nat → Int32} {i : Int32} (he : ∀ ws, Ws ws → ws[q0]? = some (b, .inl (D.2 4, N, .inl f))) (hin : vp_in i N) (d : decode cc pc = .ok (.saload, 1)) (hp : pc + 1 = pc') (kk : gw_W E pc' lv (.int (f i.toNatClampNeg) :: st) Ws k n) : gw_W E pc lv (.int i :: .ref b :: st) Ws k n := by
  subst hp
  obtain ⟨p, e, s, m, args, below, meth, c, A, l1, D1, R1, Q1⟩ := E
  obtain ⟨rfl, rfl, rfl, hQ, hx, hb, hml, hr, hlk, hown, hts, hK, hA, hST, hfl⟩ := X
  intro ws hw0 H locs ls hP hD hS hl
  exact va_sald hx hb hK.1 hP q0 4 (he ws hw0) rfl hin d (kk ws hw0 H locs ls hP hD hS hl)
theorem gl_sast' (X : gw_X E cc nL own ret l D R post) (pc' : Nat) {q0 b N : Nat} {f : Nat → Int32} {i : Int32} {x : Int32} (he : ∀ ws, Ws ws → ws[q0]? = some (b, .inl (D.2 4, N, .inl f))) (hin : vp_in i N) (hw : ∀ ws, Ws ws → Ws' (ws.set q0 (b, .inl (D.2 4, N, .inl (upd f i.toNatClampNeg (vp_nar .short x)))))) (d : decode cc pc = .ok (.sastore, 1)) (hp : pc + 1 = pc') (kk : gw_W E pc' lv st Ws' k n) : gw_W E pc lv (.int x :: .int i :: .ref b :: st) Ws k n := by
  subst hp
  obtain ⟨p, e, s, m, args, below, meth, c, A, l1, D1, R1, Q1⟩ := E
  obtain ⟨rfl, rfl, rfl, hQ, hx, hb, hml, hr, hlk, hown, hts, hK, hA, hST, hfl⟩ := X
  intro ws hw0 H locs ls hP hD hS hl
  exact va_sast hx hb hK.1 hP hD hS q0 4 (he ws hw0) rfl hin d (fun H1 locs1 hP1 hD1 hS1 => kk _ (hw ws hw0) H1 locs1 ls hP1 hD1 hS1 hl)
theorem gx_iastZ (X : gw_X E cc nL own ret l D R post) {q0 b N : Nat} {f : Nat → Int32} {i : Int32} {x : Int32} (he : ∀ ws, Ws ws → ws[q0]? = some (b, .inl (D.2 0, N, .inl f))) (hout : ¬ vp_in i N) (d : decode cc pc = .ok (.iastore, 1)) (h : ∀ ws, Ws ws → gx_M E pc lv st ws k n gx_I (toString "Index " ++ toString i ++ toString " out of bounds for length " ++ toString N : String)) : gw_W E pc lv (.int x :: .int i :: .ref b :: st) Ws k n := by
  obtain ⟨p, e, s, m, args, below, meth, c, A, l1, D1, R1, Q1⟩ := E
  obtain ⟨rfl, rfl, rfl, hQ, hx, hb, hml, hr, hlk, hown, hts, hK, hA, hST, hfl⟩ := X
  intro ws hw0 H locs ls hP hD hS hl
  exact vx_iastZ hx hb hK.1 hP q0 0 (he ws hw0) rfl hout d (fun tx e => by rw [e]; exact h ws hw0 H locs ls hP hD hS hl)
theorem gl_iald' (X : gw_X E cc nL own ret l D R post) (pc' : Nat) {q0 b N : Nat} {f : Nat → Int32} {i : Int32} (he : ∀ ws, Ws ws → ws[q0]? = some (b, .inl (D.2 0, N, .inl f))) (hin : vp_in i N) (d : decode cc pc = .ok (.iaload, 1)) (hp : pc + 1 = pc') (kk : gw_W E pc' lv (.int (f i.toNatClampNeg) :: st) Ws k n) : gw_W E pc lv (.int i :: .ref b :: st) Ws k n := by
  subst hp
  obtain ⟨p, e, s, m, args, below, meth, c, A, l1, D1, R1, Q1⟩ := E
  obtain ⟨rfl, rfl, rfl, hQ, hx, hb, hml, hr, hlk, hown, hts, hK, hA, hST, hfl⟩ := X
  intro ws hw0 H locs ls hP hD hS hl
  exact va_iald hx hb hK.1 hP q0 0 (he ws hw0) rfl hin d (kk ws hw0 H locs ls hP hD hS hl)
theorem gl_iast' (X : gw_X E cc nL own ret l D R post) (pc' : Nat) {q0 b N : Nat} {f : Nat → Int32} {i : Int32} {x : Int32} (he : ∀ ws, Ws ws → ws[q0]? = some (b, .inl (D.2 0, N, .inl f))) (hin : vp_in i N) (hw : ∀ ws, Ws ws → Ws' (ws.set q0 (b, .inl (D.2 0, N, .inl (upd f i.toNatClampNeg x))))) (d : decode cc pc = .ok (.iastore, 1)) (hp : pc + 1 = pc') (kk : gw_W E pc' lv st Ws' k n) : gw_W E pc lv (.int x :: .int i :: .ref b :: st) Ws k n := by
  subst hp
  obtain ⟨p, e, s, m, args, below, meth, c, A, l1, D1, R1, Q1⟩ := E
  obtain ⟨rfl, rfl, rfl, hQ, hx, hb, hml, hr, hlk, hown, hts, hK, hA, hST, hfl⟩ := X
  intro ws hw0 H locs ls hP hD hS hl
  exact va_iast hx hb hK.1 hP hD hS q0 0 (he ws hw0) rfl hin d (fun H1 locs1 hP1 hD1 hS1 => kk _ (hw ws hw0) H1 locs1 ls hP1 hD1 hS1 hl)
theorem gx_lastZ (X : gw_X E cc nL own ret l D R post) {q0 b N : Nat} {f : Nat → Int64} {i : Int32} {x : Int64} (he : ∀ ws, Ws ws → ws[q0]? = some (b, .inl (D.2 2, N, .inr (.inl f)))) (hout : ¬ vp_in i N) (d : decode cc pc = .ok (.lastore, 1)) (h : ∀ ws, Ws ws → gx_M E pc lv st ws k n gx_I (toString "Index " ++ toString i ++ toString " out of bounds for length " ++ toString N : String)) : gw_W E pc lv (.long x :: .int i :: .ref b :: st) Ws k n := by
  obtain ⟨p, e, s, m, args, below, meth, c, A, l1, D1, R1, Q1⟩ := E
  obtain ⟨rfl, rfl, rfl, hQ, hx, hb, hml, hr, hlk, hown, hts, hK, hA, hST, hfl⟩ := X
  intro ws hw0 H locs ls hP hD hS hl
  exact vx_lastZ hx hb hK.1 hP q0 2 (he ws hw0) rfl hout d (fun tx e => by rw [e]; exact h ws hw0 H locs ls hP hD hS hl)
theorem gl_lald' (X : gw_X E cc nL own ret l D R post) (pc' : Nat) {q0 b N : Nat} {f : Nat → Int64} {i : Int32} (he : ∀ ws, Ws ws → ws[q0]? = some (b, .inl (D.2 2, N, .inr (.inl f)))) (hin : vp_in i N) (d : decode cc pc = .ok (.laload, 1)) (hp : pc + 1 = pc') (kk : gw_W E pc' lv (.long (f i.toNatClampNeg) :: st) Ws k n) : gw_W E pc lv (.int i :: .ref b :: st) Ws k n := by
  subst hp
  obtain ⟨p, e, s, m, args, below, meth, c, A, l1, D1, R1, Q1⟩ := E
  obtain ⟨rfl, rfl, rfl, hQ, hx, hb, hml, hr, hlk, hown, hts, hK, hA, hST, hfl⟩ := X
  intro ws hw0 H locs ls hP hD hS hl
  exact va_lald hx hb hK.1 hP q0 2 (he ws hw0) rfl hin d (kk ws hw0 H locs ls hP hD hS hl)
theorem gl_last' (X : gw_X E cc nL own ret l D R post) (pc' : Nat) {q0 b N : Nat} {f : Nat → Int64} {i : Int32} {x : Int64} (he : ∀ ws, Ws ws → ws[q0]? = some (b, .inl (D.2 2, N, .inr (.inl f)))) (hin : vp_in i N) (hw : ∀ ws, Ws ws → Ws' (ws.set q0 (b, .inl (D.2 2, N, .inr (.inl (vp_updL f i.toNatClampNeg x)))))) (d : decode cc pc = .ok (.lastore, 1)) (hp : pc + 1 = pc') (kk : gw_W E pc' lv st Ws' k n) : gw_W E pc lv (.long x :: .int i :: .ref b :: st) Ws k n := by
  subst hp
  obtain ⟨p, e, s, m, args, below, meth, c, A, l1, D1, R1, Q1⟩ := E
  obtain ⟨rfl, rfl, rfl, hQ, hx, hb, hml, hr, hlk, hown, hts, hK, hA, hST, hfl⟩ := X
  intro ws hw0 H locs ls hP hD hS hl
  exact va_last hx hb hK.1 hP hD hS q0 2 (he ws hw0) rfl hin d (fun H1 locs1 hP1 hD1 hS1 => kk _ (hw ws hw0) H1 locs1 ls hP1 hD1 hS1 hl)
theorem gl_instY (X : gw_X E cc nL own ret l D R post) (pc' : Nat) {nm : String} {t0 q0 b idx : Nat} {x : vp_A} {ty : FieldType} (he : ∀ ws, Ws ws → ws[q0]? = some (b, .inl (D.2 t0, x))) (ht : (gw_ty D.2)[t0]? = some (D.2 t0, ty)) (hnm : ∀ (U : State) (cA : ClassId), va_RA U cA ty → U.vm.findClass nm = some cA) (hlk0 : Cond.classLink own idx nm ∈ lw_all) (d : decode cc pc = .ok (.instanceof idx, 3)) (hp : pc + 3 = pc') (kk : gw_W E pc' lv (.int 1 :: st) Ws k n) : gw_W E pc lv (.ref b :: st) Ws k n := by
  subst hp
  obtain ⟨p, e, s, m, args, below, meth, c, A, l1, D1, R1, Q1⟩ := E
  obtain ⟨rfl, rfl, rfl, hQ, hx, hb, hml, hr, hlk, hown, hts, hK, hA, hST, hfl⟩ := X
  intro ws hw0 H locs ls hP hD hS hl
  have hvm0 : (vp_cell (D1.2 t0) x).vm = .none := by
    obtain ⟨n, f | f | f | f | f⟩ := x <;> rfl
  have hcl0 : (vp_cell (D1.2 t0) x).cls = D1.2 t0 := by
    obtain ⟨n, f | f | f | f | f⟩ := x <;> rfl
  intro T hT X
  obtain ⟨vm', X', stp⟩ := X.instanceofYes hx hown (hts _ hlk0) (by rw [hT]; exact hP q0 _ (he ws hw0)) (by rw [hvm0]; rfl) (hnm s _ (hK.1.2 t0 _ ht).2) (by rw [hcl0]; exact va_asg _ _) (g := F0 m pc ls (.ref b :: st)) rfl rfl (by rw [hb]; exact d)
  obtain ⟨t, a1, b1⟩ := kk ws hw0 H locs ls hP hD hS hl (T.setVm vm') hT X'
  exact ⟨t, stp t a1, b1⟩
theorem gl_instNo (X : gw_X E cc nL own ret l D R post) (pc' : Nat) {cn nm : String} {t0 q0 b idx : Nat} {x : vp_A} {ty : FieldType} (he : ∀ ws, Ws ws → ws[q0]? = some (b, .inl (D.2 t0, x))) (ht : (gw_ty D.2)[t0]? = some (D.2 t0, ty)) (hnm : ∀ (U : State) (cA : ClassId), va_RA U cA ty → U.vm.findClass cn = some cA) (hnc : (cn, nm) ∈ gw_nc) (hlk0 : Cond.classLink own idx nm ∈ lw_all) (d : decode cc pc = .ok (.instanceof idx, 3)) (hp : pc + 3 = pc') (kk : gw_W E pc' lv (.int 0 :: st) Ws k n) : gw_W E pc lv (.ref b :: st) Ws k n := by
  subst hp
  obtain ⟨p, e, s, m, args, below, meth, c, A, l1, D1, R1, Q1⟩ := E
  obtain ⟨rfl, rfl, rfl, hQ, hx, hb, hml, hr, hlk, hown, hts, hK, hA, hST, hfl⟩ := X
  intro ws hw0 H locs ls hP hD hS hl
  have hvm0 : (vp_cell (D1.2 t0) x).vm = .none := by
    obtain ⟨n, f | f | f | f | f⟩ := x <;> rfl
  have hcl0 : (vp_cell (D1.2 t0) x).cls = D1.2 t0 := by
    obtain ⟨n, f | f | f | f | f⟩ := x <;> rfl
  exact va_instNo hx hb hown (hts _ hlk0) (hK.2.2.2.2 _ hnc) ⟨_, hP q0 _ (he ws hw0), by show (vp_cell (D1.2 t0) x).vm.isStatics = false; rw [hvm0]; rfl, by show s.vm.findClass cn = some (vp_cell (D1.2 t0) x).cls; rw [hcl0]; exact hnm s _ (hK.1.2 t0 _ ht).2⟩ d (kk ws hw0 H locs ls hP hD hS hl)
theorem gl_castA (X : gw_X E cc nL own ret l D R post) (pc' : Nat) {nm : String} {t0 q0 b idx : Nat} {x : vp_A} {ty : FieldType} (he : ∀ ws, Ws ws → ws[q0]? = some (b, .inl (D.2 t0, x))) (ht : (gw_ty D.2)[t0]? = some (D.2 t0, ty)) (hnm : ∀ (U : State) (cA : ClassId), va_RA U cA ty → U.vm.findClass nm = some cA) (hlk0 : Cond.classLink own idx nm ∈ lw_all) (d : decode cc pc = .ok (.checkcast idx, 3)) (hp : pc + 3 = pc') (kk : gw_W E pc' lv (.ref b :: st) Ws k n) : gw_W E pc lv (.ref b :: st) Ws k n := by
  subst hp
  obtain ⟨p, e, s, m, args, below, meth, c, A, l1, D1, R1, Q1⟩ := E
  obtain ⟨rfl, rfl, rfl, hQ, hx, hb, hml, hr, hlk, hown, hts, hK, hA, hST, hfl⟩ := X
  intro ws hw0 H locs ls hP hD hS hl
  exact va_castA hx hb hown (hts _ hlk0) hP q0 (he ws hw0) (hnm s _ (hK.1.2 t0 _ ht).2) d (kk ws hw0 H locs ls hP hD hS hl)
theorem gl_instN0 (X : gw_X E cc nL own ret l D R post) (pc' : Nat) {idx : Nat} (d : decode cc pc = .ok (.instanceof idx, 3)) (hp : pc + 3 = pc') (kk : gw_W E pc' lv (.int 0 :: st) Ws k n) : gw_W E pc lv (.null :: st) Ws k n := by
  subst hp
  obtain ⟨p, e, s, m, args, below, meth, c, A, l1, D1, R1, Q1⟩ := E
  obtain ⟨rfl, rfl, rfl, hQ, hx, hb, hml, hr, hlk, hown, hts, hK, hA, hST, hfl⟩ := X
  intro ws hw0 H locs ls hP hD hS hl
  exact lv_instN hx hb d (kk ws hw0 H locs ls hP hD hS hl)
theorem gl_castN0 (X : gw_X E cc nL own ret l D R post) (pc' : Nat) {idx : Nat} (d : decode cc pc = .ok (.checkcast idx, 3)) (hp : pc + 3 = pc') (kk : gw_W E pc' lv (.null :: st) Ws k n) : gw_W E pc lv (.null :: st) Ws k n := by
  subst hp
  obtain ⟨p, e, s, m, args, below, meth, c, A, l1, D1, R1, Q1⟩ := E
  obtain ⟨rfl, rfl, rfl, hQ, hx, hb, hml, hr, hlk, hown, hts, hK, hA, hST, hfl⟩ := X
  intro ws hw0 H locs ls hP hD hS hl
  exact lv_castN hx hb d (kk ws hw0 H locs ls hP hD hS hl)
theorem gx_back {p : Program} {e : Env} {s : State} {m : MethodId} {args : Array Value} {below : List Frame} {meth : Method} {c : Code} {A : Nat → Prop} {H : Heap} {locs : List Loc} {ls : Array Slot} {mc ms : Nat} {Q : State → Prop} {a : Array Value} {st0 : List Value} {pst : Option Value → va_W → Prop}
    (hr : vy_Run p l e R s m args below meth c H locs k n mc ms (F0 m pc ls st0) st (gw_Q D pst (va_A ws H.size) a) (gx_XC D xp (va_A ws H.size)) (va_A ws H.size)) (hD : va_D A ws) (hS : va_S A s.heap H locs) (hA : ∀ q : Nat, s.heap.size ≤ q → A q)
    (kk : ∀ (v : Option Value) (u : va_W), pst v u → ∀ (H1 : Heap) (locs1 : List Loc), va_P D.1 gw_cl u H1 → va_D A u → va_S A s.heap H1 locs1 → W p l e R s m args below meth c H1 locs1 (k + mc) (n + ms) Q (F0 m (pc + 3) ls (v.toList ++ st)))
    (kx : ∀ (q : Nat) (C : String) (u : va_W) (ce : Cell), xp q C u → ∀ (H1 : Heap) (locs1 : List Loc), va_P D.1 gw_cl u H1 → va_D A u → va_S A s.heap H1 locs1 → H1[q]? = some ce → ce.vm = .none → s.vm.findClass C = some ce.cls → vx_W p l e R s m args below meth c H1 locs1 (k + mc) (n + ms) Q (F0 m pc ls st) q) : W p l e R s m args below meth c H locs k n Q (F0 m pc ls st0) := by
  have hAA : ∀ q : Nat, va_A ws H.size q → A q := fun q h => h.elim (fun ⟨i, x, h1⟩ => hD.2 i _ h1) (fun h1 => hA q (Nat.le_trans hS.1 h1))
  intro T hT X
  rcases hr T hT X with ⟨v, st₀, t, T', L, h0, X', hL, e1, e2, ⟨⟨v', u, hv, hp, hPu, hDu⟩, hz, hk⟩, stp⟩ | ⟨q, st₀, t, T', L, C, ce, h0, X', hL, e1, e2, ⟨⟨u, hp, hPu, hDu⟩, hz, hk⟩, hce, hcv, hcl, stp⟩
  · cases hv
    rw [h0] at hz hk
    obtain ⟨t2, a1, b1⟩ := kk v u hp T'.heap (locs ++ L) (by rw [e1]; exact hPu) (hDu.weaken (fun _ q _ h => hAA q.1 h))
      ⟨Nat.le_trans hS.1 (by rw [e1]; exact hz), fun q h1 h2 => by rw [e1, hk q (Nat.lt_of_lt_of_le h1 hS.1) (fun z => h2 (hAA q z))]; exact hS.2.1 q h1 h2, fun q hq => by
        rcases List.mem_append.mp hq with h | h
        · exact hS.2.2 q h
        · exact hAA _ (hL q h)⟩ T' rfl X'
    exact ⟨t2, stp t2 a1, b1⟩
  · rw [h0] at hz hk
    obtain ⟨t2, a1, b1⟩ := kx q C u ce hp T'.heap (locs ++ L) (by rw [e1]; exact hPu) (hDu.weaken (fun _ q _ h => hAA q.1 h))
      ⟨Nat.le_trans hS.1 (by rw [e1]; exact hz), fun q h1 h2 => by rw [e1, hk q (Nat.lt_of_lt_of_le h1 hS.1) (fun z => h2 (hAA q z))]; exact hS.2.1 q h1 h2, fun q hq => by
        rcases List.mem_append.mp hq with h | h
        · exact hS.2.2 q h
        · exact hAA _ (hL q h)⟩ (by rw [e1]; exact hce) hcv hcl T' rfl X'
    exact ⟨t2, stp.trans a1, b1⟩
/-- a call that may throw -/
theorem gx_callV (X : gw_X E cc nL own ret l D R post) (pc' : Nat) (As : List Value) {y : MethodName} {bc : ByteArray} {L idx : Nat} {rt : Option FieldType} {rm : Room} {pst : Option Value → va_W → Prop} {C : String} {T : u_T} {N ci q0 bb : Nat} {st0 : List Value} (hM : gx_Ct D l y bc L rt rm (.ref bb :: As) Ws pst xp) (hg : GoodIn lw_all (wsV own idx C y (ws_ y bc L rt))) (hd : y.cls = C ∧ y.cls ≠ "java/lang/invoke/MethodHandle" ∧ y.cls ≠ "java/lang/invoke/VarHandle" ∧ (parseMethodDescriptor y.desc).map (fun d => d.parameters.length) = some As.length) (hc : gw_cl[ci]? = some (C, T, N)) (he0 : ∀ ws, Ws ws → ∃ fs, ws[q0]? = some (bb, .inr (ci, fs))) (hR : gw_fit rm R L k n = true) (hst : st0 = As.reverse ++ .ref bb :: st) (h8 : gw_cat st = true) (d : decode cc pc = .ok (.invokevirtual idx, 3)) (hp : pc + 3 = pc')
    (kk : ∀ (v : Option Value) (u : va_W), pst v u → gw_w E pc' lv (v.toList ++ st) u (k + rm.cells) (n + rm.slots)) (kx : ∀ (q : Nat) (C : String), gx_W E pc lv (xp q C) (k + rm.cells) (n + rm.slots) q C) : gw_W E pc lv st0 Ws k n := by
  subst hp
  have hf := gw_fit_of hR
  obtain ⟨p, e, s, m, args, below, meth, c, A, l1, D1, R1, Q1⟩ := E
  obtain ⟨rfl, rfl, rfl, hQ, hx, hb, hml, hr, hlk, hown, hts, hK, hA, hST, hfl⟩ := X
  intro ws hw0 H locs ls hP hD hS hl
  obtain ⟨fs, he⟩ := he0 ws hw0
  exact gx_back (vy_runV (As := As) (rest := st) ⟨hx, hb, hml, hown, hts⟩ (hM hfl ws hw0 H.size) (cwV As.length hts hg rfl rfl rfl hd hf.1) ⟨gw_blind, va_recv hK.1 hP hc he, gw_pre hP hK hD hS hA hST⟩ rfl rfl (hl.1.trans hml) hst (lv_room (Nat.le_of_ble_eq_true h8)) d hf.2) hD hS hA (fun v u hp H1 locs1 hP1 hD1 hS1 => kk v u hp H1 locs1 ls hP1 hD1 hS1 hl) (fun q C u ce hp H1 locs1 hP1 hD1 hS1 hce hv hcl => kx q C u hp H1 locs1 ls ce st hP1 hD1 hS1 hl hce hv hcl)
/-- a call of a method with handlers -/
theorem gw_callW (X : gw_X E cc nL own ret l D R post) (pc' : Nat) (As : List Value) {y : MethodName} {bc : ByteArray} {L idx : Nat} {rt : Option FieldType} {rm : Room} {pst : Option Value → va_W → Prop} {C : String} {T : u_T} {N ci q0 bb : Nat} {st0 : List Value} (hM : gw_CtH D l y bc L rt hh rm (.ref bb :: As) Ws pst) (hg : GoodIn lw_all (wsV own idx C y (wsW_ y bc L rt hh))) (hd : y.cls = C ∧ y.cls ≠ "java/lang/invoke/MethodHandle" ∧ y.cls ≠ "java/lang/invoke/VarHandle" ∧ (parseMethodDescriptor y.desc).map (fun d => d.parameters.length) = some As.length) (hc : gw_cl[ci]? = some (C, T, N)) (he0 : ∀ ws, Ws ws → ∃ fs, ws[q0]? = some (bb, .inr (ci, fs))) (hR : gw_fit rm R L k n = true) (hst : st0 = As.reverse ++ .ref bb :: st) (h8 : gw_cat st = true) (d : decode cc pc = .ok (.invokevirtual idx, 3)) (hp : pc + 3 = pc')
    (kk : ∀ (v : Option Value) (u : va_W), pst v u → gw_w E pc' lv (v.toList ++ st) u (k + rm.cells) (n + rm.slots)) : gw_W E pc lv st0 Ws k n := by
  subst hp
  have hf := gw_fit_of hR
  obtain ⟨p, e, s, m, args, below, meth, c, A, l1, D1, R1, Q1⟩ := E
  obtain ⟨rfl, rfl, rfl, hQ, hx, hb, hml, hr, hlk, hown, hts, hK, hA, hST, hfl⟩ := X
  intro ws hw0 H locs ls hP hD hS hl
  obtain ⟨fs, he⟩ := he0 ws hw0
  exact gw_back (vx_runVW (As := As) (rest := st) ⟨hx, hb, hml, hown, hts⟩ (hM hfl ws hw0 H.size) (vx_cwVW As.length hts hg rfl rfl rfl hd hf.1) ⟨gw_blind, va_recv hK.1 hP hc he, gw_pre hP hK hD hS hA hST⟩ rfl rfl (hl.1.trans hml) hst (lv_room (Nat.le_of_ble_eq_true h8)) d hf.2) hD hS hA (fun v u hp H1 locs1 hP1 hD1 hS1 => kk v u hp H1 locs1 ls hP1 hD1 hS1 hl)
theorem gw_callWi (X : gw_X E cc nL own ret l D R post) (pc' : Nat) (As : List Value) {y : MethodName} {bc : ByteArray} {L idx : Nat} {rt : Option FieldType} {rm : Room} {C : String} {T : u_T} {N ci q0 bb : Nat} {st0 : List Value} {r : Int32} {k' n' : Nat} (hM : gw_CtH D l y bc L rt hh rm (.ref bb :: As) Ws (gw_pI r Ws')) (hg : GoodIn lw_all (wsV own idx C y (wsW_ y bc L rt hh))) (hd : y.cls = C ∧ y.cls ≠ "java/lang/invoke/MethodHandle" ∧ y.cls ≠ "java/lang/invoke/VarHandle" ∧ (parseMethodDescriptor y.desc).map (fun d => d.parameters.length) = some As.length) (hc : gw_cl[ci]? = some (C, T, N)) (he0 : ∀ ws, Ws ws → ∃ fs, ws[q0]? = some (bb, .inr (ci, fs))) (hR : gw_fit rm R L k n = true) (hst : st0 = As.reverse ++ .ref bb :: st) (h8 : gw_cat st = true) (d : decode cc pc = .ok (.invokevirtual idx, 3)) (hp : pc + 3 = pc') (hk' : k + rm.cells = k') (hn' : n + rm.slots = n') (kk : gw_W E pc' lv (.int r :: st) Ws' k' n') : gw_W E pc lv st0 Ws k n := by
  subst hk'
  subst hn'
  exact gw_callW X pc' As hM hg hd hc he0 hR hst h8 d hp (fun v u h => by obtain ⟨rfl, h⟩ := h; exact kk u h)
end GX2
theorem gl_nmB (U : State) (cA : ClassId) (h : va_RA U cA .byte) : U.vm.findClass "[B" = some cA := va_nm_byte h
theorem gl_nmI (U : State) (cA : ClassId) (h : va_RA U cA .int) : U.vm.findClass "[I" = some cA := va_nm_int h
theorem gl_nmJ (U : State) (cA : ClassId) (h : va_RA U cA .long) : U.vm.findClass "[J" = some cA := va_nm_long h
theorem gl_nmS (U : State) (cA : ClassId) (h : va_RA U cA .short) : U.vm.findClass "[S" = some cA := by
  have e : "[" ++ FieldType.short.toString = "[S" := by decide +kernel
  rw [← e]
  exact h
