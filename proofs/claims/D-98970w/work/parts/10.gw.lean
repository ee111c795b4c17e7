/-! THE FRAME OF ALL WALKS: one judgement gw_W over a method's context E; a rule an instruction -/
set_option maxRecDepth 100000
abbrev gw_D : Type := va_G × (Nat → ClassId)
abbrev gw_S : Type := (Nat → Nat → Int32) × (Nat → Nat → Int64)
def gw_cl : List vw_C := [(RX0, TX0, 23), (RX1, TX1, 11), (RX2, TX2, 1), (RX3, TX3, 31), (RX4, TX4, 7), (RX5, TX5, 8), (RX7, TX7, 1), (RX8, TX8, 2), (RX9, TX9, 1), (RX10, TX10, 1), (RX11, TX11, 1), (RJ2, TJ2, 3)]
def gw_ty (d : Nat → ClassId) : List (ClassId × FieldType) := [(d 0, .int), (d 1, .byte), (d 2, .long), (d 3, .boolean), (d 4, .short), (d 5, .object "CardHolder$Slot"), (d 6, .object "java/lang/Object")]
/-- the words that don't ride in the lists -/
def gw_nk (w : Cond) : Bool := match w with
  | .fieldLinkNest .. => true
  | .methodLinkNest .. => true
  | .castable .. => true
  | .declares .. => true
  | _ => false
def gw_N (U : State) : Prop := ∀ w ∈ lw_tbl, gw_nk w = true → va_Nw w U
theorem gw_N.warm {s U : State} (hW : s.WarmedH U.vm) (h : gw_N s) : gw_N U := by
  intro w hw hk
  have h1 := h w hw hk
  unfold gw_nk at hk
  split at hk
  · exact va_Nw.warmF hW h1
  · exact va_Nw.warmM hW h1
  · exact va_Nw.warmC hW h1
  · exact va_Nw.warmD hW h1
  · cases hk
theorem gw_N.same {u U : State} (e : u.vm = U.vm) (h : gw_N u) : gw_N U := by
  intro w hw hk
  have h1 := h w hw hk
  unfold gw_nk at hk
  split at hk
  · exact va_Nw.same rfl e h1
  · exact va_Nw.same rfl e h1
  · exact va_Nw.same rfl e h1
  · exact va_Nw.same rfl e h1
  · cases hk
/-- pairs that are not castable -/
def gw_nc : List (String × String) := [("[S", "[B"), ("[I", "[B"), ("[I", "[S"), ("[J", "[B"), ("[J", "[S"), ("[J", "[I"), ("java/lang/ArrayIndexOutOfBoundsException", "java/lang/NullPointerException"), ("java/lang/ArrayIndexOutOfBoundsException", "java/lang/ArrayStoreException"), ("java/lang/ArrayStoreException", "java/lang/NullPointerException")]
/-- what the tables say at every moment: the classes, the arrays' classes, the nest's links, what can't be cast, arrays of references -/
def gw_K2 (U : State) : Prop := va_AO "CardHolder$Slot" U ∧ va_AO "java/lang/Object" U ∧ ∀ q ∈ gw_nc, va_Nc q.1 q.2 U
theorem gw_K2.moved {u U : State} (hvm : u.vm.Alike U.vm) (h : gw_K2 u) : gw_K2 U := ⟨va_AO.moved hvm h.1, va_AO.moved hvm h.2.1, fun q hq => va_Nc.moved hvm (h.2.2 q hq)⟩
def gw_K (D : gw_D) (U : State) : Prop := va_K D.1 gw_cl (gw_ty D.2) U ∧ gw_N U ∧ gw_K2 U
theorem gw_K.warm {D : gw_D} {s U : State} (hW : s.WarmedH U.vm) (h : gw_K D s) : gw_K D U := ⟨va_K.moved hW.alike h.1, h.2.1.warm hW, h.2.2.moved hW.alike⟩
theorem gw_K.same {D : gw_D} {u U : State} (e : u.vm = U.vm) (h : gw_K D u) : gw_K D U := by
  have hvm : u.vm.Alike U.vm := by rw [e]; exact Vm.Alike.refl _
  exact ⟨va_K.moved hvm h.1, h.2.1.same e, h.2.2.moved hvm⟩
/-- the constants of Token, the texts of Reader -/
def gw_tok : List String := ["END", "WORD", "NUMBER", "STOP", "NONE"]
def gw_txi : List Nat := [165, 166, 152, 121, 129, 137, 157, 146, 151]
def gw_txt : List String := ["city", "wear", "person", "worth", "does", "wishes", "card", "to", "forged"]
def gw_txl : List Nat := [4, 4, 6, 5, 4, 6, 4, 2, 6]
def gw_txb : List (List Int32) := [[99, 105, 116, 121], [119, 101, 97, 114], [112, 101, 114, 115, 111, 110], [119, 111, 114, 116, 104], [100, 111, 101, 115], [119, 105, 115, 104, 101, 115], [99, 97, 114, 100], [116, 111], [102, 111, 114, 103, 101, 100]]
/-- statics and constants that nobody writes: their cells lie outside A -/
def gw_ST (D : gw_D) (A : Nat → Prop) (U : State) (H : Heap) : Prop :=
  va_Z "java/util/ArrayList" "DEFAULTCAPACITY_EMPTY_ELEMENTDATA" "[Ljava/lang/Object;" (.ref (D.2 100)) A U H ∧
  va_T (.object "java/lang/Object") (D.2 100) 0 (fun _ => .null) A U H ∧
  (∀ i : Nat, i < 5 → va_Z "CardHolder$Token" (gw_tok.getD i "") "LCardHolder$Token;" (.ref (D.2 (101 + i))) A U H) ∧
  (∀ i j : Nat, i < 5 → j < 5 → D.2 (101 + i) = D.2 (101 + j) → i = j) ∧
  (∀ i : Nat, i < 9 → vk_R "CardHolder$Reader" (gw_txi.getD i 0) (gw_txt.getD i "") (D.2 (110 + i)) U) ∧
  vk_S 9 gw_txl gw_txb (fun i => D.2 (110 + i)) (fun i => D.2 (120 + i)) A U H ∧
  va_Z "java/lang/String" "COMPACT_STRINGS" "Z" (.int 1) A U H ∧
  va_Zq "jdk/internal/util/Preconditions" "SIOOBE_FORMATTER" "Ljava/util/function/BiFunction;" A U H ∧
  vx_Zq "java/lang/Throwable" "UNASSIGNED_STACK" "[Ljava/lang/StackTraceElement;" A U H ∧
  vx_Zq "java/lang/Throwable" "SUPPRESSED_SENTINEL" "Ljava/util/List;" A U H
theorem gw_ST.warm {D : gw_D} {A : Nat → Prop} {s U : State} {H : Heap} (hW : s.WarmedH U.vm) (h : gw_ST D A s H) : gw_ST D A U H := by
  obtain ⟨h1, h2, h3, h4, h5, h6, h7, h8, h9, h10⟩ := h
  have hvm := hW.alike
  exact ⟨va_Z.moved hvm h1, va_T.moved hvm h2, fun i hi => va_Z.moved hvm (h3 i hi), h4, fun i hi => vk_R.warm hW (h5 i hi), vk_S.moved hvm h6, va_Z.moved hvm h7, va_Zq.moved hvm h8, vx_Zq.moved hvm h9, vx_Zq.moved hvm h10⟩
theorem gw_ST.same {D : gw_D} {A : Nat → Prop} {u U : State} {H : Heap} (e : u.vm = U.vm) (h : gw_ST D A u H) : gw_ST D A U H := by
  obtain ⟨h1, h2, h3, h4, h5, h6, h7, h8, h9, h10⟩ := h
  have hvm : u.vm.Alike U.vm := by rw [e]; exact Vm.Alike.refl _
  exact ⟨va_Z.moved hvm h1, va_T.moved hvm h2, fun i hi => va_Z.moved hvm (h3 i hi), h4, fun i hi => vk_R.same e.symm (h5 i hi), vk_S.moved hvm h6, va_Z.moved hvm h7, va_Zq.moved hvm h8, vx_Zq.moved hvm h9, vx_Zq.moved hvm h10⟩
theorem gw_ST.kept {D : gw_D} {A : Nat → Prop} {U : State} {H H1 : Heap} (h : gw_ST D A U H) (hq : ∀ a : Nat, a < H.size → ¬ A a → H1[a]? = H[a]?) : gw_ST D A U H1 := by
  obtain ⟨h1, h2, h3, h4, h5, h6, h7, h8, h9, h10⟩ := h
  exact ⟨h1.kept hq, h2.kept hq, fun i hi => (h3 i hi).kept hq, h4, h5, h6.kept hq, h7.kept hq, h8.kept hq, h9.kept hq, h10.kept hq⟩
theorem gw_ST.narrow {D : gw_D} {A B : Nat → Prop} {U : State} {H : Heap} (h : gw_ST D A U H) (hAB : ∀ q, B q → A q) : gw_ST D B U H := by
  obtain ⟨h1, h2, h3, h4, h5, h6, h7, h8, h9, h10⟩ := h
  exact ⟨h1.narrow hAB, h2.narrow hAB, fun i hi => (h3 i hi).narrow hAB, h4, h5, h6.narrow hAB, h7.narrow hAB, h8.narrow hAB, h9.narrow hAB, h10.narrow hAB⟩
/-- a contract's start: the heap holds the cells ws -/
def gw_B (D : gw_D) (ws : va_W) (sz : Nat) (U : State) : Prop := U.heap.size = sz ∧ va_P D.1 gw_cl ws U.heap ∧ gw_K D U ∧ va_D (fun _ => True) ws ∧ gw_ST D (va_A ws sz) U U.heap
/-- its end: answer and cells by post, nothing outside A has changed -/
def gw_Q (D : gw_D) (post : Option Value → va_W → Prop) (A : Nat → Prop) : Array Value → State → Outcome → State → Prop := fun _ st oc t => (∃ (v : Option Value) (u : va_W), oc = .returned v ∧ post v u ∧ va_P D.1 gw_cl u t.heap ∧ va_D A u) ∧ va_F A st t
def gw_Ct (D : gw_D) (l : Launch) (y : MethodName) (cc : ByteArray) (nL : Nat) (ret : Option FieldType) (rm : Room) (As : List Value) (Ws : va_W → Prop) (post : Option Value → va_W → Prop) : Prop :=
  l.stackTraces = false → ∀ (ws : va_W), Ws ws → ∀ sz : Nat, Met l y (ws_ y cc nL ret) rm (va_Pc As (gw_B D ws sz)) (gw_Q D post (va_A ws sz)) rm.cells rm.slots (va_A ws sz)
def gw_b (b : Bool) : Int32 := cond b 1 0
def gw_pI (r : Int32) (Ws : va_W → Prop) : Option Value → va_W → Prop := fun v u => v = some (.int r) ∧ Ws u
def gw_pL (r : Int64) (Ws : va_W → Prop) : Option Value → va_W → Prop := fun v u => v = some (.long r) ∧ Ws u
def gw_pV (Ws : va_W → Prop) : Option Value → va_W → Prop := fun v u => v = none ∧ Ws u
/-- worlds by what they hold: a list of cells and a rest; two parts -/
def gw_st (w : va_W) (Wr : va_W → Prop) : va_W → Prop := fun ws => ∃ w2, Wr w2 ∧ ws = w ++ w2
def gw_sp (P Q : va_W → Prop) : va_W → Prop := fun ws => ∃ w1 w2, P w1 ∧ Q w2 ∧ ws = w1 ++ w2
abbrev gw_E : Type := Program × Env × State × MethodId × Array Value × List Frame × Method × Code × (Nat → Prop) × Launch × gw_D × Room × (State → Prop)
def gw_w (E : gw_E) (pc : Nat) (lv : List (Nat × Value)) (st : List Value) (ws : va_W) (k n : Nat) : Prop :=
  match E with
  | (p, e, s, m, args, below, meth, c, A, l, D, R, Q) => ∀ (H : Heap) (locs : List Loc) (ls : Array Slot), va_P D.1 gw_cl ws H → va_D A ws → va_S A s.heap H locs → lv_has ls c.maxLocals lv → W p l e R s m args below meth c H locs k n Q (F0 m pc ls st)
/-- the same of every world of a kind -/
def gw_W (E : gw_E) (pc : Nat) (lv : List (Nat × Value)) (st : List Value) (Ws : va_W → Prop) (k n : Nat) : Prop := ∀ ws : va_W, Ws ws → gw_w E pc lv st ws k n
def gw_X (E : gw_E) (cc : ByteArray) (nL : Nat) (own : String) (ret : Option FieldType) (l : Launch) (D : gw_D) (R : Room) (post : Option (Option Value → va_W → Prop)) : Prop :=
  match E with
  | (p, _, s, m, args, below, meth, c, A, l', D', R', Q') => l' = l ∧ D' = D ∧ R' = R ∧ (∀ q, post = some q → Q' = MQ below (gw_Q D q A) args s R.cells R.slots A) ∧ p.tables.exec = Jvm.exec ∧ c.code = cc ∧ c.maxLocals = nL ∧ meth.sig.returnType = ret ∧ meth.locks = false ∧ s.vm.findClass own = some m.cls ∧ (∀ w ∈ lw_all, w.before args s = true) ∧ gw_K D s ∧ (∀ q : Nat, s.heap.size ≤ q → A q) ∧ gw_ST D A s s.heap ∧ l.stackTraces = false
def gw_init (E : gw_E) : Prop := match E with
  | (_, _, _, _, _, _, meth, _, _, _, _, _, _) => meth.name = "<init>"
/-- a contract out of a walk -/
theorem gw_ct {D : gw_D} {l : Launch} {y : MethodName} {cc : ByteArray} {nL : Nat} {ret : Option FieldType} {rm : Room} {As : List Value} {Ws : va_W → Prop} {post : Option Value → va_W → Prop} {own : String} (lv0 : List (Nat × Value)) (hy : plainName y.cls = true) (hyc : y.cls = own) (hlen : (lg_sl As).length ≤ nL) (hl0 : lv_args 0 As = lv0)
    (body : ∀ E : gw_E, gw_X E cc nL own ret l D rm (some post) → gw_W E 0 lv0 [] Ws 0 0) : gw_Ct D l y cc nL ret rm As Ws post := by
  intro hfl ws hws sz
  refine Met.ofW (cc := cc) (maxL := nL) (ret := ret) hy rfl ?_
  intro p e s m args below meth c s₁ B hml hv
  obtain ⟨rfl, hsz, hP, hK, hD0, hST⟩ := hv
  have hts := atoms_spec (ws := ws_ y cc nL ret) B.pre
  have hts : ∀ w ∈ lw_all, w.before _ s = true := fun w h => hts w (List.mem_cons_of_mem _ h)
  have hown : s.vm.findClass own = some m.cls := hyc ▸ findClass_of_methodNamed B.named
  subst hsz
  have hD := hD0.self (sz := s.heap.size)
  have hl := lv_entry As (n := nL) hlen
  rw [lg_entry_eq]
  subst hl0
  exact body (p, e, s, m, As.toArray, below, meth, c, va_A ws s.heap.size, l, D, rm, MQ below (gw_Q D post (va_A ws s.heap.size)) As.toArray s rm.cells rm.slots (va_A ws s.heap.size)) ⟨rfl, rfl, rfl, fun q hq => by cases hq; rfl, B.exec, B.bytes, hml, B.returns, B.notSynchronized, hown, hts, hK, fun q h => Or.inr h, hST, hfl⟩ ws hws s.heap [] _ hP hD va_S.rf (by rw [hml]; exact hl)
/-- the same of a constructor -/
theorem gw_ctI {D : gw_D} {l : Launch} {y : MethodName} {cc : ByteArray} {nL : Nat} {ret : Option FieldType} {rm : Room} {As : List Value} {Ws : va_W → Prop} {post : Option Value → va_W → Prop} {own : String} (lv0 : List (Nat × Value)) (hy : plainName y.cls = true) (hyc : y.cls = own) (hyn : y.name = "<init>") (hlen : (lg_sl As).length ≤ nL) (hl0 : lv_args 0 As = lv0)
    (body : ∀ E : gw_E, gw_X E cc nL own ret l D rm (some post) → gw_init E → gw_W E 0 lv0 [] Ws 0 0) : gw_Ct D l y cc nL ret rm As Ws post := by
  intro hfl ws hws sz
  refine Met.ofW (cc := cc) (maxL := nL) (ret := ret) hy rfl ?_
  intro p e s m args below meth c s₁ B hml hv
  obtain ⟨rfl, hsz, hP, hK, hD0, hST⟩ := hv
  have hts := atoms_spec (ws := ws_ y cc nL ret) B.pre
  have hts : ∀ w ∈ lw_all, w.before _ s = true := fun w h => hts w (List.mem_cons_of_mem _ h)
  have hown : s.vm.findClass own = some m.cls := hyc ▸ findClass_of_methodNamed B.named
  have hin : meth.name = "<init>" := hyn ▸ (name_of_methodNamed B.named B.method).1
  subst hsz
  have hD := hD0.self (sz := s.heap.size)
  have hl := lv_entry As (n := nL) hlen
  rw [lg_entry_eq]
  subst hl0
  exact body (p, e, s, m, As.toArray, below, meth, c, va_A ws s.heap.size, l, D, rm, MQ below (gw_Q D post (va_A ws s.heap.size)) As.toArray s rm.cells rm.slots (va_A ws s.heap.size)) ⟨rfl, rfl, rfl, fun q hq => by cases hq; rfl, B.exec, B.bytes, hml, B.returns, B.notSynchronized, hown, hts, hK, fun q h => Or.inr h, hST, hfl⟩ hin ws hws s.heap [] _ hP hD va_S.rf (by rw [hml]; exact hl)
/-! pure words of the walks -/
def gw_ck {α : Type} (i : Int32) (n : Nat) (x : Option α) : Option α := if ¬ (i < 0 ∨ n ≤ i.toNatClampNeg) then x else none
theorem gw_ck_some {α : Type} {i : Int32} {n : Nat} {x : Option α} {r : α} (h : gw_ck i n x = some r) : vp_in i n ∧ x = some r := by
  unfold gw_ck at h
  split at h
  · exact ⟨by assumption, h⟩
  · cases h
theorem gw_in {i : Int32} {N : Nat} (h : decide (¬ (i < 0 ∨ N ≤ i.toNatClampNeg)) = true) : vp_in i N := (of_decide_eq_true h : ¬ (i < 0 ∨ N ≤ i.toNatClampNeg))
def gw_cz {α : Type} (y : Int32) (x : Option α) : Option α := if y = 0 then none else x
theorem gw_cz_some {α : Type} {y : Int32} {x : Option α} {r : α} (h : gw_cz y x = some r) : ¬ y = 0 ∧ x = some r := by
  unfold gw_cz at h
  split at h
  · cases h
  · exact ⟨by assumption, h⟩
def gw_czL {α : Type} (y : Int64) (x : Option α) : Option α := if y = 0 then none else x
theorem gw_czL_some {α : Type} {y : Int64} {x : Option α} {r : α} (h : gw_czL y x = some r) : ¬ y = 0 ∧ x = some r := by
  unfold gw_czL at h
  split at h
  · cases h
  · exact ⟨by assumption, h⟩
def gw_b1 {α β : Type} (o : Option α) (f : α → Option β) : Option β := match o with
  | none => none
  | some x => f x
def gw_b2 {α β γ : Type} (o : Option (α × β)) (f : α → β → Option γ) : Option γ := match o with
  | none => none
  | some x => f x.1 x.2
def gw_b3 {α β γ δ : Type} (o : Option (α × β × γ)) (f : α → β → γ → Option δ) : Option δ := match o with
  | none => none
  | some x => f x.1 x.2.1 x.2.2
def gw_b4 {α β γ δ ε : Type} (o : Option (α × β × γ × δ)) (f : α → β → γ → δ → Option ε) : Option ε := match o with
  | none => none
  | some x => f x.1 x.2.1 x.2.2.1 x.2.2.2
theorem gw_b1_some {α β : Type} {o : Option α} {f : α → Option β} {r : β} (h : gw_b1 o f = some r) : ∃ x, o = some x ∧ f x = some r := by
  cases o with
  | none => cases h
  | some x => exact ⟨x, rfl, h⟩
theorem gw_b2_some {α β γ : Type} {o : Option (α × β)} {f : α → β → Option γ} {r : γ} (h : gw_b2 o f = some r) : ∃ x y, o = some (x, y) ∧ f x y = some r := by
  cases o with
  | none => cases h
  | some x => exact ⟨x.1, x.2, rfl, h⟩
theorem gw_b3_some {α β γ δ : Type} {o : Option (α × β × γ)} {f : α → β → γ → Option δ} {r : δ} (h : gw_b3 o f = some r) : ∃ x y z, o = some (x, y, z) ∧ f x y z = some r := by
  cases o with
  | none => cases h
  | some x => exact ⟨x.1, x.2.1, x.2.2, rfl, h⟩
theorem gw_b4_some {α β γ δ ε : Type} {o : Option (α × β × γ × δ)} {f : α → β → γ → δ → Option ε} {r : ε} (h : gw_b4 o f = some r) : ∃ x y z w, o = some (x, y, z, w) ∧ f x y z w = some r := by
  cases o with
  | none => cases h
  | some x => exact ⟨x.1, x.2.1, x.2.2.1, x.2.2.2, rfl, h⟩
def gw_let {α β : Type} (v : α) (f : α → Option β) : Option β := f v
theorem gw_let_some {α β : Type} {v : α} {f : α → Option β} {r : β} (h : gw_let v f = some r) : ∃ x, x = v ∧ f x = some r := ⟨v, rfl, h⟩
theorem gw_t {α : Type} {c : Prop} [Decidable c] {x y r : α} (h : c) (hp : (if c then x else y) = r) : x = r := by
  rw [if_pos h] at hp; exact hp
theorem gw_f {α : Type} {c : Prop} [Decidable c] {x y r : α} (h : ¬ c) (hp : (if c then x else y) = r) : y = r := by
  rw [if_neg h] at hp; exact hp
def gw_u (σ : gw_S) (k j : Nat) (v : Int32) : gw_S := (fun i => if i = k then upd (σ.1 i) j v else σ.1 i, σ.2)
def gw_ul (σ : gw_S) (k j : Nat) (v : Int64) : gw_S := (σ.1, fun i => if i = k then vp_updL (σ.2 i) j v else σ.2 i)
/-- a whole array's contents put in the place of another's -/
def gw_ua (σ : gw_S) (k : Nat) (f : Nat → Int32) : gw_S := (fun i => if i = k then f else σ.1 i, σ.2)
def gw_cat (st : List Value) : Bool := Nat.ble ((st.map fun v => v.category).sum) 8
section GWR
variable {E : gw_E} {cc : ByteArray} {nL : Nat} {own : String} {ret : Option FieldType} {l : Launch} {D : gw_D} {R : Room} {post : Option (Option Value → va_W → Prop)} {pst0 : Option Value → va_W → Prop} {pc : Nat} {lv : List (Nat × Value)} {st : List Value} {ws : va_W} {Ws : va_W → Prop} {k n : Nat}
/-- fewer locals, in another order -/
theorem gw_lv (ks : List Nat) {lv' : List (Nat × Value)} (h : lv_pick lv ks = lv') (kk : gw_W E pc lv' st Ws k n) : gw_W E pc lv st Ws k n := by
  obtain ⟨p, e, s, m, args, below, meth, c, A, l1, D1, R1, Q1⟩ := E
  intro ws hw H locs ls hP hD hS hl
  exact kk ws hw H locs ls hP hD hS (lv_sub hl ks h)
theorem gw_widen {k' n' : Nat} (h1 : k ≤ k') (h2 : n ≤ n') (kk : gw_W E pc lv st Ws k' n') : gw_W E pc lv st Ws k n := by
  obtain ⟨p, e, s, m, args, below, meth, c, A, l1, D1, R1, Q1⟩ := E
  intro ws hw H locs ls hP hD hS hl
  exact W.widen h1 h2 (kk ws hw H locs ls hP hD hS hl)
/-- another world of the same kind -/
theorem gw_ww {Ws' : va_W → Prop} (h : ∀ ws, Ws ws → Ws' ws) (kk : gw_W E pc lv st Ws' k n) : gw_W E pc lv st Ws k n := fun ws hw => kk ws (h ws hw)
theorem gw_iadd (X : gw_X E cc nL own ret l D R post) (pc' : Nat) {x y : Int32} (d : decode cc pc = .ok (.iadd, 1)) (hp : pc + 1 = pc')  (kk : gw_W E pc' lv (.int (x + y) :: st) Ws k n) : gw_W E pc lv (.int y :: .int x :: st) Ws k n := by
  subst hp
  obtain ⟨p, e, s, m, args, below, meth, c, A, l1, D1, R1, Q1⟩ := E
  obtain ⟨rfl, rfl, rfl, hQ, hx, hb, hml, hr, hlk, hown, hts, hK, hA, hST, hfl⟩ := X
  intro ws hw0 H locs ls hP hD hS hl
  exact lv_iadd hx hb d (kk ws hw0 H locs ls hP hD hS hl)
theorem gw_isub (X : gw_X E cc nL own ret l D R post) (pc' : Nat) {x y : Int32} (d : decode cc pc = .ok (.isub, 1)) (hp : pc + 1 = pc')  (kk : gw_W E pc' lv (.int (x - y) :: st) Ws k n) : gw_W E pc lv (.int y :: .int x :: st) Ws k n := by
  subst hp
  obtain ⟨p, e, s, m, args, below, meth, c, A, l1, D1, R1, Q1⟩ := E
  obtain ⟨rfl, rfl, rfl, hQ, hx, hb, hml, hr, hlk, hown, hts, hK, hA, hST, hfl⟩ := X
  intro ws hw0 H locs ls hP hD hS hl
  exact lv_isub hx hb d (kk ws hw0 H locs ls hP hD hS hl)
theorem gw_imul (X : gw_X E cc nL own ret l D R post) (pc' : Nat) {x y : Int32} (d : decode cc pc = .ok (.imul, 1)) (hp : pc + 1 = pc')  (kk : gw_W E pc' lv (.int (x * y) :: st) Ws k n) : gw_W E pc lv (.int y :: .int x :: st) Ws k n := by
  subst hp
  obtain ⟨p, e, s, m, args, below, meth, c, A, l1, D1, R1, Q1⟩ := E
  obtain ⟨rfl, rfl, rfl, hQ, hx, hb, hml, hr, hlk, hown, hts, hK, hA, hST, hfl⟩ := X
  intro ws hw0 H locs ls hP hD hS hl
  exact lv_imul hx hb d (kk ws hw0 H locs ls hP hD hS hl)
theorem gw_iand (X : gw_X E cc nL own ret l D R post) (pc' : Nat) {x y : Int32} (d : decode cc pc = .ok (.iand, 1)) (hp : pc + 1 = pc')  (kk : gw_W E pc' lv (.int (x &&& y) :: st) Ws k n) : gw_W E pc lv (.int y :: .int x :: st) Ws k n := by
  subst hp
  obtain ⟨p, e, s, m, args, below, meth, c, A, l1, D1, R1, Q1⟩ := E
  obtain ⟨rfl, rfl, rfl, hQ, hx, hb, hml, hr, hlk, hown, hts, hK, hA, hST, hfl⟩ := X
  intro ws hw0 H locs ls hP hD hS hl
  exact lv_iand hx hb d (kk ws hw0 H locs ls hP hD hS hl)
theorem gw_ior (X : gw_X E cc nL own ret l D R post) (pc' : Nat) {x y : Int32} (d : decode cc pc = .ok (.ior, 1)) (hp : pc + 1 = pc')  (kk : gw_W E pc' lv (.int (x ||| y) :: st) Ws k n) : gw_W E pc lv (.int y :: .int x :: st) Ws k n := by
  subst hp
  obtain ⟨p, e, s, m, args, below, meth, c, A, l1, D1, R1, Q1⟩ := E
  obtain ⟨rfl, rfl, rfl, hQ, hx, hb, hml, hr, hlk, hown, hts, hK, hA, hST, hfl⟩ := X
  intro ws hw0 H locs ls hP hD hS hl
  exact lv_ior hx hb d (kk ws hw0 H locs ls hP hD hS hl)
theorem gw_ixor (X : gw_X E cc nL own ret l D R post) (pc' : Nat) {x y : Int32} (d : decode cc pc = .ok (.ixor, 1)) (hp : pc + 1 = pc')  (kk : gw_W E pc' lv (.int (x ^^^ y) :: st) Ws k n) : gw_W E pc lv (.int y :: .int x :: st) Ws k n := by
  subst hp
  obtain ⟨p, e, s, m, args, below, meth, c, A, l1, D1, R1, Q1⟩ := E
  obtain ⟨rfl, rfl, rfl, hQ, hx, hb, hml, hr, hlk, hown, hts, hK, hA, hST, hfl⟩ := X
  intro ws hw0 H locs ls hP hD hS hl
  exact lv_ixor hx hb d (kk ws hw0 H locs ls hP hD hS hl)
theorem gw_ishl (X : gw_X E cc nL own ret l D R post) (pc' : Nat) {x y : Int32} (d : decode cc pc = .ok (.ishl, 1)) (hp : pc + 1 = pc')  (kk : gw_W E pc' lv (.int (x <<< (y &&& 31)) :: st) Ws k n) : gw_W E pc lv (.int y :: .int x :: st) Ws k n := by
  subst hp
  obtain ⟨p, e, s, m, args, below, meth, c, A, l1, D1, R1, Q1⟩ := E
  obtain ⟨rfl, rfl, rfl, hQ, hx, hb, hml, hr, hlk, hown, hts, hK, hA, hST, hfl⟩ := X
  intro ws hw0 H locs ls hP hD hS hl
  exact lv_ishl hx hb d (kk ws hw0 H locs ls hP hD hS hl)
theorem gw_ishr (X : gw_X E cc nL own ret l D R post) (pc' : Nat) {x y : Int32} (d : decode cc pc = .ok (.ishr, 1)) (hp : pc + 1 = pc')  (kk : gw_W E pc' lv (.int (x >>> (y &&& 31)) :: st) Ws k n) : gw_W E pc lv (.int y :: .int x :: st) Ws k n := by
  subst hp
  obtain ⟨p, e, s, m, args, below, meth, c, A, l1, D1, R1, Q1⟩ := E
  obtain ⟨rfl, rfl, rfl, hQ, hx, hb, hml, hr, hlk, hown, hts, hK, hA, hST, hfl⟩ := X
  intro ws hw0 H locs ls hP hD hS hl
  exact lv_ishr hx hb d (kk ws hw0 H locs ls hP hD hS hl)
theorem gw_idiv (X : gw_X E cc nL own ret l D R post) (pc' : Nat) {x y : Int32} (d : decode cc pc = .ok (.idiv, 1)) (hp : pc + 1 = pc') (hne : ¬ y = 0) (kk : gw_W E pc' lv (.int (x / y) :: st) Ws k n) : gw_W E pc lv (.int y :: .int x :: st) Ws k n := by
  subst hp
  obtain ⟨p, e, s, m, args, below, meth, c, A, l1, D1, R1, Q1⟩ := E
  obtain ⟨rfl, rfl, rfl, hQ, hx, hb, hml, hr, hlk, hown, hts, hK, hA, hST, hfl⟩ := X
  intro ws hw0 H locs ls hP hD hS hl
  exact lv_idiv hx hb d hne (kk ws hw0 H locs ls hP hD hS hl)
theorem gw_irem (X : gw_X E cc nL own ret l D R post) (pc' : Nat) {x y : Int32} (d : decode cc pc = .ok (.irem, 1)) (hp : pc + 1 = pc') (hne : ¬ y = 0) (kk : gw_W E pc' lv (.int (x - x / y * y) :: st) Ws k n) : gw_W E pc lv (.int y :: .int x :: st) Ws k n := by
  subst hp
  obtain ⟨p, e, s, m, args, below, meth, c, A, l1, D1, R1, Q1⟩ := E
  obtain ⟨rfl, rfl, rfl, hQ, hx, hb, hml, hr, hlk, hown, hts, hK, hA, hST, hfl⟩ := X
  intro ws hw0 H locs ls hP hD hS hl
  exact lv_irem hx hb d hne (kk ws hw0 H locs ls hP hD hS hl)
theorem gw_ineg (X : gw_X E cc nL own ret l D R post) (pc' : Nat) {x : Int32} (d : decode cc pc = .ok (.ineg, 1)) (hp : pc + 1 = pc')  (kk : gw_W E pc' lv (.int (-x) :: st) Ws k n) : gw_W E pc lv (.int x :: st) Ws k n := by
  subst hp
  obtain ⟨p, e, s, m, args, below, meth, c, A, l1, D1, R1, Q1⟩ := E
  obtain ⟨rfl, rfl, rfl, hQ, hx, hb, hml, hr, hlk, hown, hts, hK, hA, hST, hfl⟩ := X
  intro ws hw0 H locs ls hP hD hS hl
  exact lv_ineg hx hb d (kk ws hw0 H locs ls hP hD hS hl)
theorem gw_iushr (X : gw_X E cc nL own ret l D R post) (pc' : Nat) {x y : Int32} (d : decode cc pc = .ok (.iushr, 1)) (hp : pc + 1 = pc')  (kk : gw_W E pc' lv (.int ((x.toUInt32 >>> (y.toUInt32 &&& Int32.toUInt32 31)).toInt32) :: st) Ws k n) : gw_W E pc lv (.int y :: .int x :: st) Ws k n := by
  subst hp
  obtain ⟨p, e, s, m, args, below, meth, c, A, l1, D1, R1, Q1⟩ := E
  obtain ⟨rfl, rfl, rfl, hQ, hx, hb, hml, hr, hlk, hown, hts, hK, hA, hST, hfl⟩ := X
  intro ws hw0 H locs ls hP hD hS hl
  exact lv_iushr hx hb d rfl (kk ws hw0 H locs ls hP hD hS hl)
theorem gw_ladd (X : gw_X E cc nL own ret l D R post) (pc' : Nat) {x y : Int64} (d : decode cc pc = .ok (.ladd, 1)) (hp : pc + 1 = pc')  (kk : gw_W E pc' lv (.long (x + y) :: st) Ws k n) : gw_W E pc lv (.long y :: .long x :: st) Ws k n := by
  subst hp
  obtain ⟨p, e, s, m, args, below, meth, c, A, l1, D1, R1, Q1⟩ := E
  obtain ⟨rfl, rfl, rfl, hQ, hx, hb, hml, hr, hlk, hown, hts, hK, hA, hST, hfl⟩ := X
  intro ws hw0 H locs ls hP hD hS hl
  exact lv_ladd hx hb d (kk ws hw0 H locs ls hP hD hS hl)
theorem gw_lsub (X : gw_X E cc nL own ret l D R post) (pc' : Nat) {x y : Int64} (d : decode cc pc = .ok (.lsub, 1)) (hp : pc + 1 = pc')  (kk : gw_W E pc' lv (.long (x - y) :: st) Ws k n) : gw_W E pc lv (.long y :: .long x :: st) Ws k n := by
  subst hp
  obtain ⟨p, e, s, m, args, below, meth, c, A, l1, D1, R1, Q1⟩ := E
  obtain ⟨rfl, rfl, rfl, hQ, hx, hb, hml, hr, hlk, hown, hts, hK, hA, hST, hfl⟩ := X
  intro ws hw0 H locs ls hP hD hS hl
  exact lv_lsub hx hb d (kk ws hw0 H locs ls hP hD hS hl)
theorem gw_lmul (X : gw_X E cc nL own ret l D R post) (pc' : Nat) {x y : Int64} (d : decode cc pc = .ok (.lmul, 1)) (hp : pc + 1 = pc')  (kk : gw_W E pc' lv (.long (x * y) :: st) Ws k n) : gw_W E pc lv (.long y :: .long x :: st) Ws k n := by
  subst hp
  obtain ⟨p, e, s, m, args, below, meth, c, A, l1, D1, R1, Q1⟩ := E
  obtain ⟨rfl, rfl, rfl, hQ, hx, hb, hml, hr, hlk, hown, hts, hK, hA, hST, hfl⟩ := X
  intro ws hw0 H locs ls hP hD hS hl
  exact lv_lmul hx hb d (kk ws hw0 H locs ls hP hD hS hl)
theorem gw_land (X : gw_X E cc nL own ret l D R post) (pc' : Nat) {x y : Int64} (d : decode cc pc = .ok (.land, 1)) (hp : pc + 1 = pc')  (kk : gw_W E pc' lv (.long (x &&& y) :: st) Ws k n) : gw_W E pc lv (.long y :: .long x :: st) Ws k n := by
  subst hp
  obtain ⟨p, e, s, m, args, below, meth, c, A, l1, D1, R1, Q1⟩ := E
  obtain ⟨rfl, rfl, rfl, hQ, hx, hb, hml, hr, hlk, hown, hts, hK, hA, hST, hfl⟩ := X
  intro ws hw0 H locs ls hP hD hS hl
  exact lv_land hx hb d (kk ws hw0 H locs ls hP hD hS hl)
theorem gw_lor (X : gw_X E cc nL own ret l D R post) (pc' : Nat) {x y : Int64} (d : decode cc pc = .ok (.lor, 1)) (hp : pc + 1 = pc')  (kk : gw_W E pc' lv (.long (x ||| y) :: st) Ws k n) : gw_W E pc lv (.long y :: .long x :: st) Ws k n := by
  subst hp
  obtain ⟨p, e, s, m, args, below, meth, c, A, l1, D1, R1, Q1⟩ := E
  obtain ⟨rfl, rfl, rfl, hQ, hx, hb, hml, hr, hlk, hown, hts, hK, hA, hST, hfl⟩ := X
  intro ws hw0 H locs ls hP hD hS hl
  exact lv_lor hx hb d (kk ws hw0 H locs ls hP hD hS hl)
theorem gw_lxor (X : gw_X E cc nL own ret l D R post) (pc' : Nat) {x y : Int64} (d : decode cc pc = .ok (.lxor, 1)) (hp : pc + 1 = pc')  (kk : gw_W E pc' lv (.long (x ^^^ y) :: st) Ws k n) : gw_W E pc lv (.long y :: .long x :: st) Ws k n := by
  subst hp
  obtain ⟨p, e, s, m, args, below, meth, c, A, l1, D1, R1, Q1⟩ := E
  obtain ⟨rfl, rfl, rfl, hQ, hx, hb, hml, hr, hlk, hown, hts, hK, hA, hST, hfl⟩ := X
  intro ws hw0 H locs ls hP hD hS hl
  exact lv_lxor hx hb d (kk ws hw0 H locs ls hP hD hS hl)
theorem gw_ldiv (X : gw_X E cc nL own ret l D R post) (pc' : Nat) {x y : Int64} (d : decode cc pc = .ok (.ldiv, 1)) (hp : pc + 1 = pc') (hne : ¬ y = 0) (kk : gw_W E pc' lv (.long (x / y) :: st) Ws k n) : gw_W E pc lv (.long y :: .long x :: st) Ws k n := by
  subst hp
  obtain ⟨p, e, s, m, args, below, meth, c, A, l1, D1, R1, Q1⟩ := E
  obtain ⟨rfl, rfl, rfl, hQ, hx, hb, hml, hr, hlk, hown, hts, hK, hA, hST, hfl⟩ := X
  intro ws hw0 H locs ls hP hD hS hl
  exact lv_ldiv hx hb d hne (kk ws hw0 H locs ls hP hD hS hl)
theorem gw_lrem (X : gw_X E cc nL own ret l D R post) (pc' : Nat) {x y : Int64} (d : decode cc pc = .ok (.lrem, 1)) (hp : pc + 1 = pc') (hne : ¬ y = 0) (kk : gw_W E pc' lv (.long (x - x / y * y) :: st) Ws k n) : gw_W E pc lv (.long y :: .long x :: st) Ws k n := by
  subst hp
  obtain ⟨p, e, s, m, args, below, meth, c, A, l1, D1, R1, Q1⟩ := E
  obtain ⟨rfl, rfl, rfl, hQ, hx, hb, hml, hr, hlk, hown, hts, hK, hA, hST, hfl⟩ := X
  intro ws hw0 H locs ls hP hD hS hl
  exact lv_lrem hx hb d hne (kk ws hw0 H locs ls hP hD hS hl)
theorem gw_lshl (X : gw_X E cc nL own ret l D R post) (pc' : Nat) {x : Int64} {y : Int32} (d : decode cc pc = .ok (.lshl, 1)) (hp : pc + 1 = pc')  (kk : gw_W E pc' lv (.long (x <<< (y.toInt64 &&& 63)) :: st) Ws k n) : gw_W E pc lv (.int y :: .long x :: st) Ws k n := by
  subst hp
  obtain ⟨p, e, s, m, args, below, meth, c, A, l1, D1, R1, Q1⟩ := E
  obtain ⟨rfl, rfl, rfl, hQ, hx, hb, hml, hr, hlk, hown, hts, hK, hA, hST, hfl⟩ := X
  intro ws hw0 H locs ls hP hD hS hl
  exact lv_lshl hx hb d rfl (kk ws hw0 H locs ls hP hD hS hl)
theorem gw_lcmp (X : gw_X E cc nL own ret l D R post) (pc' : Nat) {x y : Int64} (d : decode cc pc = .ok (.lcmp, 1)) (hp : pc + 1 = pc')  (kk : gw_W E pc' lv (.int (lg_cmp x y) :: st) Ws k n) : gw_W E pc lv (.long y :: .long x :: st) Ws k n := by
  subst hp
  obtain ⟨p, e, s, m, args, below, meth, c, A, l1, D1, R1, Q1⟩ := E
  obtain ⟨rfl, rfl, rfl, hQ, hx, hb, hml, hr, hlk, hown, hts, hK, hA, hST, hfl⟩ := X
  intro ws hw0 H locs ls hP hD hS hl
  exact W.lcmp hx hb d (kk ws hw0 H locs ls hP hD hS hl)
theorem gw_i2l (X : gw_X E cc nL own ret l D R post) (pc' : Nat) {x : Int32} (d : decode cc pc = .ok (.i2l, 1)) (hp : pc + 1 = pc')  (kk : gw_W E pc' lv (.long (x.toInt64) :: st) Ws k n) : gw_W E pc lv (.int x :: st) Ws k n := by
  subst hp
  obtain ⟨p, e, s, m, args, below, meth, c, A, l1, D1, R1, Q1⟩ := E
  obtain ⟨rfl, rfl, rfl, hQ, hx, hb, hml, hr, hlk, hown, hts, hK, hA, hST, hfl⟩ := X
  intro ws hw0 H locs ls hP hD hS hl
  exact lv_i2l hx hb d rfl (kk ws hw0 H locs ls hP hD hS hl)
theorem gw_l2i (X : gw_X E cc nL own ret l D R post) (pc' : Nat) {x : Int64} (d : decode cc pc = .ok (.l2i, 1)) (hp : pc + 1 = pc')  (kk : gw_W E pc' lv (.int (x.toInt32) :: st) Ws k n) : gw_W E pc lv (.long x :: st) Ws k n := by
  subst hp
  obtain ⟨p, e, s, m, args, below, meth, c, A, l1, D1, R1, Q1⟩ := E
  obtain ⟨rfl, rfl, rfl, hQ, hx, hb, hml, hr, hlk, hown, hts, hK, hA, hST, hfl⟩ := X
  intro ws hw0 H locs ls hP hD hS hl
  exact lv_l2i hx hb d rfl (kk ws hw0 H locs ls hP hD hS hl)
theorem gw_i2b (X : gw_X E cc nL own ret l D R post) (pc' : Nat) {x : Int32} (d : decode cc pc = .ok (.i2b, 1)) (hp : pc + 1 = pc')  (kk : gw_W E pc' lv (.int (x.toInt8.toInt32) :: st) Ws k n) : gw_W E pc lv (.int x :: st) Ws k n := by
  subst hp
  obtain ⟨p, e, s, m, args, below, meth, c, A, l1, D1, R1, Q1⟩ := E
  obtain ⟨rfl, rfl, rfl, hQ, hx, hb, hml, hr, hlk, hown, hts, hK, hA, hST, hfl⟩ := X
  intro ws hw0 H locs ls hP hD hS hl
  exact lv_i2b hx hb d rfl (kk ws hw0 H locs ls hP hD hS hl)
theorem gw_i2s (X : gw_X E cc nL own ret l D R post) (pc' : Nat) {x : Int32} (d : decode cc pc = .ok (.i2s, 1)) (hp : pc + 1 = pc')  (kk : gw_W E pc' lv (.int (x.toInt16.toInt32) :: st) Ws k n) : gw_W E pc lv (.int x :: st) Ws k n := by
  subst hp
  obtain ⟨p, e, s, m, args, below, meth, c, A, l1, D1, R1, Q1⟩ := E
  obtain ⟨rfl, rfl, rfl, hQ, hx, hb, hml, hr, hlk, hown, hts, hK, hA, hST, hfl⟩ := X
  intro ws hw0 H locs ls hP hD hS hl
  exact lv_i2s hx hb d rfl (kk ws hw0 H locs ls hP hD hS hl)
theorem gw_iconst (X : gw_X E cc nL own ret l D R post) (pc' : Nat) {z : Int} {v : Int32} (d : decode cc pc = .ok (.iconst z, 1)) (hp : pc + 1 = pc') (hv : Int32.ofInt z = v) (kk : gw_W E pc' lv (.int v :: st) Ws k n) : gw_W E pc lv (st) Ws k n := by
  subst hp
  obtain ⟨p, e, s, m, args, below, meth, c, A, l1, D1, R1, Q1⟩ := E
  obtain ⟨rfl, rfl, rfl, hQ, hx, hb, hml, hr, hlk, hown, hts, hK, hA, hST, hfl⟩ := X
  intro ws hw0 H locs ls hP hD hS hl
  exact lv_iconst hx hb d hv (kk ws hw0 H locs ls hP hD hS hl)
theorem gw_bipush (X : gw_X E cc nL own ret l D R post) (pc' : Nat) {z : Int} {v : Int32} (d : decode cc pc = .ok (.bipush z, 2)) (hp : pc + 2 = pc') (hv : (Int8.ofInt z).toInt32 = v) (kk : gw_W E pc' lv (.int v :: st) Ws k n) : gw_W E pc lv (st) Ws k n := by
  subst hp
  obtain ⟨p, e, s, m, args, below, meth, c, A, l1, D1, R1, Q1⟩ := E
  obtain ⟨rfl, rfl, rfl, hQ, hx, hb, hml, hr, hlk, hown, hts, hK, hA, hST, hfl⟩ := X
  intro ws hw0 H locs ls hP hD hS hl
  exact lv_bipush hx hb d hv (kk ws hw0 H locs ls hP hD hS hl)
theorem gw_sipush (X : gw_X E cc nL own ret l D R post) (pc' : Nat) {z : Int} {v : Int32} (d : decode cc pc = .ok (.sipush z, 3)) (hp : pc + 3 = pc') (hv : (Int16.ofInt z).toInt32 = v) (kk : gw_W E pc' lv (.int v :: st) Ws k n) : gw_W E pc lv (st) Ws k n := by
  subst hp
  obtain ⟨p, e, s, m, args, below, meth, c, A, l1, D1, R1, Q1⟩ := E
  obtain ⟨rfl, rfl, rfl, hQ, hx, hb, hml, hr, hlk, hown, hts, hK, hA, hST, hfl⟩ := X
  intro ws hw0 H locs ls hP hD hS hl
  exact lv_sipush hx hb d hv (kk ws hw0 H locs ls hP hD hS hl)
theorem gw_lconst (X : gw_X E cc nL own ret l D R post) (pc' : Nat) {z : Fin 2} {v : Int64} (d : decode cc pc = .ok (.lconst z, 1)) (hp : pc + 1 = pc') (hv : Int64.ofNat (z : Nat) = v) (kk : gw_W E pc' lv (.long v :: st) Ws k n) : gw_W E pc lv (st) Ws k n := by
  subst hp
  obtain ⟨p, e, s, m, args, below, meth, c, A, l1, D1, R1, Q1⟩ := E
  obtain ⟨rfl, rfl, rfl, hQ, hx, hb, hml, hr, hlk, hown, hts, hK, hA, hST, hfl⟩ := X
  intro ws hw0 H locs ls hP hD hS hl
  exact lv_lconst hx hb d hv (kk ws hw0 H locs ls hP hD hS hl)
theorem gw_ldc (X : gw_X E cc nL own ret l D R post) (pc' : Nat) {idx : Nat} {v : Int32} (d : decode cc pc = .ok (.ldc idx, 2)) (hp : pc + 2 = pc') (hc : Cond.constant own idx v ∈ lw_all) (kk : gw_W E pc' lv (.int v :: st) Ws k n) : gw_W E pc lv (st) Ws k n := by
  subst hp
  obtain ⟨p, e, s, m, args, below, meth, c, A, l1, D1, R1, Q1⟩ := E
  obtain ⟨rfl, rfl, rfl, hQ, hx, hb, hml, hr, hlk, hown, hts, hK, hA, hST, hfl⟩ := X
  intro ws hw0 H locs ls hP hD hS hl
  exact lv_ldc hx hb hown (hts _ hc) d (kk ws hw0 H locs ls hP hD hS hl)
theorem gw_ldcw (X : gw_X E cc nL own ret l D R post) (pc' : Nat) {idx : Nat} {v : Int32} (d : decode cc pc = .ok (.ldc_w idx, 3)) (hp : pc + 3 = pc') (hc : Cond.constant own idx v ∈ lw_all) (kk : gw_W E pc' lv (.int v :: st) Ws k n) : gw_W E pc lv (st) Ws k n := by
  subst hp
  obtain ⟨p, e, s, m, args, below, meth, c, A, l1, D1, R1, Q1⟩ := E
  obtain ⟨rfl, rfl, rfl, hQ, hx, hb, hml, hr, hlk, hown, hts, hK, hA, hST, hfl⟩ := X
  intro ws hw0 H locs ls hP hD hS hl
  exact lv_ldcw hx hb hown (hts _ hc) d (kk ws hw0 H locs ls hP hD hS hl)
theorem gw_ldc2 (X : gw_X E cc nL own ret l D R post) (pc' : Nat) {idx : Nat} {v : Int64} (d : decode cc pc = .ok (.ldc2_w idx, 3)) (hp : pc + 3 = pc') (hc : Cond.constantLong own idx v ∈ lw_all) (kk : gw_W E pc' lv (.long v :: st) Ws k n) : gw_W E pc lv (st) Ws k n := by
  subst hp
  obtain ⟨p, e, s, m, args, below, meth, c, A, l1, D1, R1, Q1⟩ := E
  obtain ⟨rfl, rfl, rfl, hQ, hx, hb, hml, hr, hlk, hown, hts, hK, hA, hST, hfl⟩ := X
  intro ws hw0 H locs ls hP hD hS hl
  exact lv_ldc2 hx hb hown (hts _ hc) d (kk ws hw0 H locs ls hP hD hS hl)
theorem gw_null (X : gw_X E cc nL own ret l D R post) (pc' : Nat)  (d : decode cc pc = .ok (.aconst_null, 1)) (hp : pc + 1 = pc')  (kk : gw_W E pc' lv (.null :: st) Ws k n) : gw_W E pc lv (st) Ws k n := by
  subst hp
  obtain ⟨p, e, s, m, args, below, meth, c, A, l1, D1, R1, Q1⟩ := E
  obtain ⟨rfl, rfl, rfl, hQ, hx, hb, hml, hr, hlk, hown, hts, hK, hA, hST, hfl⟩ := X
  intro ws hw0 H locs ls hP hD hS hl
  exact lv_null hx hb d (kk ws hw0 H locs ls hP hD hS hl)
theorem gw_iload_n (X : gw_X E cc nL own ret l D R post) (pc' : Nat) (j : Nat) {f4 : Fin 4} {i : Nat} {x : Int32} (d : decode cc pc = .ok (.iload_n f4, 1)) (hp : pc + 1 = pc') (hi : (f4 : Nat) = i) (hj : lv[j]? = some (i, .int x)) (kk : gw_W E pc' lv (.int x :: st) Ws k n) : gw_W E pc lv (st) Ws k n := by
  subst hp
  obtain ⟨p, e, s, m, args, below, meth, c, A, l1, D1, R1, Q1⟩ := E
  obtain ⟨rfl, rfl, rfl, hQ, hx, hb, hml, hr, hlk, hown, hts, hK, hA, hST, hfl⟩ := X
  intro ws hw0 H locs ls hP hD hS hl
  exact lv_iload_n hx hb d hi (lv_at hl j hj) (kk ws hw0 H locs ls hP hD hS hl)
theorem gw_iload (X : gw_X E cc nL own ret l D R post) (pc' : Nat) (j : Nat) {i : Nat} {x : Int32} (d : decode cc pc = .ok (.iload i, 2)) (hp : pc + 2 = pc') (hj : lv[j]? = some (i, .int x)) (kk : gw_W E pc' lv (.int x :: st) Ws k n) : gw_W E pc lv (st) Ws k n := by
  subst hp
  obtain ⟨p, e, s, m, args, below, meth, c, A, l1, D1, R1, Q1⟩ := E
  obtain ⟨rfl, rfl, rfl, hQ, hx, hb, hml, hr, hlk, hown, hts, hK, hA, hST, hfl⟩ := X
  intro ws hw0 H locs ls hP hD hS hl
  exact lv_iload hx hb d (lv_at hl j hj) (kk ws hw0 H locs ls hP hD hS hl)
theorem gw_istore_n (X : gw_X E cc nL own ret l D R post) (pc' : Nat) (lv' : List (Nat × Value)) {f4 : Fin 4} {i : Nat} {x : Int32} (d : decode cc pc = .ok (.istore_n f4, 1)) (hp : pc + 1 = pc') (hi : (f4 : Nat) = i) (hn : i < nL) (hf : (i, Value.int x) :: lv.filter (fun q => !(q.1 == i) && !(q.1 + 1 == i && q.2.category == 2)) = lv') (kk : gw_W E pc' lv' (st) Ws k n) : gw_W E pc lv (.int x :: st) Ws k n := by
  subst hp
  obtain ⟨p, e, s, m, args, below, meth, c, A, l1, D1, R1, Q1⟩ := E
  obtain ⟨rfl, rfl, rfl, hQ, hx, hb, hml, hr, hlk, hown, hts, hK, hA, hST, hfl⟩ := X
  intro ws hw0 H locs ls hP hD hS hl
  exact lv_istore_n hx hb d hi hl (by rw [hml]; exact hn) hf (fun ls' hl' => kk ws hw0 H locs ls' hP hD hS hl')
theorem gw_istore (X : gw_X E cc nL own ret l D R post) (pc' : Nat) (lv' : List (Nat × Value)) {i : Nat} {x : Int32} (d : decode cc pc = .ok (.istore i, 2)) (hp : pc + 2 = pc') (hn : i < nL) (hf : (i, Value.int x) :: lv.filter (fun q => !(q.1 == i) && !(q.1 + 1 == i && q.2.category == 2)) = lv') (kk : gw_W E pc' lv' (st) Ws k n) : gw_W E pc lv (.int x :: st) Ws k n := by
  subst hp
  obtain ⟨p, e, s, m, args, below, meth, c, A, l1, D1, R1, Q1⟩ := E
  obtain ⟨rfl, rfl, rfl, hQ, hx, hb, hml, hr, hlk, hown, hts, hK, hA, hST, hfl⟩ := X
  intro ws hw0 H locs ls hP hD hS hl
  exact lv_istore hx hb d hl (by rw [hml]; exact hn) hf (fun ls' hl' => kk ws hw0 H locs ls' hP hD hS hl')
theorem gw_lload_n (X : gw_X E cc nL own ret l D R post) (pc' : Nat) (j : Nat) {f4 : Fin 4} {i : Nat} {x : Int64} (d : decode cc pc = .ok (.lload_n f4, 1)) (hp : pc + 1 = pc') (hi : (f4 : Nat) = i) (hj : lv[j]? = some (i, .long x)) (kk : gw_W E pc' lv (.long x :: st) Ws k n) : gw_W E pc lv (st) Ws k n := by
  subst hp
  obtain ⟨p, e, s, m, args, below, meth, c, A, l1, D1, R1, Q1⟩ := E
  obtain ⟨rfl, rfl, rfl, hQ, hx, hb, hml, hr, hlk, hown, hts, hK, hA, hST, hfl⟩ := X
  intro ws hw0 H locs ls hP hD hS hl
  exact lv_lload_n hx hb d hi (lv_at hl j hj) (kk ws hw0 H locs ls hP hD hS hl)
theorem gw_lload (X : gw_X E cc nL own ret l D R post) (pc' : Nat) (j : Nat) {i : Nat} {x : Int64} (d : decode cc pc = .ok (.lload i, 2)) (hp : pc + 2 = pc') (hj : lv[j]? = some (i, .long x)) (kk : gw_W E pc' lv (.long x :: st) Ws k n) : gw_W E pc lv (st) Ws k n := by
  subst hp
  obtain ⟨p, e, s, m, args, below, meth, c, A, l1, D1, R1, Q1⟩ := E
  obtain ⟨rfl, rfl, rfl, hQ, hx, hb, hml, hr, hlk, hown, hts, hK, hA, hST, hfl⟩ := X
  intro ws hw0 H locs ls hP hD hS hl
  exact lv_lload hx hb d (lv_at hl j hj) (kk ws hw0 H locs ls hP hD hS hl)
theorem gw_lstore_n (X : gw_X E cc nL own ret l D R post) (pc' : Nat) (lv' : List (Nat × Value)) {f4 : Fin 4} {i : Nat} {x : Int64} (d : decode cc pc = .ok (.lstore_n f4, 1)) (hp : pc + 1 = pc') (hi : (f4 : Nat) = i) (hn : i + 1 < nL) (hf : (i, Value.long x) :: lv.filter (fun q => !(q.1 == i) && (!(q.1 == i + 1) && !(q.1 + 1 == i && q.2.category == 2))) = lv') (kk : gw_W E pc' lv' (st) Ws k n) : gw_W E pc lv (.long x :: st) Ws k n := by
  subst hp
  obtain ⟨p, e, s, m, args, below, meth, c, A, l1, D1, R1, Q1⟩ := E
  obtain ⟨rfl, rfl, rfl, hQ, hx, hb, hml, hr, hlk, hown, hts, hK, hA, hST, hfl⟩ := X
  intro ws hw0 H locs ls hP hD hS hl
  exact lv_lstore_n hx hb d hi hl (by rw [hml]; exact hn) hf (fun ls' hl' => kk ws hw0 H locs ls' hP hD hS hl')
theorem gw_lstore (X : gw_X E cc nL own ret l D R post) (pc' : Nat) (lv' : List (Nat × Value)) {i : Nat} {x : Int64} (d : decode cc pc = .ok (.lstore i, 2)) (hp : pc + 2 = pc') (hn : i + 1 < nL) (hf : (i, Value.long x) :: lv.filter (fun q => !(q.1 == i) && (!(q.1 == i + 1) && !(q.1 + 1 == i && q.2.category == 2))) = lv') (kk : gw_W E pc' lv' (st) Ws k n) : gw_W E pc lv (.long x :: st) Ws k n := by
  subst hp
  obtain ⟨p, e, s, m, args, below, meth, c, A, l1, D1, R1, Q1⟩ := E
  obtain ⟨rfl, rfl, rfl, hQ, hx, hb, hml, hr, hlk, hown, hts, hK, hA, hST, hfl⟩ := X
  intro ws hw0 H locs ls hP hD hS hl
  exact lv_lstore hx hb d hl (by rw [hml]; exact hn) hf (fun ls' hl' => kk ws hw0 H locs ls' hP hD hS hl')
theorem gw_aload_n (X : gw_X E cc nL own ret l D R post) (pc' : Nat) (j : Nat) {f4 : Fin 4} {i : Nat} {x : Nat} (d : decode cc pc = .ok (.aload_n f4, 1)) (hp : pc + 1 = pc') (hi : (f4 : Nat) = i) (hj : lv[j]? = some (i, .ref x)) (kk : gw_W E pc' lv (.ref x :: st) Ws k n) : gw_W E pc lv (st) Ws k n := by
  subst hp
  obtain ⟨p, e, s, m, args, below, meth, c, A, l1, D1, R1, Q1⟩ := E
  obtain ⟨rfl, rfl, rfl, hQ, hx, hb, hml, hr, hlk, hown, hts, hK, hA, hST, hfl⟩ := X
  intro ws hw0 H locs ls hP hD hS hl
  exact lv_aload_n hx hb d hi (lv_at hl j hj) (kk ws hw0 H locs ls hP hD hS hl)
theorem gw_aload (X : gw_X E cc nL own ret l D R post) (pc' : Nat) (j : Nat) {i : Nat} {x : Nat} (d : decode cc pc = .ok (.aload i, 2)) (hp : pc + 2 = pc') (hj : lv[j]? = some (i, .ref x)) (kk : gw_W E pc' lv (.ref x :: st) Ws k n) : gw_W E pc lv (st) Ws k n := by
  subst hp
  obtain ⟨p, e, s, m, args, below, meth, c, A, l1, D1, R1, Q1⟩ := E
  obtain ⟨rfl, rfl, rfl, hQ, hx, hb, hml, hr, hlk, hown, hts, hK, hA, hST, hfl⟩ := X
  intro ws hw0 H locs ls hP hD hS hl
  exact lv_aload hx hb d (lv_at hl j hj) (kk ws hw0 H locs ls hP hD hS hl)
theorem gw_astore_n (X : gw_X E cc nL own ret l D R post) (pc' : Nat) (lv' : List (Nat × Value)) {f4 : Fin 4} {i : Nat} {x : Nat} (d : decode cc pc = .ok (.astore_n f4, 1)) (hp : pc + 1 = pc') (hi : (f4 : Nat) = i) (hn : i < nL) (hf : (i, Value.ref x) :: lv.filter (fun q => !(q.1 == i) && !(q.1 + 1 == i && q.2.category == 2)) = lv') (kk : gw_W E pc' lv' (st) Ws k n) : gw_W E pc lv (.ref x :: st) Ws k n := by
  subst hp
  obtain ⟨p, e, s, m, args, below, meth, c, A, l1, D1, R1, Q1⟩ := E
  obtain ⟨rfl, rfl, rfl, hQ, hx, hb, hml, hr, hlk, hown, hts, hK, hA, hST, hfl⟩ := X
  intro ws hw0 H locs ls hP hD hS hl
  exact lv_astore_n hx hb d hi hl (by rw [hml]; exact hn) hf (fun ls' hl' => kk ws hw0 H locs ls' hP hD hS hl')
theorem gw_astore (X : gw_X E cc nL own ret l D R post) (pc' : Nat) (lv' : List (Nat × Value)) {i : Nat} {x : Nat} (d : decode cc pc = .ok (.astore i, 2)) (hp : pc + 2 = pc') (hn : i < nL) (hf : (i, Value.ref x) :: lv.filter (fun q => !(q.1 == i) && !(q.1 + 1 == i && q.2.category == 2)) = lv') (kk : gw_W E pc' lv' (st) Ws k n) : gw_W E pc lv (.ref x :: st) Ws k n := by
  subst hp
  obtain ⟨p, e, s, m, args, below, meth, c, A, l1, D1, R1, Q1⟩ := E
  obtain ⟨rfl, rfl, rfl, hQ, hx, hb, hml, hr, hlk, hown, hts, hK, hA, hST, hfl⟩ := X
  intro ws hw0 H locs ls hP hD hS hl
  exact lv_astore hx hb d hl (by rw [hml]; exact hn) hf (fun ls' hl' => kk ws hw0 H locs ls' hP hD hS hl')
theorem gw_iinc (X : gw_X E cc nL own ret l D R post) (pc' : Nat) (j : Nat) (lv' : List (Nat × Value)) {i : Nat} {z : Int} {x w : Int32} (d : decode cc pc = .ok (.iinc i z, 3)) (hp : pc + 3 = pc') (hj : lv[j]? = some (i, .int x)) (hc : Int32.ofInt z = w) (hn : i < nL) (hf : (i, Value.int (x + w)) :: lv.filter (fun q => !(q.1 == i) && !(q.1 + 1 == i && q.2.category == 2)) = lv') (kk : gw_W E pc' lv' (st) Ws k n) : gw_W E pc lv (st) Ws k n := by
  subst hp
  obtain ⟨p, e, s, m, args, below, meth, c, A, l1, D1, R1, Q1⟩ := E
  obtain ⟨rfl, rfl, rfl, hQ, hx, hb, hml, hr, hlk, hown, hts, hK, hA, hST, hfl⟩ := X
  intro ws hw0 H locs ls hP hD hS hl
  exact lv_iinc hx hb d hl hj (by rw [hc]) (by rw [hml]; exact hn) hf (fun ls' hl' => kk ws hw0 H locs ls' hP hD hS hl')
theorem gw_dup (X : gw_X E cc nL own ret l D R post) (pc' : Nat) {v : Value} (d : decode cc pc = .ok (.dup, 1)) (hp : pc + 1 = pc') (hv : v.category = 1) (kk : gw_W E pc' lv (v :: v :: st) Ws k n) : gw_W E pc lv (v :: st) Ws k n := by
  subst hp
  obtain ⟨p, e, s, m, args, below, meth, c, A, l1, D1, R1, Q1⟩ := E
  obtain ⟨rfl, rfl, rfl, hQ, hx, hb, hml, hr, hlk, hown, hts, hK, hA, hST, hfl⟩ := X
  intro ws hw0 H locs ls hP hD hS hl
  exact lv_dup hx hb d hv (kk ws hw0 H locs ls hP hD hS hl)
theorem gw_pop (X : gw_X E cc nL own ret l D R post) (pc' : Nat) {v : Value} (d : decode cc pc = .ok (.pop, 1)) (hp : pc + 1 = pc') (hv : v.category = 1) (kk : gw_W E pc' lv (st) Ws k n) : gw_W E pc lv (v :: st) Ws k n := by
  subst hp
  obtain ⟨p, e, s, m, args, below, meth, c, A, l1, D1, R1, Q1⟩ := E
  obtain ⟨rfl, rfl, rfl, hQ, hx, hb, hml, hr, hlk, hown, hts, hK, hA, hST, hfl⟩ := X
  intro ws hw0 H locs ls hP hD hS hl
  exact lv_pop hx hb d hv (kk ws hw0 H locs ls hP hD hS hl)
theorem gw_dup2 (X : gw_X E cc nL own ret l D R post) (pc' : Nat) {v w : Value} (d : decode cc pc = .ok (.dup2, 1)) (hp : pc + 1 = pc') (hv : v.category = 1) (hw : w.category = 1) (kk : gw_W E pc' lv (v :: w :: v :: w :: st) Ws k n) : gw_W E pc lv (v :: w :: st) Ws k n := by
  subst hp
  obtain ⟨p, e, s, m, args, below, meth, c, A, l1, D1, R1, Q1⟩ := E
  obtain ⟨rfl, rfl, rfl, hQ, hx, hb, hml, hr, hlk, hown, hts, hK, hA, hST, hfl⟩ := X
  intro ws hw0 H locs ls hP hD hS hl
  exact lv_dup2_11 hx hb d hv hw (kk ws hw0 H locs ls hP hD hS hl)
theorem gw_if_eq (X : gw_X E cc nL own ret l D R post) (pt pf : Nat) {x : Int32} {off : Int} (d : decode cc pc = .ok (.ifCond .eq off, 3)) (ht : (pc : Int) + off = (pt : Int)) (hp : pc + 3 = pf) (kt : x = 0 → gw_W E pt lv st Ws k n) (kf : ¬ x = 0 → gw_W E pf lv st Ws k n) : gw_W E pc lv (.int x :: st) Ws k n := by
  subst hp
  obtain ⟨p, e, s, m, args, below, meth, c, A, l1, D1, R1, Q1⟩ := E
  obtain ⟨rfl, rfl, rfl, hQ, hx, hb, hml, hr, hlk, hown, hts, hK, hA, hST, hfl⟩ := X
  intro ws hw0 H locs ls hP hD hS hl
  exact lv_if_eq hx hb d ht (fun z => kt z ws hw0 H locs ls hP hD hS hl) (fun z => kf z ws hw0 H locs ls hP hD hS hl)
theorem gw_icmp_eq (X : gw_X E cc nL own ret l D R post) (pt pf : Nat) {x y : Int32} {off : Int} (d : decode cc pc = .ok (.if_icmp .eq off, 3)) (ht : (pc : Int) + off = (pt : Int)) (hp : pc + 3 = pf) (kt : x = y → gw_W E pt lv st Ws k n) (kf : ¬ x = y → gw_W E pf lv st Ws k n) : gw_W E pc lv (.int y :: .int x :: st) Ws k n := by
  subst hp
  obtain ⟨p, e, s, m, args, below, meth, c, A, l1, D1, R1, Q1⟩ := E
  obtain ⟨rfl, rfl, rfl, hQ, hx, hb, hml, hr, hlk, hown, hts, hK, hA, hST, hfl⟩ := X
  intro ws hw0 H locs ls hP hD hS hl
  exact lv_icmp_eq hx hb d ht (fun z => kt z ws hw0 H locs ls hP hD hS hl) (fun z => kf z ws hw0 H locs ls hP hD hS hl)
theorem gw_if_ne (X : gw_X E cc nL own ret l D R post) (pt pf : Nat) {x : Int32} {off : Int} (d : decode cc pc = .ok (.ifCond .ne off, 3)) (ht : (pc : Int) + off = (pt : Int)) (hp : pc + 3 = pf) (kt : ¬ x = 0 → gw_W E pt lv st Ws k n) (kf : x = 0 → gw_W E pf lv st Ws k n) : gw_W E pc lv (.int x :: st) Ws k n := by
  subst hp
  obtain ⟨p, e, s, m, args, below, meth, c, A, l1, D1, R1, Q1⟩ := E
  obtain ⟨rfl, rfl, rfl, hQ, hx, hb, hml, hr, hlk, hown, hts, hK, hA, hST, hfl⟩ := X
  intro ws hw0 H locs ls hP hD hS hl
  exact lv_if_ne hx hb d ht (fun z => kt z ws hw0 H locs ls hP hD hS hl) (fun z => kf z ws hw0 H locs ls hP hD hS hl)
theorem gw_icmp_ne (X : gw_X E cc nL own ret l D R post) (pt pf : Nat) {x y : Int32} {off : Int} (d : decode cc pc = .ok (.if_icmp .ne off, 3)) (ht : (pc : Int) + off = (pt : Int)) (hp : pc + 3 = pf) (kt : ¬ x = y → gw_W E pt lv st Ws k n) (kf : x = y → gw_W E pf lv st Ws k n) : gw_W E pc lv (.int y :: .int x :: st) Ws k n := by
  subst hp
  obtain ⟨p, e, s, m, args, below, meth, c, A, l1, D1, R1, Q1⟩ := E
  obtain ⟨rfl, rfl, rfl, hQ, hx, hb, hml, hr, hlk, hown, hts, hK, hA, hST, hfl⟩ := X
  intro ws hw0 H locs ls hP hD hS hl
  exact lv_icmp_ne hx hb d ht (fun z => kt z ws hw0 H locs ls hP hD hS hl) (fun z => kf z ws hw0 H locs ls hP hD hS hl)
theorem gw_if_lt (X : gw_X E cc nL own ret l D R post) (pt pf : Nat) {x : Int32} {off : Int} (d : decode cc pc = .ok (.ifCond .lt off, 3)) (ht : (pc : Int) + off = (pt : Int)) (hp : pc + 3 = pf) (kt : x < 0 → gw_W E pt lv st Ws k n) (kf : ¬ x < 0 → gw_W E pf lv st Ws k n) : gw_W E pc lv (.int x :: st) Ws k n := by
  subst hp
  obtain ⟨p, e, s, m, args, below, meth, c, A, l1, D1, R1, Q1⟩ := E
  obtain ⟨rfl, rfl, rfl, hQ, hx, hb, hml, hr, hlk, hown, hts, hK, hA, hST, hfl⟩ := X
  intro ws hw0 H locs ls hP hD hS hl
  exact lv_if_lt hx hb d ht (fun z => kt z ws hw0 H locs ls hP hD hS hl) (fun z => kf z ws hw0 H locs ls hP hD hS hl)
theorem gw_icmp_lt (X : gw_X E cc nL own ret l D R post) (pt pf : Nat) {x y : Int32} {off : Int} (d : decode cc pc = .ok (.if_icmp .lt off, 3)) (ht : (pc : Int) + off = (pt : Int)) (hp : pc + 3 = pf) (kt : x < y → gw_W E pt lv st Ws k n) (kf : ¬ x < y → gw_W E pf lv st Ws k n) : gw_W E pc lv (.int y :: .int x :: st) Ws k n := by
  subst hp
  obtain ⟨p, e, s, m, args, below, meth, c, A, l1, D1, R1, Q1⟩ := E
  obtain ⟨rfl, rfl, rfl, hQ, hx, hb, hml, hr, hlk, hown, hts, hK, hA, hST, hfl⟩ := X
  intro ws hw0 H locs ls hP hD hS hl
  exact lv_icmp_lt hx hb d ht (fun z => kt z ws hw0 H locs ls hP hD hS hl) (fun z => kf z ws hw0 H locs ls hP hD hS hl)
theorem gw_if_ge (X : gw_X E cc nL own ret l D R post) (pt pf : Nat) {x : Int32} {off : Int} (d : decode cc pc = .ok (.ifCond .ge off, 3)) (ht : (pc : Int) + off = (pt : Int)) (hp : pc + 3 = pf) (kt : 0 ≤ x → gw_W E pt lv st Ws k n) (kf : ¬ 0 ≤ x → gw_W E pf lv st Ws k n) : gw_W E pc lv (.int x :: st) Ws k n := by
  subst hp
  obtain ⟨p, e, s, m, args, below, meth, c, A, l1, D1, R1, Q1⟩ := E
  obtain ⟨rfl, rfl, rfl, hQ, hx, hb, hml, hr, hlk, hown, hts, hK, hA, hST, hfl⟩ := X
  intro ws hw0 H locs ls hP hD hS hl
  exact lv_if_ge hx hb d ht (fun z => kt z ws hw0 H locs ls hP hD hS hl) (fun z => kf z ws hw0 H locs ls hP hD hS hl)
theorem gw_icmp_ge (X : gw_X E cc nL own ret l D R post) (pt pf : Nat) {x y : Int32} {off : Int} (d : decode cc pc = .ok (.if_icmp .ge off, 3)) (ht : (pc : Int) + off = (pt : Int)) (hp : pc + 3 = pf) (kt : y ≤ x → gw_W E pt lv st Ws k n) (kf : ¬ y ≤ x → gw_W E pf lv st Ws k n) : gw_W E pc lv (.int y :: .int x :: st) Ws k n := by
  subst hp
  obtain ⟨p, e, s, m, args, below, meth, c, A, l1, D1, R1, Q1⟩ := E
  obtain ⟨rfl, rfl, rfl, hQ, hx, hb, hml, hr, hlk, hown, hts, hK, hA, hST, hfl⟩ := X
  intro ws hw0 H locs ls hP hD hS hl
  exact lv_icmp_ge hx hb d ht (fun z => kt z ws hw0 H locs ls hP hD hS hl) (fun z => kf z ws hw0 H locs ls hP hD hS hl)
theorem gw_if_gt (X : gw_X E cc nL own ret l D R post) (pt pf : Nat) {x : Int32} {off : Int} (d : decode cc pc = .ok (.ifCond .gt off, 3)) (ht : (pc : Int) + off = (pt : Int)) (hp : pc + 3 = pf) (kt : 0 < x → gw_W E pt lv st Ws k n) (kf : ¬ 0 < x → gw_W E pf lv st Ws k n) : gw_W E pc lv (.int x :: st) Ws k n := by
  subst hp
  obtain ⟨p, e, s, m, args, below, meth, c, A, l1, D1, R1, Q1⟩ := E
  obtain ⟨rfl, rfl, rfl, hQ, hx, hb, hml, hr, hlk, hown, hts, hK, hA, hST, hfl⟩ := X
  intro ws hw0 H locs ls hP hD hS hl
  exact lv_if_gt hx hb d ht (fun z => kt z ws hw0 H locs ls hP hD hS hl) (fun z => kf z ws hw0 H locs ls hP hD hS hl)
theorem gw_icmp_gt (X : gw_X E cc nL own ret l D R post) (pt pf : Nat) {x y : Int32} {off : Int} (d : decode cc pc = .ok (.if_icmp .gt off, 3)) (ht : (pc : Int) + off = (pt : Int)) (hp : pc + 3 = pf) (kt : y < x → gw_W E pt lv st Ws k n) (kf : ¬ y < x → gw_W E pf lv st Ws k n) : gw_W E pc lv (.int y :: .int x :: st) Ws k n := by
  subst hp
  obtain ⟨p, e, s, m, args, below, meth, c, A, l1, D1, R1, Q1⟩ := E
  obtain ⟨rfl, rfl, rfl, hQ, hx, hb, hml, hr, hlk, hown, hts, hK, hA, hST, hfl⟩ := X
  intro ws hw0 H locs ls hP hD hS hl
  exact lv_icmp_gt hx hb d ht (fun z => kt z ws hw0 H locs ls hP hD hS hl) (fun z => kf z ws hw0 H locs ls hP hD hS hl)
theorem gw_if_le (X : gw_X E cc nL own ret l D R post) (pt pf : Nat) {x : Int32} {off : Int} (d : decode cc pc = .ok (.ifCond .le off, 3)) (ht : (pc : Int) + off = (pt : Int)) (hp : pc + 3 = pf) (kt : x ≤ 0 → gw_W E pt lv st Ws k n) (kf : ¬ x ≤ 0 → gw_W E pf lv st Ws k n) : gw_W E pc lv (.int x :: st) Ws k n := by
  subst hp
  obtain ⟨p, e, s, m, args, below, meth, c, A, l1, D1, R1, Q1⟩ := E
  obtain ⟨rfl, rfl, rfl, hQ, hx, hb, hml, hr, hlk, hown, hts, hK, hA, hST, hfl⟩ := X
  intro ws hw0 H locs ls hP hD hS hl
  exact lv_if_le hx hb d ht (fun z => kt z ws hw0 H locs ls hP hD hS hl) (fun z => kf z ws hw0 H locs ls hP hD hS hl)
theorem gw_icmp_le (X : gw_X E cc nL own ret l D R post) (pt pf : Nat) {x y : Int32} {off : Int} (d : decode cc pc = .ok (.if_icmp .le off, 3)) (ht : (pc : Int) + off = (pt : Int)) (hp : pc + 3 = pf) (kt : x ≤ y → gw_W E pt lv st Ws k n) (kf : ¬ x ≤ y → gw_W E pf lv st Ws k n) : gw_W E pc lv (.int y :: .int x :: st) Ws k n := by
  subst hp
  obtain ⟨p, e, s, m, args, below, meth, c, A, l1, D1, R1, Q1⟩ := E
  obtain ⟨rfl, rfl, rfl, hQ, hx, hb, hml, hr, hlk, hown, hts, hK, hA, hST, hfl⟩ := X
  intro ws hw0 H locs ls hP hD hS hl
  exact lv_icmp_le hx hb d ht (fun z => kt z ws hw0 H locs ls hP hD hS hl) (fun z => kf z ws hw0 H locs ls hP hD hS hl)
theorem gw_b0 {b : Bool} : gw_b b = 0 ↔ ¬ b = true := by cases b <;> decide
theorem gw_if_eqB (X : gw_X E cc nL own ret l D R post) (pt pf : Nat) {b : Bool} {off : Int} (d : decode cc pc = .ok (.ifCond .eq off, 3)) (ht : (pc : Int) + off = (pt : Int)) (hp : pc + 3 = pf) (kt : ¬ b = true → gw_W E pt lv st Ws k n) (kf : b = true → gw_W E pf lv st Ws k n) : gw_W E pc lv (.int (gw_b b) :: st) Ws k n := by
  subst hp
  obtain ⟨p, e, s, m, args, below, meth, c, A, l1, D1, R1, Q1⟩ := E
  obtain ⟨rfl, rfl, rfl, hQ, hx, hb, hml, hr, hlk, hown, hts, hK, hA, hST, hfl⟩ := X
  intro ws hw0 H locs ls hP hD hS hl
  exact lv_if_eq hx hb d ht (fun z => kt (gw_b0.mp z) ws hw0 H locs ls hP hD hS hl) (fun z => kf (Decidable.not_not.mp fun w => z (gw_b0.mpr w)) ws hw0 H locs ls hP hD hS hl)
theorem gw_if_neB (X : gw_X E cc nL own ret l D R post) (pt pf : Nat) {b : Bool} {off : Int} (d : decode cc pc = .ok (.ifCond .ne off, 3)) (ht : (pc : Int) + off = (pt : Int)) (hp : pc + 3 = pf) (kt : b = true → gw_W E pt lv st Ws k n) (kf : ¬ b = true → gw_W E pf lv st Ws k n) : gw_W E pc lv (.int (gw_b b) :: st) Ws k n := by
  subst hp
  obtain ⟨p, e, s, m, args, below, meth, c, A, l1, D1, R1, Q1⟩ := E
  obtain ⟨rfl, rfl, rfl, hQ, hx, hb, hml, hr, hlk, hown, hts, hK, hA, hST, hfl⟩ := X
  intro ws hw0 H locs ls hP hD hS hl
  exact lv_if_ne hx hb d ht (fun z => kt (Decidable.not_not.mp fun w => z (gw_b0.mpr w)) ws hw0 H locs ls hP hD hS hl) (fun z => kf (gw_b0.mp z) ws hw0 H locs ls hP hD hS hl)
theorem gw_goto (X : gw_X E cc nL own ret l D R post) (pt : Nat) {off : Int} (d : decode cc pc = .ok (.goto off, 3)) (ht : (pc : Int) + off = (pt : Int)) (kk : gw_W E pt lv st Ws k n) : gw_W E pc lv st Ws k n := by
  obtain ⟨p, e, s, m, args, below, meth, c, A, l1, D1, R1, Q1⟩ := E
  obtain ⟨rfl, rfl, rfl, hQ, hx, hb, hml, hr, hlk, hown, hts, hK, hA, hST, hfl⟩ := X
  intro ws hw0 H locs ls hP hD hS hl
  exact lv_goto hx hb d ht (kk ws hw0 H locs ls hP hD hS hl)
theorem gw_tsIn (X : gw_X E cc nL own ret l D R post) (pt : Nat) {dflt lo hi off : Int} {offs : Array Int} {len : Nat} {x : Int32} (v : Int32) (hv : x = v) (d : decode cc pc = .ok (.tableswitch dflt lo hi offs, len)) (h1 : ¬ v.toInt < lo) (h2 : ¬ hi < v.toInt) (ho : offs[(v.toInt - lo).toNat]? = some off) (ht : (pc : Int) + off = (pt : Int)) (kk : gw_W E pt lv st Ws k n) : gw_W E pc lv (.int x :: st) Ws k n := by
  subst hv
  obtain ⟨p, e, s, m, args, below, meth, c, A, l1, D1, R1, Q1⟩ := E
  obtain ⟨rfl, rfl, rfl, hQ, hx, hb, hml, hr, hlk, hown, hts, hK, hA, hST, hfl⟩ := X
  intro ws hw0 H locs ls hP hD hS hl
  exact lv_tableIn hx hb d h1 h2 ho ht (kk ws hw0 H locs ls hP hD hS hl)
theorem gw_tsOut (X : gw_X E cc nL own ret l D R post) (pt : Nat) {dflt lo hi : Int} {offs : Array Int} {len : Nat} {x : Int32} (d : decode cc pc = .ok (.tableswitch dflt lo hi offs, len)) (h : x.toInt < lo ∨ hi < x.toInt) (ht : (pc : Int) + dflt = (pt : Int)) (kk : gw_W E pt lv st Ws k n) : gw_W E pc lv (.int x :: st) Ws k n := by
  obtain ⟨p, e, s, m, args, below, meth, c, A, l1, D1, R1, Q1⟩ := E
  obtain ⟨rfl, rfl, rfl, hQ, hx, hb, hml, hr, hlk, hown, hts, hK, hA, hST, hfl⟩ := X
  intro ws hw0 H locs ls hP hD hS hl
  exact lv_tableOut hx hb d h ht (kk ws hw0 H locs ls hP hD hS hl)
theorem gw_iret {v : Int32} (X : gw_X E cc nL own (some .int) l D R (some pst0)) (d : decode cc pc = .ok (.ireturn, 1))  (hq : ∀ ws, Ws ws → pst0 (some (.int v)) ws) (hk : k ≤ R.cells) (hn : n ≤ R.slots) : gw_W E pc lv [.int v] Ws k n := by
  obtain ⟨p, e, s, m, args, below, meth, c, A, l1, D1, R1, Q1⟩ := E
  obtain ⟨rfl, rfl, rfl, hQ, hx, hb, hml, hr, hlk, hown, hts, hK, hA, hST, hfl⟩ := X
  intro ws hw0 H locs ls hP hD hS hl
  obtain rfl := hQ _ rfl
  refine W.widen hk hn ?_
  exact W.iret hx hb hr (fun t ht hW => ⟨⟨_, ws, rfl, hq ws hw0, by rw [ht]; exact hP, hD⟩, hS.F ht⟩) hS.2.2 d hlk
theorem gw_lret {v : Int64} (X : gw_X E cc nL own (some .long) l D R (some pst0)) (d : decode cc pc = .ok (.lreturn, 1))  (hq : ∀ ws, Ws ws → pst0 (some (.long v)) ws) (hk : k ≤ R.cells) (hn : n ≤ R.slots) : gw_W E pc lv [.long v] Ws k n := by
  obtain ⟨p, e, s, m, args, below, meth, c, A, l1, D1, R1, Q1⟩ := E
  obtain ⟨rfl, rfl, rfl, hQ, hx, hb, hml, hr, hlk, hown, hts, hK, hA, hST, hfl⟩ := X
  intro ws hw0 H locs ls hP hD hS hl
  obtain rfl := hQ _ rfl
  refine W.widen hk hn ?_
  exact W.lret hx hb hr (fun t ht hW => ⟨⟨_, ws, rfl, hq ws hw0, by rw [ht]; exact hP, hD⟩, hS.F ht⟩) hS.2.2 d hlk
theorem gw_vret  (X : gw_X E cc nL own (none) l D R (some pst0)) (d : decode cc pc = .ok (.return_, 1))  (hq : ∀ ws, Ws ws → pst0 (none) ws) (hk : k ≤ R.cells) (hn : n ≤ R.slots) : gw_W E pc lv [] Ws k n := by
  obtain ⟨p, e, s, m, args, below, meth, c, A, l1, D1, R1, Q1⟩ := E
  obtain ⟨rfl, rfl, rfl, hQ, hx, hb, hml, hr, hlk, hown, hts, hK, hA, hST, hfl⟩ := X
  intro ws hw0 H locs ls hP hD hS hl
  obtain rfl := hQ _ rfl
  refine W.widen hk hn ?_
  exact W.vret hx hb hr (fun t ht hW => ⟨⟨_, ws, rfl, hq ws hw0, by rw [ht]; exact hP, hD⟩, hS.F ht⟩) hS.2.2 d hlk
theorem gw_zret {b : Bool} (X : gw_X E cc nL own (some .boolean) l D R (some pst0)) (d : decode cc pc = .ok (.ireturn, 1))  (hq : ∀ ws, Ws ws → pst0 (some (.int (gw_b b))) ws) (hk : k ≤ R.cells) (hn : n ≤ R.slots) : gw_W E pc lv [.int (gw_b b)] Ws k n := by
  obtain ⟨p, e, s, m, args, below, meth, c, A, l1, D1, R1, Q1⟩ := E
  obtain ⟨rfl, rfl, rfl, hQ, hx, hb, hml, hr, hlk, hown, hts, hK, hA, hST, hfl⟩ := X
  intro ws hw0 H locs ls hP hD hS hl
  obtain rfl := hQ _ rfl
  refine W.widen hk hn ?_
  exact W.zret hx hb hr (by cases b <;> rfl) (fun t ht hW => ⟨⟨_, ws, rfl, hq ws hw0, by rw [ht]; exact hP, hD⟩, hS.F ht⟩) hS.2.2 d hlk
theorem gw_zret0  (X : gw_X E cc nL own (some .boolean) l D R (some pst0)) (d : decode cc pc = .ok (.ireturn, 1))  (hq : ∀ ws, Ws ws → pst0 (some (.int (gw_b false))) ws) (hk : k ≤ R.cells) (hn : n ≤ R.slots) : gw_W E pc lv [.int 0] Ws k n := by
  obtain ⟨p, e, s, m, args, below, meth, c, A, l1, D1, R1, Q1⟩ := E
  obtain ⟨rfl, rfl, rfl, hQ, hx, hb, hml, hr, hlk, hown, hts, hK, hA, hST, hfl⟩ := X
  intro ws hw0 H locs ls hP hD hS hl
  obtain rfl := hQ _ rfl
  refine W.widen hk hn ?_
  exact W.zret (v := 0) hx hb hr rfl (fun t ht hW => ⟨⟨_, ws, rfl, hq ws hw0, by rw [ht]; exact hP, hD⟩, hS.F ht⟩) hS.2.2 d hlk
theorem gw_zret1  (X : gw_X E cc nL own (some .boolean) l D R (some pst0)) (d : decode cc pc = .ok (.ireturn, 1))  (hq : ∀ ws, Ws ws → pst0 (some (.int (gw_b true))) ws) (hk : k ≤ R.cells) (hn : n ≤ R.slots) : gw_W E pc lv [.int 1] Ws k n := by
  obtain ⟨p, e, s, m, args, below, meth, c, A, l1, D1, R1, Q1⟩ := E
  obtain ⟨rfl, rfl, rfl, hQ, hx, hb, hml, hr, hlk, hown, hts, hK, hA, hST, hfl⟩ := X
  intro ws hw0 H locs ls hP hD hS hl
  obtain rfl := hQ _ rfl
  refine W.widen hk hn ?_
  exact W.zret (v := 1) hx hb hr rfl (fun t ht hW => ⟨⟨_, ws, rfl, hq ws hw0, by rw [ht]; exact hP, hD⟩, hS.F ht⟩) hS.2.2 d hlk
theorem gw_aret {v : Nat} {C : String} (X : gw_X E cc nL own (some (.object C)) l D R (some pst0)) (d : decode cc pc = .ok (.areturn, 1))  (hq : ∀ ws, Ws ws → pst0 (some (.ref v)) ws) (hk : k ≤ R.cells) (hn : n ≤ R.slots) : gw_W E pc lv [.ref v] Ws k n := by
  obtain ⟨p, e, s, m, args, below, meth, c, A, l1, D1, R1, Q1⟩ := E
  obtain ⟨rfl, rfl, rfl, hQ, hx, hb, hml, hr, hlk, hown, hts, hK, hA, hST, hfl⟩ := X
  intro ws hw0 H locs ls hP hD hS hl
  obtain rfl := hQ _ rfl
  refine W.widen hk hn ?_
  exact W.aret hx hb hr (Or.inl ⟨_, rfl⟩) (Or.inr ⟨_, rfl⟩) (fun t ht hW => ⟨⟨_, ws, rfl, hq ws hw0, by rw [ht]; exact hP, hD⟩, hS.F ht⟩) hS.2.2 d hlk
theorem gw_get (X : gw_X E cc nL own ret l D R post) (pc' : Nat) {C ref : String} {T : u_T} {N ci idx q0 b : Nat} {fs : List Value}  {v : Value} (hin : ∀ w ∈ u_ws C T N, w ∈ lw_all) (hc : gw_cl[ci]? = some (C, T, N)) (he : ws[q0]? = some (b, .inr (ci, fs))) (j : Nat) (hj : j < N) (hlk0 : Cond.fieldLink own idx ref (T j).2.1 (T j).2.2.1 ∈ lw_all) (hr0 : (T j).1 = ref) (hv : fs[j]? = some v) (d : decode cc pc = .ok (.getfield idx, 3)) (hp : pc + 3 = pc') (kk : gw_w E pc' lv (v :: st) ws k n) : gw_w E pc lv (.ref b :: st) ws k n := by
  subst hp
  obtain ⟨p, e, s, m, args, below, meth, c, A, l1, D1, R1, Q1⟩ := E
  obtain ⟨rfl, rfl, rfl, hQ, hx, hb, hml, hr, hlk, hown, hts, hK, hA, hST, hfl⟩ := X
  intro H locs ls hP hD hS hl
  exact va_get hx hb hts hin hown hK.1 hP q0 he hc j hj (hts _ hlk0) (fun x h => by rw [hr0] at h; exact h) hv d (kk H locs ls hP hD hS hl)
theorem gw_getN (X : gw_X E cc nL own ret l D R post) (pc' : Nat) {C ref : String} {T : u_T} {N ci idx q0 b : Nat} {fs : List Value} {host : String} {v : Value} (hin : ∀ w ∈ u_ws C T N, w ∈ lw_all) (hc : gw_cl[ci]? = some (C, T, N)) (he : ws[q0]? = some (b, .inr (ci, fs))) (j : Nat) (hj : j < N) (hlk0 : Cond.fieldLinkNest own idx ref (T j).2.1 (T j).2.2.1 host ∈ lw_tbl) (hr0 : (T j).1 = ref) (hv : fs[j]? = some v) (d : decode cc pc = .ok (.getfield idx, 3)) (hp : pc + 3 = pc') (kk : gw_w E pc' lv (v :: st) ws k n) : gw_w E pc lv (.ref b :: st) ws k n := by
  subst hp
  obtain ⟨p, e, s, m, args, below, meth, c, A, l1, D1, R1, Q1⟩ := E
  obtain ⟨rfl, rfl, rfl, hQ, hx, hb, hml, hr, hlk, hown, hts, hK, hA, hST, hfl⟩ := X
  intro H locs ls hP hD hS hl
  exact va_getN hx hb hts hin hown hK.1 hP q0 he hc j hj (va_Nw.use rfl (hK.2.1 _ hlk0 rfl)) (fun x h => by rw [hr0] at h; exact h) hv d (kk H locs ls hP hD hS hl)
theorem gw_put (X : gw_X E cc nL own ret l D R post) (pc' : Nat) {C ref : String} {T : u_T} {N ci idx q0 b : Nat} {fs : List Value}  {v : Value} {ty : FieldType} {ws' : va_W} (ty0 : Nat → FieldType) (hty : ∀ k, k < N → parseFieldDescriptor (T k).2.2.1 = some (ty0 k)) (hnm : ∀ a, a < N → ∀ b, b < N → a ≠ b → (T a).2.1 ≠ (T b).2.1) (hin : ∀ w ∈ u_ws C T N, w ∈ lw_all) (hc : gw_cl[ci]? = some (C, T, N)) (he : ws[q0]? = some (b, .inr (ci, fs))) (j : Nat) (hj : j < N) (hlk0 : Cond.fieldLink own idx ref (T j).2.1 (T j).2.2.1 ∈ lw_all) (hr0 : (T j).1 = ref) (hfin : (T j).2.2.2 = false) (hd : parseFieldDescriptor (T j).2.2.1 = some ty) (hn : narrow ty v = v) (hfit : fits ty v = true) (hl0 : j < fs.length) (hw : ws.set q0 (b, .inr (ci, fs.set j v)) = ws') (d : decode cc pc = .ok (.putfield idx, 3)) (hp : pc + 3 = pc') (kk : gw_w E pc' lv st ws' k n) : gw_w E pc lv (v :: .ref b :: st) ws k n := by
  subst hp
  subst hw
  obtain ⟨p, e, s, m, args, below, meth, c, A, l1, D1, R1, Q1⟩ := E
  obtain ⟨rfl, rfl, rfl, hQ, hx, hb, hml, hr, hlk, hown, hts, hK, hA, hST, hfl⟩ := X
  intro H locs ls hP hD hS hl
  exact va_put hx hb hts hin ty0 hty hnm hown hK.1 hP hD hS q0 he hc j hj (hts _ hlk0) (fun x h => by rw [hr0] at h; exact h) hfin hd hn hfit hl0 d (fun H1 locs1 hP1 hD1 hS1 => kk H1 locs1 ls hP1 hD1 hS1 hl)
theorem gw_putN (X : gw_X E cc nL own ret l D R post) (pc' : Nat) {C ref : String} {T : u_T} {N ci idx q0 b : Nat} {fs : List Value} {host : String} {v : Value} {ty : FieldType} {ws' : va_W} (ty0 : Nat → FieldType) (hty : ∀ k, k < N → parseFieldDescriptor (T k).2.2.1 = some (ty0 k)) (hnm : ∀ a, a < N → ∀ b, b < N → a ≠ b → (T a).2.1 ≠ (T b).2.1) (hin : ∀ w ∈ u_ws C T N, w ∈ lw_all) (hc : gw_cl[ci]? = some (C, T, N)) (he : ws[q0]? = some (b, .inr (ci, fs))) (j : Nat) (hj : j < N) (hlk0 : Cond.fieldLinkNest own idx ref (T j).2.1 (T j).2.2.1 host ∈ lw_tbl) (hr0 : (T j).1 = ref) (hfin : (T j).2.2.2 = false) (hd : parseFieldDescriptor (T j).2.2.1 = some ty) (hn : narrow ty v = v) (hfit : fits ty v = true) (hl0 : j < fs.length) (hw : ws.set q0 (b, .inr (ci, fs.set j v)) = ws') (d : decode cc pc = .ok (.putfield idx, 3)) (hp : pc + 3 = pc') (kk : gw_w E pc' lv st ws' k n) : gw_w E pc lv (v :: .ref b :: st) ws k n := by
  subst hp
  subst hw
  obtain ⟨p, e, s, m, args, below, meth, c, A, l1, D1, R1, Q1⟩ := E
  obtain ⟨rfl, rfl, rfl, hQ, hx, hb, hml, hr, hlk, hown, hts, hK, hA, hST, hfl⟩ := X
  intro H locs ls hP hD hS hl
  exact va_putN hx hb hts hin ty0 hty hnm hown hK.1 hP hD hS q0 he hc j hj (va_Nw.use rfl (hK.2.1 _ hlk0 rfl)) (fun x h => by rw [hr0] at h; exact h) hfin hd hn hfit hl0 d (fun H1 locs1 hP1 hD1 hS1 => kk H1 locs1 ls hP1 hD1 hS1 hl)
theorem gw_iald (X : gw_X E cc nL own ret l D R post) (pc' j : Nat) {q0 b N : Nat} {f : Nat → Int32} {i : Int32} (he : ws[q0]? = some (b, .inl (D.2 0, N, .inl f))) (hin : vp_in i N) (hj : i.toNatClampNeg = j) (d : decode cc pc = .ok (.iaload, 1)) (hp : pc + 1 = pc') (kk : gw_w E pc' lv (.int (f j) :: st) ws k n) : gw_w E pc lv (.int i :: .ref b :: st) ws k n := by
  subst hp
  subst hj
  obtain ⟨p, e, s, m, args, below, meth, c, A, l1, D1, R1, Q1⟩ := E
  obtain ⟨rfl, rfl, rfl, hQ, hx, hb, hml, hr, hlk, hown, hts, hK, hA, hST, hfl⟩ := X
  intro H locs ls hP hD hS hl
  exact va_iald hx hb hK.1 hP q0 0 he rfl hin d (kk H locs ls hP hD hS hl)
theorem gw_bald (X : gw_X E cc nL own ret l D R post) (pc' j : Nat) {q0 b N : Nat} {f : Nat → Int32} {i : Int32} (he : ws[q0]? = some (b, .inl (D.2 1, N, .inl f))) (hin : vp_in i N) (hj : i.toNatClampNeg = j) (d : decode cc pc = .ok (.baload, 1)) (hp : pc + 1 = pc') (kk : gw_w E pc' lv (.int (f j) :: st) ws k n) : gw_w E pc lv (.int i :: .ref b :: st) ws k n := by
  subst hp
  subst hj
  obtain ⟨p, e, s, m, args, below, meth, c, A, l1, D1, R1, Q1⟩ := E
  obtain ⟨rfl, rfl, rfl, hQ, hx, hb, hml, hr, hlk, hown, hts, hK, hA, hST, hfl⟩ := X
  intro H locs ls hP hD hS hl
  exact va_bald hx hb hK.1 hP q0 1 he rfl hin d (kk H locs ls hP hD hS hl)
theorem gw_zald (X : gw_X E cc nL own ret l D R post) (pc' j : Nat) {q0 b N : Nat} {f : Nat → Int32} {i : Int32} (he : ws[q0]? = some (b, .inl (D.2 3, N, .inl f))) (hin : vp_in i N) (hj : i.toNatClampNeg = j) (d : decode cc pc = .ok (.baload, 1)) (hp : pc + 1 = pc') (kk : gw_w E pc' lv (.int (f j) :: st) ws k n) : gw_w E pc lv (.int i :: .ref b :: st) ws k n := by
  subst hp
  subst hj
  obtain ⟨p, e, s, m, args, below, meth, c, A, l1, D1, R1, Q1⟩ := E
  obtain ⟨rfl, rfl, rfl, hQ, hx, hb, hml, hr, hlk, hown, hts, hK, hA, hST, hfl⟩ := X
  intro H locs ls hP hD hS hl
  exact va_zald hx hb hK.1 hP q0 3 he rfl hin d (kk H locs ls hP hD hS hl)
theorem gw_lald (X : gw_X E cc nL own ret l D R post) (pc' j : Nat) {q0 b N : Nat} {f : Nat → Int64} {i : Int32} (he : ws[q0]? = some (b, .inl (D.2 2, N, .inr (.inl f)))) (hin : vp_in i N) (hj : i.toNatClampNeg = j) (d : decode cc pc = .ok (.laload, 1)) (hp : pc + 1 = pc') (kk : gw_w E pc' lv (.long (f j) :: st) ws k n) : gw_w E pc lv (.int i :: .ref b :: st) ws k n := by
  subst hp
  subst hj
  obtain ⟨p, e, s, m, args, below, meth, c, A, l1, D1, R1, Q1⟩ := E
  obtain ⟨rfl, rfl, rfl, hQ, hx, hb, hml, hr, hlk, hown, hts, hK, hA, hST, hfl⟩ := X
  intro H locs ls hP hD hS hl
  exact va_lald hx hb hK.1 hP q0 2 he rfl hin d (kk H locs ls hP hD hS hl)
theorem gw_iast (X : gw_X E cc nL own ret l D R post) (pc' j : Nat) {q0 b N : Nat} {f : Nat → Int32} {i : Int32} {x : Int32} {ws' : va_W} (he : ws[q0]? = some (b, .inl (D.2 0, N, .inl f))) (hin : vp_in i N) (hj : i.toNatClampNeg = j) (hw : ws.set q0 (b, .inl (D.2 0, N, .inl (upd f j x))) = ws') (d : decode cc pc = .ok (.iastore, 1)) (hp : pc + 1 = pc') (kk : gw_w E pc' lv st ws' k n) : gw_w E pc lv (.int x :: .int i :: .ref b :: st) ws k n := by
  subst hp
  subst hj
  subst hw
  obtain ⟨p, e, s, m, args, below, meth, c, A, l1, D1, R1, Q1⟩ := E
  obtain ⟨rfl, rfl, rfl, hQ, hx, hb, hml, hr, hlk, hown, hts, hK, hA, hST, hfl⟩ := X
  intro H locs ls hP hD hS hl
  exact va_iast hx hb hK.1 hP hD hS q0 0 he rfl hin d (fun H1 locs1 hP1 hD1 hS1 => kk H1 locs1 ls hP1 hD1 hS1 hl)
theorem gw_last (X : gw_X E cc nL own ret l D R post) (pc' j : Nat) {q0 b N : Nat} {f : Nat → Int64} {i : Int32} {x : Int64} {ws' : va_W} (he : ws[q0]? = some (b, .inl (D.2 2, N, .inr (.inl f)))) (hin : vp_in i N) (hj : i.toNatClampNeg = j) (hw : ws.set q0 (b, .inl (D.2 2, N, .inr (.inl (vp_updL f j x)))) = ws') (d : decode cc pc = .ok (.lastore, 1)) (hp : pc + 1 = pc') (kk : gw_w E pc' lv st ws' k n) : gw_w E pc lv (.long x :: .int i :: .ref b :: st) ws k n := by
  subst hp
  subst hj
  subst hw
  obtain ⟨p, e, s, m, args, below, meth, c, A, l1, D1, R1, Q1⟩ := E
  obtain ⟨rfl, rfl, rfl, hQ, hx, hb, hml, hr, hlk, hown, hts, hK, hA, hST, hfl⟩ := X
  intro H locs ls hP hD hS hl
  exact va_last hx hb hK.1 hP hD hS q0 2 he rfl hin d (fun H1 locs1 hP1 hD1 hS1 => kk H1 locs1 ls hP1 hD1 hS1 hl)
theorem gw_bast (X : gw_X E cc nL own ret l D R post) (pc' j : Nat) {q0 b N : Nat} {f : Nat → Int32} {i : Int32} {x : Int32} {ws' : va_W} (he : ws[q0]? = some (b, .inl (D.2 1, N, .inl f))) (hin : vp_in i N) (hj : i.toNatClampNeg = j) (hw : ws.set q0 (b, .inl (D.2 1, N, .inl (upd f j (vp_nar .byte x)))) = ws') (d : decode cc pc = .ok (.bastore, 1)) (hp : pc + 1 = pc') (kk : gw_w E pc' lv st ws' k n) : gw_w E pc lv (.int x :: .int i :: .ref b :: st) ws k n := by
  subst hp
  subst hj
  subst hw
  obtain ⟨p, e, s, m, args, below, meth, c, A, l1, D1, R1, Q1⟩ := E
  obtain ⟨rfl, rfl, rfl, hQ, hx, hb, hml, hr, hlk, hown, hts, hK, hA, hST, hfl⟩ := X
  intro H locs ls hP hD hS hl
  exact va_bast hx hb hK.1 hP hD hS q0 1 he rfl hin d (fun H1 locs1 hP1 hD1 hS1 => kk H1 locs1 ls hP1 hD1 hS1 hl)
theorem gw_zast (X : gw_X E cc nL own ret l D R post) (pc' j : Nat) {q0 b N : Nat} {f : Nat → Int32} {i : Int32} {x : Int32} {ws' : va_W} (he : ws[q0]? = some (b, .inl (D.2 3, N, .inl f))) (hin : vp_in i N) (hj : i.toNatClampNeg = j) (hw : ws.set q0 (b, .inl (D.2 3, N, .inl (upd f j (vp_nar .boolean x)))) = ws') (d : decode cc pc = .ok (.bastore, 1)) (hp : pc + 1 = pc') (kk : gw_w E pc' lv st ws' k n) : gw_w E pc lv (.int x :: .int i :: .ref b :: st) ws k n := by
  subst hp
  subst hj
  subst hw
  obtain ⟨p, e, s, m, args, below, meth, c, A, l1, D1, R1, Q1⟩ := E
  obtain ⟨rfl, rfl, rfl, hQ, hx, hb, hml, hr, hlk, hown, hts, hK, hA, hST, hfl⟩ := X
  intro H locs ls hP hD hS hl
  exact va_zast hx hb hK.1 hP hD hS q0 3 he rfl hin d (fun H1 locs1 hP1 hD1 hS1 => kk H1 locs1 ls hP1 hD1 hS1 hl)
theorem gw_alen (X : gw_X E cc nL own ret l D R post) (pc' : Nat) {q0 b t0 : Nat} {cA : ClassId} {x : vp_A} {ty : FieldType} {v : Int32} (he : ws[q0]? = some (b, .inl (cA, x))) (ht : (gw_ty D.2)[t0]? = some (cA, ty)) (hv : Int32.ofNat x.1 = v) (d : decode cc pc = .ok (.arraylength, 1)) (hp : pc + 1 = pc') (kk : gw_w E pc' lv (.int v :: st) ws k n) : gw_w E pc lv (.ref b :: st) ws k n := by
  subst hp
  obtain ⟨p, e, s, m, args, below, meth, c, A, l1, D1, R1, Q1⟩ := E
  obtain ⟨rfl, rfl, rfl, hQ, hx, hb, hml, hr, hlk, hown, hts, hK, hA, hST, hfl⟩ := X
  intro H locs ls hP hD hS hl
  exact va_alen hx hb hK.1 hP q0 t0 he ht hv d (kk H locs ls hP hD hS hl)
theorem gw_cpy (X : gw_X E cc nL own ret l D R post) (pc' : Nat) {idx q0 q1 b0 b1 N0 N1 t0 : Nat} {cA : ClassId} {ty : FieldType} {f g : Nat → Int32} {sp dp z : Int32} {ws' : va_W} (hl0 : Cond.methodLink own idx arraycopyName ∈ lw_all) (hnat : Cond.native arraycopyName ∈ lw_all) (hstat : Cond.static arraycopyName ∈ lw_all) (hini : Cond.initialized "java/lang/System" ∈ lw_all) (he0 : ws[q0]? = some (b0, .inl (cA, N0, .inl f))) (he1 : ws[q1]? = some (b1, .inl (cA, N1, .inl g))) (ht : (gw_ty D.2)[t0]? = some (cA, ty)) (hprim : refKind ty = false) (h1 : ¬ sp < 0) (h2 : ¬ dp < 0) (h3 : ¬ z < 0) (h4 : sp.toNatClampNeg + z.toNatClampNeg ≤ N0) (h5 : dp.toNatClampNeg + z.toNatClampNeg ≤ N1) (hfit : ∀ i, i < z.toNatClampNeg → fits ty (.int (f (sp.toNatClampNeg + i))) = true)
    (hR : Nat.ble 1 R.frames = true) (hRl : Nat.ble (8 + (nativeFrameWords "java/lang/System" "arraycopy" 5 + 11)) R.locals = true) (h8 : gw_cat st = true) (hw : ws.set q1 (b1, .inl (cA, N1, .inl (va_cpy f g sp.toNatClampNeg dp.toNatClampNeg z.toNatClampNeg))) = ws') (d : decode cc pc = .ok (.invokestatic idx, 3)) (hp : pc + 3 = pc') (kk : gw_w E pc' lv st ws' k n) : gw_w E pc lv (.int z :: .int dp :: .ref b1 :: .int sp :: .ref b0 :: st) ws k n := by
  subst hp
  subst hw
  have r1 := Nat.le_of_ble_eq_true hR
  have r2 := Nat.le_of_ble_eq_true hRl
  have r8 := Nat.le_of_ble_eq_true h8
  obtain ⟨p, e, s, m, args, below, meth, c, A, l1, D1, R1, Q1⟩ := E
  obtain ⟨rfl, rfl, rfl, hQ, hx, hb, hml, hr, hlk, hown, hts, hK, hA, hST, hfl⟩ := X
  intro H locs ls hP hD hS hl
  exact va_copyi hx hb hl.1.symm hown (hts _ hl0) (hts _ hnat) (hts _ hstat) (hts _ hini) hK.1 hP hD hS q0 q1 t0 t0 he0 he1 ht ht hprim h1 h2 h3 h4 h5 hfit r1 (by omega) d (fun H1 locs1 hP1 hD1 hS1 => kk H1 locs1 ls hP1 hD1 hS1 hl)
/-- what comes back of a call -/
theorem gw_back {p : Program} {e : Env} {s : State} {m : MethodId} {args : Array Value} {below : List Frame} {meth : Method} {c : Code} {A : Nat → Prop} {H : Heap} {locs : List Loc} {ls : Array Slot} {mc ms : Nat} {Q : State → Prop} {a : Array Value} {st0 : List Value} {pst : Option Value → va_W → Prop}
    (hr : va_Run p l e R s m args below meth c H locs k n mc ms (F0 m pc ls st0) st (gw_Q D pst (va_A ws H.size) a) (va_A ws H.size)) (hD : va_D A ws) (hS : va_S A s.heap H locs) (hA : ∀ q : Nat, s.heap.size ≤ q → A q)
    (kk : ∀ (v : Option Value) (u : va_W), pst v u → ∀ (H1 : Heap) (locs1 : List Loc), va_P D.1 gw_cl u H1 → va_D A u → va_S A s.heap H1 locs1 → W p l e R s m args below meth c H1 locs1 (k + mc) (n + ms) Q (F0 m (pc + 3) ls (v.toList ++ st))) : W p l e R s m args below meth c H locs k n Q (F0 m pc ls st0) := by
  have hAA : ∀ q : Nat, va_A ws H.size q → A q := fun q h => h.elim (fun ⟨i, x, h1⟩ => hD.2 i _ h1) (fun h1 => hA q (Nat.le_trans hS.1 h1))
  intro T hT X
  obtain ⟨v, st₀, t, T', L, h0, X', hL, e1, e2, ⟨⟨v', u, hv, hp, hPu, hDu⟩, hz, hk⟩, stp⟩ := hr T hT X
  cases hv
  rw [h0] at hz hk
  obtain ⟨t2, a1, b1⟩ := kk v u hp T'.heap (locs ++ L) (by rw [e1]; exact hPu) (hDu.weaken (fun _ q _ h => hAA q.1 h))
    ⟨Nat.le_trans hS.1 (by rw [e1]; exact hz), fun q h1 h2 => by rw [e1, hk q (Nat.lt_of_lt_of_le h1 hS.1) (fun z => h2 (hAA q z))]; exact hS.2.1 q h1 h2, fun q hq => by
      rcases List.mem_append.mp hq with h | h
      · exact hS.2.2 q h
      · exact hAA _ (hL q h)⟩ T' rfl X'
  exact ⟨t2, stp t2 a1, b1⟩
theorem gw_blind {sz : Nat} {As : List Value} : FrameBlind (va_Pc As (gw_B D ws sz)) := fun a U g mk q => by
  obtain ⟨q0, q1, qP, qK, qD, qS⟩ := q
  exact ⟨q0, q1, qP, gw_K.same (u := U) (show U.vm = (U.calling g mk a).vm from rfl) qK, qD, gw_ST.same (u := U) (U := U.calling g mk a) rfl qS⟩
theorem gw_pre {s : State} {H : Heap} {locs : List Loc} {As : List Value} {A : Nat → Prop} (hP : va_P D.1 gw_cl ws H) (hK : gw_K D s) (hD : va_D A ws) (hS : va_S A s.heap H locs) (hA : ∀ q : Nat, s.heap.size ≤ q → A q) (hST : gw_ST D A s s.heap) : ∀ U : State, U.heap = H → s.WarmedH U.vm → va_Pc As (gw_B D ws H.size) As.toArray U := fun U hU hW => ⟨rfl, by rw [hU], by rw [hU]; exact hP, hK.warm hW, hD.weaken (fun _ _ _ _ => trivial), by
    rw [hU]
    exact ((hST.warm hW).kept hS.2.1).narrow (fun q h => h.elim (fun ⟨i, x, h1⟩ => hD.2 i _ h1) (fun h1 => hA q (Nat.le_trans hS.1 h1)))⟩
def gw_fit (rm R : Room) (L k n : Nat) : Bool := Nat.ble (rm.frames + 1) R.frames && Nat.ble (8 + (L + 11) + rm.locals) R.locals && Nat.ble (k + rm.cells) R.cells && Nat.ble (n + rm.slots) R.slots
theorem gw_fit_of {rm : Room} {L : Nat} (h : gw_fit rm R L k n = true) : (rm.frames + 1 ≤ R.frames ∧ 8 + (L + 11) + rm.locals ≤ R.locals) ∧ (k + rm.cells ≤ R.cells ∧ n + rm.slots ≤ R.slots) := by
  unfold gw_fit at h
  simp only [Bool.and_eq_true] at h
  exact ⟨⟨Nat.le_of_ble_eq_true h.1.1.1, Nat.le_of_ble_eq_true h.1.1.2⟩, ⟨Nat.le_of_ble_eq_true h.1.2, Nat.le_of_ble_eq_true h.2⟩⟩

theorem gw_callV (X : gw_X E cc nL own ret l D R post) (pc' : Nat) (As : List Value) {y : MethodName} {bc : ByteArray} {L idx : Nat} {rt : Option FieldType} {rm : Room} {pst : Option Value → va_W → Prop} {C : String} {T : u_T} {N ci q0 bb : Nat} {st0 : List Value} (hM : gw_Ct D l y bc L rt rm (.ref bb :: As) Ws pst) (hg : GoodIn lw_all (wsV own idx C y (ws_ y bc L rt))) (hd : y.cls = C ∧ y.cls ≠ "java/lang/invoke/MethodHandle" ∧ y.cls ≠ "java/lang/invoke/VarHandle" ∧ (parseMethodDescriptor y.desc).map (fun d => d.parameters.length) = some As.length) (hc : gw_cl[ci]? = some (C, T, N)) (he0 : ∀ ws, Ws ws → ∃ fs, ws[q0]? = some (bb, .inr (ci, fs))) (hR : gw_fit rm R L k n = true) (hst : st0 = As.reverse ++ .ref bb :: st) (h8 : gw_cat st = true) (d : decode cc pc = .ok (.invokevirtual idx, 3)) (hp : pc + 3 = pc') (kk : ∀ (v : Option Value) (u : va_W), pst v u → gw_w E pc' lv (v.toList ++ st) u (k + rm.cells) (n + rm.slots)) : gw_W E pc lv st0 Ws k n := by
  subst hp
  have hf := gw_fit_of hR
  obtain ⟨p, e, s, m, args, below, meth, c, A, l1, D1, R1, Q1⟩ := E
  obtain ⟨rfl, rfl, rfl, hQ, hx, hb, hml, hr, hlk, hown, hts, hK, hA, hST, hfl⟩ := X
  intro ws hw0 H locs ls hP hD hS hl
  obtain ⟨fs, he⟩ := he0 ws hw0
  exact gw_back (va_runV (As := As) (rest := st) ⟨hx, hb, hml, hown, hts⟩ (hM hfl ws hw0 H.size) (cwV As.length hts hg rfl rfl rfl hd hf.1) ⟨gw_blind, va_recv hK.1 hP hc he, gw_pre hP hK hD hS hA hST⟩ rfl rfl (hl.1.trans hml) hst (lv_room (Nat.le_of_ble_eq_true h8)) d hf.2) hD hS hA (fun v u hp H1 locs1 hP1 hD1 hS1 => kk v u hp H1 locs1 ls hP1 hD1 hS1 hl)
theorem gw_callVi (X : gw_X E cc nL own ret l D R post) (pc' : Nat) (As : List Value) {y : MethodName} {bc : ByteArray} {L idx : Nat} {rt : Option FieldType} {rm : Room} {C : String} {T : u_T} {N ci q0 bb : Nat} {st0 : List Value} {r : Int32} {Ws' : va_W → Prop} {k' n' : Nat} (hM : gw_Ct D l y bc L rt rm (.ref bb :: As) Ws (gw_pI r Ws')) (hg : GoodIn lw_all (wsV own idx C y (ws_ y bc L rt))) (hd : y.cls = C ∧ y.cls ≠ "java/lang/invoke/MethodHandle" ∧ y.cls ≠ "java/lang/invoke/VarHandle" ∧ (parseMethodDescriptor y.desc).map (fun d => d.parameters.length) = some As.length) (hc : gw_cl[ci]? = some (C, T, N)) (he0 : ∀ ws, Ws ws → ∃ fs, ws[q0]? = some (bb, .inr (ci, fs))) (hR : gw_fit rm R L k n = true) (hst : st0 = As.reverse ++ .ref bb :: st) (h8 : gw_cat st = true) (d : decode cc pc = .ok (.invokevirtual idx, 3)) (hp : pc + 3 = pc') (hk' : k + rm.cells = k') (hn' : n + rm.slots = n') (kk : gw_W E pc' lv (.int r :: st) Ws' k' n') : gw_W E pc lv st0 Ws k n := by
  subst hk'
  subst hn'
  exact gw_callV X pc' As hM hg hd hc he0 hR hst h8 d hp (fun v u h => by obtain ⟨rfl, h⟩ := h; exact kk u h)
theorem gw_callVl (X : gw_X E cc nL own ret l D R post) (pc' : Nat) (As : List Value) {y : MethodName} {bc : ByteArray} {L idx : Nat} {rt : Option FieldType} {rm : Room} {C : String} {T : u_T} {N ci q0 bb : Nat} {st0 : List Value} {r : Int64} {Ws' : va_W → Prop} {k' n' : Nat} (hM : gw_Ct D l y bc L rt rm (.ref bb :: As) Ws (gw_pL r Ws')) (hg : GoodIn lw_all (wsV own idx C y (ws_ y bc L rt))) (hd : y.cls = C ∧ y.cls ≠ "java/lang/invoke/MethodHandle" ∧ y.cls ≠ "java/lang/invoke/VarHandle" ∧ (parseMethodDescriptor y.desc).map (fun d => d.parameters.length) = some As.length) (hc : gw_cl[ci]? = some (C, T, N)) (he0 : ∀ ws, Ws ws → ∃ fs, ws[q0]? = some (bb, .inr (ci, fs))) (hR : gw_fit rm R L k n = true) (hst : st0 = As.reverse ++ .ref bb :: st) (h8 : gw_cat st = true) (d : decode cc pc = .ok (.invokevirtual idx, 3)) (hp : pc + 3 = pc') (hk' : k + rm.cells = k') (hn' : n + rm.slots = n') (kk : gw_W E pc' lv (.long r :: st) Ws' k' n') : gw_W E pc lv st0 Ws k n := by
  subst hk'
  subst hn'
  exact gw_callV X pc' As hM hg hd hc he0 hR hst h8 d hp (fun v u h => by obtain ⟨rfl, h⟩ := h; exact kk u h)
theorem gw_callVv (X : gw_X E cc nL own ret l D R post) (pc' : Nat) (As : List Value) {y : MethodName} {bc : ByteArray} {L idx : Nat} {rt : Option FieldType} {rm : Room} {C : String} {T : u_T} {N ci q0 bb : Nat} {st0 : List Value}  {Ws' : va_W → Prop} {k' n' : Nat} (hM : gw_Ct D l y bc L rt rm (.ref bb :: As) Ws (gw_pV Ws')) (hg : GoodIn lw_all (wsV own idx C y (ws_ y bc L rt))) (hd : y.cls = C ∧ y.cls ≠ "java/lang/invoke/MethodHandle" ∧ y.cls ≠ "java/lang/invoke/VarHandle" ∧ (parseMethodDescriptor y.desc).map (fun d => d.parameters.length) = some As.length) (hc : gw_cl[ci]? = some (C, T, N)) (he0 : ∀ ws, Ws ws → ∃ fs, ws[q0]? = some (bb, .inr (ci, fs))) (hR : gw_fit rm R L k n = true) (hst : st0 = As.reverse ++ .ref bb :: st) (h8 : gw_cat st = true) (d : decode cc pc = .ok (.invokevirtual idx, 3)) (hp : pc + 3 = pc') (hk' : k + rm.cells = k') (hn' : n + rm.slots = n') (kk : gw_W E pc' lv (st) Ws' k' n') : gw_W E pc lv st0 Ws k n := by
  subst hk'
  subst hn'
  exact gw_callV X pc' As hM hg hd hc he0 hR hst h8 d hp (fun v u h => by obtain ⟨rfl, h⟩ := h; exact kk u h)
theorem gw_callS (X : gw_X E cc nL own ret l D R post) (pc' : Nat) (As : List Value) {y : MethodName} {bc : ByteArray} {L idx : Nat} {rt : Option FieldType} {rm : Room} {pst : Option Value → va_W → Prop}  {st0 : List Value} (hM : gw_Ct D l y bc L rt rm As Ws pst) (hg : GoodIn lw_all (va_wsS own idx y (ws_ y bc L rt))) (hd : y.cls ≠ "java/lang/invoke/MethodHandle" ∧ y.cls ≠ "java/lang/invoke/VarHandle" ∧ (parseMethodDescriptor y.desc).map (fun d => d.parameters.length) = some As.length)  (hR : gw_fit rm R L k n = true) (hst : st0 = As.reverse ++ st) (h8 : gw_cat st = true) (d : decode cc pc = .ok (.invokestatic idx, 3)) (hp : pc + 3 = pc') (kk : ∀ (v : Option Value) (u : va_W), pst v u → gw_w E pc' lv (v.toList ++ st) u (k + rm.cells) (n + rm.slots)) : gw_W E pc lv st0 Ws k n := by
  subst hp
  have hf := gw_fit_of hR
  obtain ⟨p, e, s, m, args, below, meth, c, A, l1, D1, R1, Q1⟩ := E
  obtain ⟨rfl, rfl, rfl, hQ, hx, hb, hml, hr, hlk, hown, hts, hK, hA, hST, hfl⟩ := X
  intro ws hw0 H locs ls hP hD hS hl
  exact gw_back (va_runS (As := As) (rest := st) ⟨hx, hb, hml, hown, hts⟩ (hM hfl ws hw0 H.size) (va_cwS As.length hts hg rfl rfl rfl hd hf.1) ⟨gw_blind, gw_pre hP hK hD hS hA hST⟩ rfl rfl (hl.1.trans hml) hst (lv_room (Nat.le_of_ble_eq_true h8)) d hf.2) hD hS hA (fun v u hp H1 locs1 hP1 hD1 hS1 => kk v u hp H1 locs1 ls hP1 hD1 hS1 hl)
theorem gw_callSi (X : gw_X E cc nL own ret l D R post) (pc' : Nat) (As : List Value) {y : MethodName} {bc : ByteArray} {L idx : Nat} {rt : Option FieldType} {rm : Room}  {st0 : List Value} {r : Int32} {Ws' : va_W → Prop} {k' n' : Nat} (hM : gw_Ct D l y bc L rt rm As Ws (gw_pI r Ws')) (hg : GoodIn lw_all (va_wsS own idx y (ws_ y bc L rt))) (hd : y.cls ≠ "java/lang/invoke/MethodHandle" ∧ y.cls ≠ "java/lang/invoke/VarHandle" ∧ (parseMethodDescriptor y.desc).map (fun d => d.parameters.length) = some As.length)  (hR : gw_fit rm R L k n = true) (hst : st0 = As.reverse ++ st) (h8 : gw_cat st = true) (d : decode cc pc = .ok (.invokestatic idx, 3)) (hp : pc + 3 = pc') (hk' : k + rm.cells = k') (hn' : n + rm.slots = n') (kk : gw_W E pc' lv (.int r :: st) Ws' k' n') : gw_W E pc lv st0 Ws k n := by
  subst hk'
  subst hn'
  exact gw_callS X pc' As hM hg hd hR hst h8 d hp (fun v u h => by obtain ⟨rfl, h⟩ := h; exact kk u h)
theorem gw_callSl (X : gw_X E cc nL own ret l D R post) (pc' : Nat) (As : List Value) {y : MethodName} {bc : ByteArray} {L idx : Nat} {rt : Option FieldType} {rm : Room}  {st0 : List Value} {r : Int64} {Ws' : va_W → Prop} {k' n' : Nat} (hM : gw_Ct D l y bc L rt rm As Ws (gw_pL r Ws')) (hg : GoodIn lw_all (va_wsS own idx y (ws_ y bc L rt))) (hd : y.cls ≠ "java/lang/invoke/MethodHandle" ∧ y.cls ≠ "java/lang/invoke/VarHandle" ∧ (parseMethodDescriptor y.desc).map (fun d => d.parameters.length) = some As.length)  (hR : gw_fit rm R L k n = true) (hst : st0 = As.reverse ++ st) (h8 : gw_cat st = true) (d : decode cc pc = .ok (.invokestatic idx, 3)) (hp : pc + 3 = pc') (hk' : k + rm.cells = k') (hn' : n + rm.slots = n') (kk : gw_W E pc' lv (.long r :: st) Ws' k' n') : gw_W E pc lv st0 Ws k n := by
  subst hk'
  subst hn'
  exact gw_callS X pc' As hM hg hd hR hst h8 d hp (fun v u h => by obtain ⟨rfl, h⟩ := h; exact kk u h)
theorem gw_callSv (X : gw_X E cc nL own ret l D R post) (pc' : Nat) (As : List Value) {y : MethodName} {bc : ByteArray} {L idx : Nat} {rt : Option FieldType} {rm : Room}  {st0 : List Value}  {Ws' : va_W → Prop} {k' n' : Nat} (hM : gw_Ct D l y bc L rt rm As Ws (gw_pV Ws')) (hg : GoodIn lw_all (va_wsS own idx y (ws_ y bc L rt))) (hd : y.cls ≠ "java/lang/invoke/MethodHandle" ∧ y.cls ≠ "java/lang/invoke/VarHandle" ∧ (parseMethodDescriptor y.desc).map (fun d => d.parameters.length) = some As.length)  (hR : gw_fit rm R L k n = true) (hst : st0 = As.reverse ++ st) (h8 : gw_cat st = true) (d : decode cc pc = .ok (.invokestatic idx, 3)) (hp : pc + 3 = pc') (hk' : k + rm.cells = k') (hn' : n + rm.slots = n') (kk : gw_W E pc' lv (st) Ws' k' n') : gw_W E pc lv st0 Ws k n := by
  subst hk'
  subst hn'
  exact gw_callS X pc' As hM hg hd hR hst h8 d hp (fun v u h => by obtain ⟨rfl, h⟩ := h; exact kk u h)
theorem gw_callSN (X : gw_X E cc nL own ret l D R post) (pc' : Nat) (As : List Value) {y : MethodName} {bc : ByteArray} {L idx : Nat} {rt : Option FieldType} {rm : Room} {pst : Option Value → va_W → Prop}  {st0 : List Value} (hM : gw_Ct D l y bc L rt rm As Ws pst) {host : String} (hl1 : Cond.methodLinkNest own idx y host ∈ lw_tbl) (hg : GoodIn lw_all (ws_ y bc L rt)) (hs : Cond.static y ∈ lw_all) (hi : Cond.initialized y.cls ∈ lw_all) (hd : y.cls ≠ "java/lang/invoke/MethodHandle" ∧ y.cls ≠ "java/lang/invoke/VarHandle" ∧ (parseMethodDescriptor y.desc).map (fun d => d.parameters.length) = some As.length)  (hR : gw_fit rm R L k n = true) (hst : st0 = As.reverse ++ st) (h8 : gw_cat st = true) (d : decode cc pc = .ok (.invokestatic idx, 3)) (hp : pc + 3 = pc') (kk : ∀ (v : Option Value) (u : va_W), pst v u → gw_w E pc' lv (v.toList ++ st) u (k + rm.cells) (n + rm.slots)) : gw_W E pc lv st0 Ws k n := by
  subst hp
  have hf := gw_fit_of hR
  obtain ⟨p, e, s, m, args, below, meth, c, A, l1, D1, R1, Q1⟩ := E
  obtain ⟨rfl, rfl, rfl, hQ, hx, hb, hml, hr, hlk, hown, hts, hK, hA, hST, hfl⟩ := X
  intro ws hw0 H locs ls hP hD hS hl
  exact gw_back (va_runSN (As := As) (rest := st) ⟨hx, hb, hml, hown, hts⟩ (hM hfl ws hw0 H.size) ⟨va_cnB As.length hts hg rfl rfl rfl (hK.2.1 _ hl1 rfl) (hts _ hi) hd hf.1, hts _ hs, trivial⟩ ⟨gw_blind, gw_pre hP hK hD hS hA hST⟩ rfl rfl (hl.1.trans hml) hst (lv_room (Nat.le_of_ble_eq_true h8)) d hf.2) hD hS hA (fun v u hp H1 locs1 hP1 hD1 hS1 => kk v u hp H1 locs1 ls hP1 hD1 hS1 hl)
theorem gw_callSNi (X : gw_X E cc nL own ret l D R post) (pc' : Nat) (As : List Value) {y : MethodName} {bc : ByteArray} {L idx : Nat} {rt : Option FieldType} {rm : Room}  {st0 : List Value} {r : Int32} {Ws' : va_W → Prop} {k' n' : Nat} (hM : gw_Ct D l y bc L rt rm As Ws (gw_pI r Ws')) {host : String} (hl1 : Cond.methodLinkNest own idx y host ∈ lw_tbl) (hg : GoodIn lw_all (ws_ y bc L rt)) (hs : Cond.static y ∈ lw_all) (hi : Cond.initialized y.cls ∈ lw_all) (hd : y.cls ≠ "java/lang/invoke/MethodHandle" ∧ y.cls ≠ "java/lang/invoke/VarHandle" ∧ (parseMethodDescriptor y.desc).map (fun d => d.parameters.length) = some As.length)  (hR : gw_fit rm R L k n = true) (hst : st0 = As.reverse ++ st) (h8 : gw_cat st = true) (d : decode cc pc = .ok (.invokestatic idx, 3)) (hp : pc + 3 = pc') (hk' : k + rm.cells = k') (hn' : n + rm.slots = n') (kk : gw_W E pc' lv (.int r :: st) Ws' k' n') : gw_W E pc lv st0 Ws k n := by
  subst hk'
  subst hn'
  exact gw_callSN X pc' As hM hl1 hg hs hi hd hR hst h8 d hp (fun v u h => by obtain ⟨rfl, h⟩ := h; exact kk u h)
theorem gw_callSNl (X : gw_X E cc nL own ret l D R post) (pc' : Nat) (As : List Value) {y : MethodName} {bc : ByteArray} {L idx : Nat} {rt : Option FieldType} {rm : Room}  {st0 : List Value} {r : Int64} {Ws' : va_W → Prop} {k' n' : Nat} (hM : gw_Ct D l y bc L rt rm As Ws (gw_pL r Ws')) {host : String} (hl1 : Cond.methodLinkNest own idx y host ∈ lw_tbl) (hg : GoodIn lw_all (ws_ y bc L rt)) (hs : Cond.static y ∈ lw_all) (hi : Cond.initialized y.cls ∈ lw_all) (hd : y.cls ≠ "java/lang/invoke/MethodHandle" ∧ y.cls ≠ "java/lang/invoke/VarHandle" ∧ (parseMethodDescriptor y.desc).map (fun d => d.parameters.length) = some As.length)  (hR : gw_fit rm R L k n = true) (hst : st0 = As.reverse ++ st) (h8 : gw_cat st = true) (d : decode cc pc = .ok (.invokestatic idx, 3)) (hp : pc + 3 = pc') (hk' : k + rm.cells = k') (hn' : n + rm.slots = n') (kk : gw_W E pc' lv (.long r :: st) Ws' k' n') : gw_W E pc lv st0 Ws k n := by
  subst hk'
  subst hn'
  exact gw_callSN X pc' As hM hl1 hg hs hi hd hR hst h8 d hp (fun v u h => by obtain ⟨rfl, h⟩ := h; exact kk u h)
theorem gw_callSNv (X : gw_X E cc nL own ret l D R post) (pc' : Nat) (As : List Value) {y : MethodName} {bc : ByteArray} {L idx : Nat} {rt : Option FieldType} {rm : Room}  {st0 : List Value}  {Ws' : va_W → Prop} {k' n' : Nat} (hM : gw_Ct D l y bc L rt rm As Ws (gw_pV Ws')) {host : String} (hl1 : Cond.methodLinkNest own idx y host ∈ lw_tbl) (hg : GoodIn lw_all (ws_ y bc L rt)) (hs : Cond.static y ∈ lw_all) (hi : Cond.initialized y.cls ∈ lw_all) (hd : y.cls ≠ "java/lang/invoke/MethodHandle" ∧ y.cls ≠ "java/lang/invoke/VarHandle" ∧ (parseMethodDescriptor y.desc).map (fun d => d.parameters.length) = some As.length)  (hR : gw_fit rm R L k n = true) (hst : st0 = As.reverse ++ st) (h8 : gw_cat st = true) (d : decode cc pc = .ok (.invokestatic idx, 3)) (hp : pc + 3 = pc') (hk' : k + rm.cells = k') (hn' : n + rm.slots = n') (kk : gw_W E pc' lv (st) Ws' k' n') : gw_W E pc lv st0 Ws k n := by
  subst hk'
  subst hn'
  exact gw_callSN X pc' As hM hl1 hg hs hi hd hR hst h8 d hp (fun v u h => by obtain ⟨rfl, h⟩ := h; exact kk u h)
theorem gw_callVN (X : gw_X E cc nL own ret l D R post) (pc' : Nat) (As : List Value) {y : MethodName} {bc : ByteArray} {L idx : Nat} {rt : Option FieldType} {rm : Room} {pst : Option Value → va_W → Prop} {C : String} {T : u_T} {N ci q0 bb : Nat} {st0 : List Value} (hM : gw_Ct D l y bc L rt rm (.ref bb :: As) Ws pst) {host : String} (hl1 : Cond.methodLinkNest own idx y host ∈ lw_tbl) (hg : GoodIn lw_all (ws_ y bc L rt)) (hi1 : Cond.instanceMethod y ∈ lw_all) (hs : Cond.selects C y y ∈ lw_all) (hi : Cond.initialized y.cls ∈ lw_all) (hd : y.cls ≠ "java/lang/invoke/MethodHandle" ∧ y.cls ≠ "java/lang/invoke/VarHandle" ∧ (parseMethodDescriptor y.desc).map (fun d => d.parameters.length) = some As.length) (hc : gw_cl[ci]? = some (C, T, N)) (he0 : ∀ ws, Ws ws → ∃ fs, ws[q0]? = some (bb, .inr (ci, fs))) (hR : gw_fit rm R L k n = true) (hst : st0 = As.reverse ++ .ref bb :: st) (h8 : gw_cat st = true) (d : decode cc pc = .ok (.invokevirtual idx, 3)) (hp : pc + 3 = pc') (kk : ∀ (v : Option Value) (u : va_W), pst v u → gw_w E pc' lv (v.toList ++ st) u (k + rm.cells) (n + rm.slots)) : gw_W E pc lv st0 Ws k n := by
  subst hp
  have hf := gw_fit_of hR
  obtain ⟨p, e, s, m, args, below, meth, c, A, l1, D1, R1, Q1⟩ := E
  obtain ⟨rfl, rfl, rfl, hQ, hx, hb, hml, hr, hlk, hown, hts, hK, hA, hST, hfl⟩ := X
  intro ws hw0 H locs ls hP hD hS hl
  obtain ⟨fs, he⟩ := he0 ws hw0
  exact gw_back (va_runVN (As := As) (rest := st) ⟨hx, hb, hml, hown, hts⟩ (hM hfl ws hw0 H.size) ⟨va_cnB As.length hts hg rfl rfl rfl (hK.2.1 _ hl1 rfl) (hts _ hi) hd hf.1, hts _ hi1, hts _ hs⟩ ⟨gw_blind, va_recv hK.1 hP hc he, gw_pre hP hK hD hS hA hST⟩ rfl rfl (hl.1.trans hml) hst (lv_room (Nat.le_of_ble_eq_true h8)) d hf.2) hD hS hA (fun v u hp H1 locs1 hP1 hD1 hS1 => kk v u hp H1 locs1 ls hP1 hD1 hS1 hl)
theorem gw_callVNi (X : gw_X E cc nL own ret l D R post) (pc' : Nat) (As : List Value) {y : MethodName} {bc : ByteArray} {L idx : Nat} {rt : Option FieldType} {rm : Room} {C : String} {T : u_T} {N ci q0 bb : Nat} {st0 : List Value} {r : Int32} {Ws' : va_W → Prop} {k' n' : Nat} (hM : gw_Ct D l y bc L rt rm (.ref bb :: As) Ws (gw_pI r Ws')) {host : String} (hl1 : Cond.methodLinkNest own idx y host ∈ lw_tbl) (hg : GoodIn lw_all (ws_ y bc L rt)) (hi1 : Cond.instanceMethod y ∈ lw_all) (hs : Cond.selects C y y ∈ lw_all) (hi : Cond.initialized y.cls ∈ lw_all) (hd : y.cls ≠ "java/lang/invoke/MethodHandle" ∧ y.cls ≠ "java/lang/invoke/VarHandle" ∧ (parseMethodDescriptor y.desc).map (fun d => d.parameters.length) = some As.length) (hc : gw_cl[ci]? = some (C, T, N)) (he0 : ∀ ws, Ws ws → ∃ fs, ws[q0]? = some (bb, .inr (ci, fs))) (hR : gw_fit rm R L k n = true) (hst : st0 = As.reverse ++ .ref bb :: st) (h8 : gw_cat st = true) (d : decode cc pc = .ok (.invokevirtual idx, 3)) (hp : pc + 3 = pc') (hk' : k + rm.cells = k') (hn' : n + rm.slots = n') (kk : gw_W E pc' lv (.int r :: st) Ws' k' n') : gw_W E pc lv st0 Ws k n := by
  subst hk'
  subst hn'
  exact gw_callVN X pc' As hM hl1 hg hi1 hs hi hd hc he0 hR hst h8 d hp (fun v u h => by obtain ⟨rfl, h⟩ := h; exact kk u h)
theorem gw_callVNl (X : gw_X E cc nL own ret l D R post) (pc' : Nat) (As : List Value) {y : MethodName} {bc : ByteArray} {L idx : Nat} {rt : Option FieldType} {rm : Room} {C : String} {T : u_T} {N ci q0 bb : Nat} {st0 : List Value} {r : Int64} {Ws' : va_W → Prop} {k' n' : Nat} (hM : gw_Ct D l y bc L rt rm (.ref bb :: As) Ws (gw_pL r Ws')) {host : String} (hl1 : Cond.methodLinkNest own idx y host ∈ lw_tbl) (hg : GoodIn lw_all (ws_ y bc L rt)) (hi1 : Cond.instanceMethod y ∈ lw_all) (hs : Cond.selects C y y ∈ lw_all) (hi : Cond.initialized y.cls ∈ lw_all) (hd : y.cls ≠ "java/lang/invoke/MethodHandle" ∧ y.cls ≠ "java/lang/invoke/VarHandle" ∧ (parseMethodDescriptor y.desc).map (fun d => d.parameters.length) = some As.length) (hc : gw_cl[ci]? = some (C, T, N)) (he0 : ∀ ws, Ws ws → ∃ fs, ws[q0]? = some (bb, .inr (ci, fs))) (hR : gw_fit rm R L k n = true) (hst : st0 = As.reverse ++ .ref bb :: st) (h8 : gw_cat st = true) (d : decode cc pc = .ok (.invokevirtual idx, 3)) (hp : pc + 3 = pc') (hk' : k + rm.cells = k') (hn' : n + rm.slots = n') (kk : gw_W E pc' lv (.long r :: st) Ws' k' n') : gw_W E pc lv st0 Ws k n := by
  subst hk'
  subst hn'
  exact gw_callVN X pc' As hM hl1 hg hi1 hs hi hd hc he0 hR hst h8 d hp (fun v u h => by obtain ⟨rfl, h⟩ := h; exact kk u h)
theorem gw_callVNv (X : gw_X E cc nL own ret l D R post) (pc' : Nat) (As : List Value) {y : MethodName} {bc : ByteArray} {L idx : Nat} {rt : Option FieldType} {rm : Room} {C : String} {T : u_T} {N ci q0 bb : Nat} {st0 : List Value}  {Ws' : va_W → Prop} {k' n' : Nat} (hM : gw_Ct D l y bc L rt rm (.ref bb :: As) Ws (gw_pV Ws')) {host : String} (hl1 : Cond.methodLinkNest own idx y host ∈ lw_tbl) (hg : GoodIn lw_all (ws_ y bc L rt)) (hi1 : Cond.instanceMethod y ∈ lw_all) (hs : Cond.selects C y y ∈ lw_all) (hi : Cond.initialized y.cls ∈ lw_all) (hd : y.cls ≠ "java/lang/invoke/MethodHandle" ∧ y.cls ≠ "java/lang/invoke/VarHandle" ∧ (parseMethodDescriptor y.desc).map (fun d => d.parameters.length) = some As.length) (hc : gw_cl[ci]? = some (C, T, N)) (he0 : ∀ ws, Ws ws → ∃ fs, ws[q0]? = some (bb, .inr (ci, fs))) (hR : gw_fit rm R L k n = true) (hst : st0 = As.reverse ++ .ref bb :: st) (h8 : gw_cat st = true) (d : decode cc pc = .ok (.invokevirtual idx, 3)) (hp : pc + 3 = pc') (hk' : k + rm.cells = k') (hn' : n + rm.slots = n') (kk : gw_W E pc' lv (st) Ws' k' n') : gw_W E pc lv st0 Ws k n := by
  subst hk'
  subst hn'
  exact gw_callVN X pc' As hM hl1 hg hi1 hs hi hd hc he0 hR hst h8 d hp (fun v u h => by obtain ⟨rfl, h⟩ := h; exact kk u h)
theorem gw_qminC : Cond.code Lib.Math.min.name Lib.Math.min.code 2 (some .int) ∈ lw_all := by
  have h : prog_26_method_69_code = Lib.Math.min.code := by decide +kernel
  rw [← h]
  exact q411
theorem gw_mmin (X : gw_X E cc nL own ret l D R post) (pc' : Nat) {idx : Nat} {x y : Int32} (hl0 : Cond.methodLink own idx Lib.Math.min.name ∈ lw_all) (d : decode cc pc = .ok (.invokestatic idx, 3)) (hp : pc + 3 = pc') (hR : (Nat.ble 1 R.frames && Nat.ble 24 R.locals && Nat.ble k R.cells && Nat.ble n R.slots) = true) (h8 : gw_cat st = true) (kk : gw_W E pc' lv (.int (if y < x then y else x) :: st) Ws k n) : gw_W E pc lv (.int y :: .int x :: st) Ws k n := by
  subst hp
  simp only [Bool.and_eq_true] at hR
  have r1 := Nat.le_of_ble_eq_true hR.1.1.1
  have r2 := Nat.le_of_ble_eq_true hR.1.1.2
  have r3 := Nat.le_of_ble_eq_true hR.1.2
  have r4 := Nat.le_of_ble_eq_true hR.2
  have r8 := Nat.le_of_ble_eq_true h8
  obtain ⟨p, e, s, m, args, below, meth, c, A, l1, D1, R1, Q1⟩ := E
  obtain ⟨rfl, rfl, rfl, hQ, hx, hb, hml, hr, hlk, hown, hts, hK, hA, hST, hfl⟩ := X
  intro ws hw0 H locs ls hP hD hS hl
  exact va_mmin hx hb hl.1.symm hown (hts _ hl0) (hts _ q410) (hts _ q146) (hts _ gw_qminC) r1 (by omega) r3 r4 d (kk ws hw0 H locs ls hP hD hS hl)
theorem gw_qmaxC : Cond.code Lib.Math.max.name Lib.Math.max.code 2 (some .int) ∈ lw_all := by
  have h : prog_26_method_65_code = Lib.Math.max.code := by decide +kernel
  rw [← h]
  exact q700
theorem gw_mmax (X : gw_X E cc nL own ret l D R post) (pc' : Nat) {idx : Nat} {x y : Int32} (hl0 : Cond.methodLink own idx Lib.Math.max.name ∈ lw_all) (d : decode cc pc = .ok (.invokestatic idx, 3)) (hp : pc + 3 = pc') (hR : (Nat.ble 1 R.frames && Nat.ble 24 R.locals && Nat.ble k R.cells && Nat.ble n R.slots) = true) (h8 : gw_cat st = true) (kk : gw_W E pc' lv (.int (if x < y then y else x) :: st) Ws k n) : gw_W E pc lv (.int y :: .int x :: st) Ws k n := by
  subst hp
  simp only [Bool.and_eq_true] at hR
  have r1 := Nat.le_of_ble_eq_true hR.1.1.1
  have r2 := Nat.le_of_ble_eq_true hR.1.1.2
  have r3 := Nat.le_of_ble_eq_true hR.1.2
  have r4 := Nat.le_of_ble_eq_true hR.2
  have r8 := Nat.le_of_ble_eq_true h8
  obtain ⟨p, e, s, m, args, below, meth, c, A, l1, D1, R1, Q1⟩ := E
  obtain ⟨rfl, rfl, rfl, hQ, hx, hb, hml, hr, hlk, hown, hts, hK, hA, hST, hfl⟩ := X
  intro ws hw0 H locs ls hP hD hS hl
  exact va_mmax hx hb hl.1.symm hown (hts _ hl0) (hts _ q699) (hts _ q146) (hts _ gw_qmaxC) r1 (by omega) r3 r4 d (kk ws hw0 H locs ls hP hD hS hl)
end GWR
theorem gw_ci_m9 : Int32.ofInt (-9) = -9 := by decide
theorem gw_ci_m8 : Int32.ofInt (-8) = -8 := by decide
theorem gw_ci_m7 : Int32.ofInt (-7) = -7 := by decide
theorem gw_ci_m6 : Int32.ofInt (-6) = -6 := by decide
theorem gw_ci_m5 : Int32.ofInt (-5) = -5 := by decide
theorem gw_ci_m4 : Int32.ofInt (-4) = -4 := by decide
theorem gw_ci_m3 : Int32.ofInt (-3) = -3 := by decide
theorem gw_ci_m2 : Int32.ofInt (-2) = -2 := by decide
theorem gw_ci_m1 : Int32.ofInt (-1) = -1 := by decide
theorem gw_ci_0 : Int32.ofInt (0) = 0 := by decide
theorem gw_ci_1 : Int32.ofInt (1) = 1 := by decide
theorem gw_ci_2 : Int32.ofInt (2) = 2 := by decide
theorem gw_ci_3 : Int32.ofInt (3) = 3 := by decide
theorem gw_ci_4 : Int32.ofInt (4) = 4 := by decide
theorem gw_ci_5 : Int32.ofInt (5) = 5 := by decide
theorem gw_ci_6 : Int32.ofInt (6) = 6 := by decide
theorem gw_cb_m8 : (Int8.ofInt (-8)).toInt32 = -8 := by decide
theorem gw_cb_m7 : (Int8.ofInt (-7)).toInt32 = -7 := by decide
theorem gw_cb_m6 : (Int8.ofInt (-6)).toInt32 = -6 := by decide
theorem gw_cb_m5 : (Int8.ofInt (-5)).toInt32 = -5 := by decide
theorem gw_cb_m4 : (Int8.ofInt (-4)).toInt32 = -4 := by decide
theorem gw_cb_m3 : (Int8.ofInt (-3)).toInt32 = -3 := by decide
theorem gw_cb_m2 : (Int8.ofInt (-2)).toInt32 = -2 := by decide
theorem gw_cb_6 : (Int8.ofInt (6)).toInt32 = 6 := by decide
theorem gw_cb_8 : (Int8.ofInt (8)).toInt32 = 8 := by decide
theorem gw_cb_9 : (Int8.ofInt (9)).toInt32 = 9 := by decide
theorem gw_cb_10 : (Int8.ofInt (10)).toInt32 = 10 := by decide
theorem gw_cb_11 : (Int8.ofInt (11)).toInt32 = 11 := by decide
theorem gw_cb_12 : (Int8.ofInt (12)).toInt32 = 12 := by decide
theorem gw_cb_15 : (Int8.ofInt (15)).toInt32 = 15 := by decide
theorem gw_cb_16 : (Int8.ofInt (16)).toInt32 = 16 := by decide
theorem gw_cb_20 : (Int8.ofInt (20)).toInt32 = 20 := by decide
theorem gw_cb_24 : (Int8.ofInt (24)).toInt32 = 24 := by decide
theorem gw_cb_32 : (Int8.ofInt (32)).toInt32 = 32 := by decide
theorem gw_cb_40 : (Int8.ofInt (40)).toInt32 = 40 := by decide
theorem gw_cb_48 : (Int8.ofInt (48)).toInt32 = 48 := by decide
theorem gw_cb_57 : (Int8.ofInt (57)).toInt32 = 57 := by decide
theorem gw_cb_59 : (Int8.ofInt (59)).toInt32 = 59 := by decide
theorem gw_cb_60 : (Int8.ofInt (60)).toInt32 = 60 := by decide
theorem gw_cb_63 : (Int8.ofInt (63)).toInt32 = 63 := by decide
theorem gw_cb_64 : (Int8.ofInt (64)).toInt32 = 64 := by decide
theorem gw_cb_97 : (Int8.ofInt (97)).toInt32 = 97 := by decide
theorem gw_cb_100 : (Int8.ofInt (100)).toInt32 = 100 := by decide
theorem gw_cb_122 : (Int8.ofInt (122)).toInt32 = 122 := by decide
theorem gw_cb_127 : (Int8.ofInt (127)).toInt32 = 127 := by decide
theorem gw_cs_m10000 : (Int16.ofInt (-10000)).toInt32 = -10000 := by decide
theorem gw_cs_m1000 : (Int16.ofInt (-1000)).toInt32 = -1000 := by decide
theorem gw_cs_200 : (Int16.ofInt (200)).toInt32 = 200 := by decide
theorem gw_cs_240 : (Int16.ofInt (240)).toInt32 = 240 := by decide
theorem gw_cs_255 : (Int16.ofInt (255)).toInt32 = 255 := by decide
theorem gw_cs_576 : (Int16.ofInt (576)).toInt32 = 576 := by decide
theorem gw_cs_900 : (Int16.ofInt (900)).toInt32 = 900 := by decide
theorem gw_cs_999 : (Int16.ofInt (999)).toInt32 = 999 := by decide
theorem gw_cs_1000 : (Int16.ofInt (1000)).toInt32 = 1000 := by decide
theorem gw_cs_10000 : (Int16.ofInt (10000)).toInt32 = 10000 := by decide
theorem gw_cl_0 : Int64.ofNat ((0 : Fin 2) : Nat) = 0 := by decide
theorem gw_cl_1 : Int64.ofNat ((1 : Fin 2) : Nat) = 1 := by decide
