/-! THE WORLDS: of the class (wX: its object, its city, their arrays), of the reference (wM); a row a field, a row an array -/
set_option maxRecDepth 100000
def wXf0 (a : Nat → Nat) (σ : gw_S) : List Value := [.ref (a 1), .ref (a 2), .int (σ.1 0 2), .int (σ.1 0 3), .int (σ.1 0 4), .int (σ.1 0 5), .int (σ.1 0 6), .int (σ.1 0 7), .int (σ.1 0 8), .ref (a 3), .ref (a 4), .ref (a 5), .ref (a 14), .ref (a 6), .ref (a 7), .int (σ.1 0 15), .int (σ.1 0 16), .int (σ.1 0 17), .int (σ.1 0 18), .int (σ.1 0 19), .ref (a 8), .ref (a 15), .ref (a 16)]
def wXf1 (a : Nat → Nat) (σ : gw_S) : List Value := [.int (σ.1 1 0), .int (σ.1 1 1), .int (σ.1 1 2), .int (σ.1 1 3), .int (σ.1 1 4), .int (σ.1 1 5), .ref (a 9), .ref (a 10), .ref (a 11), .ref (a 12), .ref (a 13)]
def wX (D : gw_D) (a : Nat → Nat) (σ : gw_S) : va_W := [(a 0, .inr (0, wXf0 a σ)), (a 1, .inr (1, wXf1 a σ)), (a 2, .inl (D.2 1, 900, .inl (σ.1 2))), (a 3, .inl (D.2 0, 8, .inl (σ.1 3))), (a 4, .inl (D.2 0, 8, .inl (σ.1 4))), (a 5, .inl (D.2 0, 8, .inl (σ.1 5))), (a 6, .inl (D.2 0, 48, .inl (σ.1 6))), (a 7, .inl (D.2 0, 8, .inl (σ.1 7))), (a 8, .inl (D.2 0, 8, .inl (σ.1 8))), (a 9, .inl (D.2 0, 8, .inl (σ.1 9))), (a 10, .inl (D.2 0, 8, .inl (σ.1 10))), (a 11, .inl (D.2 0, 8, .inl (σ.1 11))), (a 12, .inl (D.2 0, 8, .inl (σ.1 12))), (a 13, .inl (D.2 0, 40, .inl (σ.1 13)))]
def wMf0 (a : Nat → Nat) (σ : gw_S) : List Value := [.int (σ.1 0 0), .ref (a 1), .ref (a 2), .ref (a 3), .ref (a 4), .ref (a 5), .int (σ.1 0 6), .int (σ.1 0 7), .int (σ.1 0 8), .int (σ.1 0 9), .int (σ.1 0 10), .long (σ.2 0 11), .int (σ.1 0 12), .int (σ.1 0 13), .int (σ.1 0 14), .int (σ.1 0 15), .ref (a 6), .ref (a 7), .ref (a 8), .ref (a 9), .ref (a 10), .ref (a 11), .ref (a 12), .ref (a 13), .int (σ.1 0 24), .int (σ.1 0 25), .int (σ.1 0 26), .int (σ.1 0 27), .ref (a 14), .int (σ.1 0 29), .int (σ.1 0 30)]
def wM (D : gw_D) (a : Nat → Nat) (σ : gw_S) : va_W := [(a 0, .inr (3, wMf0 a σ)), (a 1, .inl (D.2 0, 4, .inl (σ.1 1))), (a 2, .inl (D.2 0, 4, .inl (σ.1 2))), (a 3, .inl (D.2 2, 240, .inr (.inl (σ.2 3)))), (a 4, .inl (D.2 2, 60, .inr (.inl (σ.2 4)))), (a 5, .inl (D.2 1, 900, .inl (σ.1 5))), (a 6, .inl (D.2 0, 5, .inl (σ.1 6))), (a 7, .inl (D.2 0, 15, .inl (σ.1 7))), (a 8, .inl (D.2 0, 200, .inl (σ.1 8))), (a 9, .inl (D.2 0, 1000, .inl (σ.1 9))), (a 10, .inl (D.2 3, 3, .inl (σ.1 10))), (a 11, .inl (D.2 0, 8, .inl (σ.1 11))), (a 12, .inl (D.2 0, 8, .inl (σ.1 12))), (a 13, .inl (D.2 0, 8, .inl (σ.1 13))), (a 14, .inl (D.2 0, 576, .inl (σ.1 14)))]
section GWD
variable {E : gw_E} {cc : ByteArray} {nL : Nat} {own : String} {ret : Option FieldType} {l : Launch} {D : gw_D} {R : Room} {post : Option (Option Value → va_W → Prop)} {pc : Nat} {lv : List (Nat × Value)} {st : List Value} {k n : Nat} {a : Nat → Nat} {σ : gw_S} {Wr : va_W → Prop}
theorem gX_at0w (w2 : va_W) : (wX D a σ ++ w2)[0]? = some (a 0, .inr (0, wXf0 a σ)) := rfl
theorem gX_at0 : ∀ ws, (gw_st (wX D a σ) Wr) ws → ∃ fs, ws[0]? = some (a 0, .inr (0, fs)) := fun ws ⟨w2, _, e⟩ => e ▸ ⟨_, gX_at0w (D := D) w2⟩
theorem gX_cl0 : gw_cl[0]? = some (RX0, TX0, 23) := rfl
theorem gX_g0_0 (X : gw_X E cc nL own ret l D R post) (pc' : Nat) {idx : Nat}  (hlk : Cond.fieldLink own idx "CardHolder" "city" "LCardHolder$City;" ∈ lw_all) (d : decode cc pc = .ok (.getfield idx, 3)) (hp : pc + 3 = pc') (kk : gw_W E pc' lv (.ref (a 1) :: st) (gw_st (wX D a σ) Wr) k n) : gw_W E pc lv (.ref (a 0) :: st) (gw_st (wX D a σ) Wr) k n := by
  intro ws hw
  obtain ⟨w2, h2, rfl⟩ := hw
  exact gw_get X pc' in_X0 gX_cl0 (gX_at0w w2) 0 (by decide) hlk rfl rfl d hp (kk _ ⟨w2, h2, rfl⟩)
theorem gX_g0_0N (X : gw_X E cc nL own ret l D R post) (pc' : Nat) {idx : Nat} {host : String} (hlk : Cond.fieldLinkNest own idx "CardHolder" "city" "LCardHolder$City;" host ∈ lw_tbl) (d : decode cc pc = .ok (.getfield idx, 3)) (hp : pc + 3 = pc') (kk : gw_W E pc' lv (.ref (a 1) :: st) (gw_st (wX D a σ) Wr) k n) : gw_W E pc lv (.ref (a 0) :: st) (gw_st (wX D a σ) Wr) k n := by
  intro ws hw
  obtain ⟨w2, h2, rfl⟩ := hw
  exact gw_getN X pc' in_X0 gX_cl0 (gX_at0w w2) 0 (by decide) hlk rfl rfl d hp (kk _ ⟨w2, h2, rfl⟩)
theorem gX_g0_1 (X : gw_X E cc nL own ret l D R post) (pc' : Nat) {idx : Nat}  (hlk : Cond.fieldLink own idx "CardHolder" "tape" "[B" ∈ lw_all) (d : decode cc pc = .ok (.getfield idx, 3)) (hp : pc + 3 = pc') (kk : gw_W E pc' lv (.ref (a 2) :: st) (gw_st (wX D a σ) Wr) k n) : gw_W E pc lv (.ref (a 0) :: st) (gw_st (wX D a σ) Wr) k n := by
  intro ws hw
  obtain ⟨w2, h2, rfl⟩ := hw
  exact gw_get X pc' in_X0 gX_cl0 (gX_at0w w2) 1 (by decide) hlk rfl rfl d hp (kk _ ⟨w2, h2, rfl⟩)
theorem gX_g0_1N (X : gw_X E cc nL own ret l D R post) (pc' : Nat) {idx : Nat} {host : String} (hlk : Cond.fieldLinkNest own idx "CardHolder" "tape" "[B" host ∈ lw_tbl) (d : decode cc pc = .ok (.getfield idx, 3)) (hp : pc + 3 = pc') (kk : gw_W E pc' lv (.ref (a 2) :: st) (gw_st (wX D a σ) Wr) k n) : gw_W E pc lv (.ref (a 0) :: st) (gw_st (wX D a σ) Wr) k n := by
  intro ws hw
  obtain ⟨w2, h2, rfl⟩ := hw
  exact gw_getN X pc' in_X0 gX_cl0 (gX_at0w w2) 1 (by decide) hlk rfl rfl d hp (kk _ ⟨w2, h2, rfl⟩)
theorem gX_g0_2 (X : gw_X E cc nL own ret l D R post) (pc' : Nat) {idx : Nat}  (hlk : Cond.fieldLink own idx "CardHolder" "taped" "I" ∈ lw_all) (d : decode cc pc = .ok (.getfield idx, 3)) (hp : pc + 3 = pc') (kk : gw_W E pc' lv (.int (σ.1 0 2) :: st) (gw_st (wX D a σ) Wr) k n) : gw_W E pc lv (.ref (a 0) :: st) (gw_st (wX D a σ) Wr) k n := by
  intro ws hw
  obtain ⟨w2, h2, rfl⟩ := hw
  exact gw_get X pc' in_X0 gX_cl0 (gX_at0w w2) 2 (by decide) hlk rfl rfl d hp (kk _ ⟨w2, h2, rfl⟩)
theorem gX_p0_2 (X : gw_X E cc nL own ret l D R post) (pc' : Nat) {idx : Nat}  {v : Int32} (hlk : Cond.fieldLink own idx "CardHolder" "taped" "I" ∈ lw_all) (d : decode cc pc = .ok (.putfield idx, 3)) (hp : pc + 3 = pc') (kk : gw_W E pc' lv st (gw_st (wX D a (gw_u σ 0 2 v)) Wr) k n) : gw_W E pc lv (.int v :: .ref (a 0) :: st) (gw_st (wX D a σ) Wr) k n := by
  intro ws hw
  obtain ⟨w2, h2, rfl⟩ := hw
  exact gw_put (ws' := wX D a (gw_u σ 0 2 v) ++ w2) X pc' tyX0 tyX0_ok nmX0 in_X0 gX_cl0 (gX_at0w w2) 2 (by decide) hlk rfl rfl (ty := .int) (tyX0_ok 2 (by decide)) rfl rfl (by show 2 < 23; decide) rfl d hp (kk _ ⟨w2, h2, rfl⟩)
theorem gX_g0_2N (X : gw_X E cc nL own ret l D R post) (pc' : Nat) {idx : Nat} {host : String} (hlk : Cond.fieldLinkNest own idx "CardHolder" "taped" "I" host ∈ lw_tbl) (d : decode cc pc = .ok (.getfield idx, 3)) (hp : pc + 3 = pc') (kk : gw_W E pc' lv (.int (σ.1 0 2) :: st) (gw_st (wX D a σ) Wr) k n) : gw_W E pc lv (.ref (a 0) :: st) (gw_st (wX D a σ) Wr) k n := by
  intro ws hw
  obtain ⟨w2, h2, rfl⟩ := hw
  exact gw_getN X pc' in_X0 gX_cl0 (gX_at0w w2) 2 (by decide) hlk rfl rfl d hp (kk _ ⟨w2, h2, rfl⟩)
theorem gX_p0_2N (X : gw_X E cc nL own ret l D R post) (pc' : Nat) {idx : Nat} {host : String} {v : Int32} (hlk : Cond.fieldLinkNest own idx "CardHolder" "taped" "I" host ∈ lw_tbl) (d : decode cc pc = .ok (.putfield idx, 3)) (hp : pc + 3 = pc') (kk : gw_W E pc' lv st (gw_st (wX D a (gw_u σ 0 2 v)) Wr) k n) : gw_W E pc lv (.int v :: .ref (a 0) :: st) (gw_st (wX D a σ) Wr) k n := by
  intro ws hw
  obtain ⟨w2, h2, rfl⟩ := hw
  exact gw_putN (ws' := wX D a (gw_u σ 0 2 v) ++ w2) X pc' tyX0 tyX0_ok nmX0 in_X0 gX_cl0 (gX_at0w w2) 2 (by decide) hlk rfl rfl (ty := .int) (tyX0_ok 2 (by decide)) rfl rfl (by show 2 < 23; decide) rfl d hp (kk _ ⟨w2, h2, rfl⟩)
theorem gX_g0_3 (X : gw_X E cc nL own ret l D R post) (pc' : Nat) {idx : Nat}  (hlk : Cond.fieldLink own idx "CardHolder" "faultKind" "I" ∈ lw_all) (d : decode cc pc = .ok (.getfield idx, 3)) (hp : pc + 3 = pc') (kk : gw_W E pc' lv (.int (σ.1 0 3) :: st) (gw_st (wX D a σ) Wr) k n) : gw_W E pc lv (.ref (a 0) :: st) (gw_st (wX D a σ) Wr) k n := by
  intro ws hw
  obtain ⟨w2, h2, rfl⟩ := hw
  exact gw_get X pc' in_X0 gX_cl0 (gX_at0w w2) 3 (by decide) hlk rfl rfl d hp (kk _ ⟨w2, h2, rfl⟩)
theorem gX_p0_3 (X : gw_X E cc nL own ret l D R post) (pc' : Nat) {idx : Nat}  {v : Int32} (hlk : Cond.fieldLink own idx "CardHolder" "faultKind" "I" ∈ lw_all) (d : decode cc pc = .ok (.putfield idx, 3)) (hp : pc + 3 = pc') (kk : gw_W E pc' lv st (gw_st (wX D a (gw_u σ 0 3 v)) Wr) k n) : gw_W E pc lv (.int v :: .ref (a 0) :: st) (gw_st (wX D a σ) Wr) k n := by
  intro ws hw
  obtain ⟨w2, h2, rfl⟩ := hw
  exact gw_put (ws' := wX D a (gw_u σ 0 3 v) ++ w2) X pc' tyX0 tyX0_ok nmX0 in_X0 gX_cl0 (gX_at0w w2) 3 (by decide) hlk rfl rfl (ty := .int) (tyX0_ok 3 (by decide)) rfl rfl (by show 3 < 23; decide) rfl d hp (kk _ ⟨w2, h2, rfl⟩)
theorem gX_g0_3N (X : gw_X E cc nL own ret l D R post) (pc' : Nat) {idx : Nat} {host : String} (hlk : Cond.fieldLinkNest own idx "CardHolder" "faultKind" "I" host ∈ lw_tbl) (d : decode cc pc = .ok (.getfield idx, 3)) (hp : pc + 3 = pc') (kk : gw_W E pc' lv (.int (σ.1 0 3) :: st) (gw_st (wX D a σ) Wr) k n) : gw_W E pc lv (.ref (a 0) :: st) (gw_st (wX D a σ) Wr) k n := by
  intro ws hw
  obtain ⟨w2, h2, rfl⟩ := hw
  exact gw_getN X pc' in_X0 gX_cl0 (gX_at0w w2) 3 (by decide) hlk rfl rfl d hp (kk _ ⟨w2, h2, rfl⟩)
theorem gX_p0_3N (X : gw_X E cc nL own ret l D R post) (pc' : Nat) {idx : Nat} {host : String} {v : Int32} (hlk : Cond.fieldLinkNest own idx "CardHolder" "faultKind" "I" host ∈ lw_tbl) (d : decode cc pc = .ok (.putfield idx, 3)) (hp : pc + 3 = pc') (kk : gw_W E pc' lv st (gw_st (wX D a (gw_u σ 0 3 v)) Wr) k n) : gw_W E pc lv (.int v :: .ref (a 0) :: st) (gw_st (wX D a σ) Wr) k n := by
  intro ws hw
  obtain ⟨w2, h2, rfl⟩ := hw
  exact gw_putN (ws' := wX D a (gw_u σ 0 3 v) ++ w2) X pc' tyX0 tyX0_ok nmX0 in_X0 gX_cl0 (gX_at0w w2) 3 (by decide) hlk rfl rfl (ty := .int) (tyX0_ok 3 (by decide)) rfl rfl (by show 3 < 23; decide) rfl d hp (kk _ ⟨w2, h2, rfl⟩)
theorem gX_g0_4 (X : gw_X E cc nL own ret l D R post) (pc' : Nat) {idx : Nat}  (hlk : Cond.fieldLink own idx "CardHolder" "faultPlace" "I" ∈ lw_all) (d : decode cc pc = .ok (.getfield idx, 3)) (hp : pc + 3 = pc') (kk : gw_W E pc' lv (.int (σ.1 0 4) :: st) (gw_st (wX D a σ) Wr) k n) : gw_W E pc lv (.ref (a 0) :: st) (gw_st (wX D a σ) Wr) k n := by
  intro ws hw
  obtain ⟨w2, h2, rfl⟩ := hw
  exact gw_get X pc' in_X0 gX_cl0 (gX_at0w w2) 4 (by decide) hlk rfl rfl d hp (kk _ ⟨w2, h2, rfl⟩)
theorem gX_p0_4 (X : gw_X E cc nL own ret l D R post) (pc' : Nat) {idx : Nat}  {v : Int32} (hlk : Cond.fieldLink own idx "CardHolder" "faultPlace" "I" ∈ lw_all) (d : decode cc pc = .ok (.putfield idx, 3)) (hp : pc + 3 = pc') (kk : gw_W E pc' lv st (gw_st (wX D a (gw_u σ 0 4 v)) Wr) k n) : gw_W E pc lv (.int v :: .ref (a 0) :: st) (gw_st (wX D a σ) Wr) k n := by
  intro ws hw
  obtain ⟨w2, h2, rfl⟩ := hw
  exact gw_put (ws' := wX D a (gw_u σ 0 4 v) ++ w2) X pc' tyX0 tyX0_ok nmX0 in_X0 gX_cl0 (gX_at0w w2) 4 (by decide) hlk rfl rfl (ty := .int) (tyX0_ok 4 (by decide)) rfl rfl (by show 4 < 23; decide) rfl d hp (kk _ ⟨w2, h2, rfl⟩)
theorem gX_g0_4N (X : gw_X E cc nL own ret l D R post) (pc' : Nat) {idx : Nat} {host : String} (hlk : Cond.fieldLinkNest own idx "CardHolder" "faultPlace" "I" host ∈ lw_tbl) (d : decode cc pc = .ok (.getfield idx, 3)) (hp : pc + 3 = pc') (kk : gw_W E pc' lv (.int (σ.1 0 4) :: st) (gw_st (wX D a σ) Wr) k n) : gw_W E pc lv (.ref (a 0) :: st) (gw_st (wX D a σ) Wr) k n := by
  intro ws hw
  obtain ⟨w2, h2, rfl⟩ := hw
  exact gw_getN X pc' in_X0 gX_cl0 (gX_at0w w2) 4 (by decide) hlk rfl rfl d hp (kk _ ⟨w2, h2, rfl⟩)
theorem gX_p0_4N (X : gw_X E cc nL own ret l D R post) (pc' : Nat) {idx : Nat} {host : String} {v : Int32} (hlk : Cond.fieldLinkNest own idx "CardHolder" "faultPlace" "I" host ∈ lw_tbl) (d : decode cc pc = .ok (.putfield idx, 3)) (hp : pc + 3 = pc') (kk : gw_W E pc' lv st (gw_st (wX D a (gw_u σ 0 4 v)) Wr) k n) : gw_W E pc lv (.int v :: .ref (a 0) :: st) (gw_st (wX D a σ) Wr) k n := by
  intro ws hw
  obtain ⟨w2, h2, rfl⟩ := hw
  exact gw_putN (ws' := wX D a (gw_u σ 0 4 v) ++ w2) X pc' tyX0 tyX0_ok nmX0 in_X0 gX_cl0 (gX_at0w w2) 4 (by decide) hlk rfl rfl (ty := .int) (tyX0_ok 4 (by decide)) rfl rfl (by show 4 < 23; decide) rfl d hp (kk _ ⟨w2, h2, rfl⟩)
theorem gX_g0_5 (X : gw_X E cc nL own ret l D R post) (pc' : Nat) {idx : Nat}  (hlk : Cond.fieldLink own idx "CardHolder" "day" "I" ∈ lw_all) (d : decode cc pc = .ok (.getfield idx, 3)) (hp : pc + 3 = pc') (kk : gw_W E pc' lv (.int (σ.1 0 5) :: st) (gw_st (wX D a σ) Wr) k n) : gw_W E pc lv (.ref (a 0) :: st) (gw_st (wX D a σ) Wr) k n := by
  intro ws hw
  obtain ⟨w2, h2, rfl⟩ := hw
  exact gw_get X pc' in_X0 gX_cl0 (gX_at0w w2) 5 (by decide) hlk rfl rfl d hp (kk _ ⟨w2, h2, rfl⟩)
theorem gX_p0_5 (X : gw_X E cc nL own ret l D R post) (pc' : Nat) {idx : Nat}  {v : Int32} (hlk : Cond.fieldLink own idx "CardHolder" "day" "I" ∈ lw_all) (d : decode cc pc = .ok (.putfield idx, 3)) (hp : pc + 3 = pc') (kk : gw_W E pc' lv st (gw_st (wX D a (gw_u σ 0 5 v)) Wr) k n) : gw_W E pc lv (.int v :: .ref (a 0) :: st) (gw_st (wX D a σ) Wr) k n := by
  intro ws hw
  obtain ⟨w2, h2, rfl⟩ := hw
  exact gw_put (ws' := wX D a (gw_u σ 0 5 v) ++ w2) X pc' tyX0 tyX0_ok nmX0 in_X0 gX_cl0 (gX_at0w w2) 5 (by decide) hlk rfl rfl (ty := .int) (tyX0_ok 5 (by decide)) rfl rfl (by show 5 < 23; decide) rfl d hp (kk _ ⟨w2, h2, rfl⟩)
theorem gX_g0_5N (X : gw_X E cc nL own ret l D R post) (pc' : Nat) {idx : Nat} {host : String} (hlk : Cond.fieldLinkNest own idx "CardHolder" "day" "I" host ∈ lw_tbl) (d : decode cc pc = .ok (.getfield idx, 3)) (hp : pc + 3 = pc') (kk : gw_W E pc' lv (.int (σ.1 0 5) :: st) (gw_st (wX D a σ) Wr) k n) : gw_W E pc lv (.ref (a 0) :: st) (gw_st (wX D a σ) Wr) k n := by
  intro ws hw
  obtain ⟨w2, h2, rfl⟩ := hw
  exact gw_getN X pc' in_X0 gX_cl0 (gX_at0w w2) 5 (by decide) hlk rfl rfl d hp (kk _ ⟨w2, h2, rfl⟩)
theorem gX_p0_5N (X : gw_X E cc nL own ret l D R post) (pc' : Nat) {idx : Nat} {host : String} {v : Int32} (hlk : Cond.fieldLinkNest own idx "CardHolder" "day" "I" host ∈ lw_tbl) (d : decode cc pc = .ok (.putfield idx, 3)) (hp : pc + 3 = pc') (kk : gw_W E pc' lv st (gw_st (wX D a (gw_u σ 0 5 v)) Wr) k n) : gw_W E pc lv (.int v :: .ref (a 0) :: st) (gw_st (wX D a σ) Wr) k n := by
  intro ws hw
  obtain ⟨w2, h2, rfl⟩ := hw
  exact gw_putN (ws' := wX D a (gw_u σ 0 5 v) ++ w2) X pc' tyX0 tyX0_ok nmX0 in_X0 gX_cl0 (gX_at0w w2) 5 (by decide) hlk rfl rfl (ty := .int) (tyX0_ok 5 (by decide)) rfl rfl (by show 5 < 23; decide) rfl d hp (kk _ ⟨w2, h2, rfl⟩)
theorem gX_g0_6 (X : gw_X E cc nL own ret l D R post) (pc' : Nat) {idx : Nat}  (hlk : Cond.fieldLink own idx "CardHolder" "askedToday" "I" ∈ lw_all) (d : decode cc pc = .ok (.getfield idx, 3)) (hp : pc + 3 = pc') (kk : gw_W E pc' lv (.int (σ.1 0 6) :: st) (gw_st (wX D a σ) Wr) k n) : gw_W E pc lv (.ref (a 0) :: st) (gw_st (wX D a σ) Wr) k n := by
  intro ws hw
  obtain ⟨w2, h2, rfl⟩ := hw
  exact gw_get X pc' in_X0 gX_cl0 (gX_at0w w2) 6 (by decide) hlk rfl rfl d hp (kk _ ⟨w2, h2, rfl⟩)
theorem gX_p0_6 (X : gw_X E cc nL own ret l D R post) (pc' : Nat) {idx : Nat}  {v : Int32} (hlk : Cond.fieldLink own idx "CardHolder" "askedToday" "I" ∈ lw_all) (d : decode cc pc = .ok (.putfield idx, 3)) (hp : pc + 3 = pc') (kk : gw_W E pc' lv st (gw_st (wX D a (gw_u σ 0 6 v)) Wr) k n) : gw_W E pc lv (.int v :: .ref (a 0) :: st) (gw_st (wX D a σ) Wr) k n := by
  intro ws hw
  obtain ⟨w2, h2, rfl⟩ := hw
  exact gw_put (ws' := wX D a (gw_u σ 0 6 v) ++ w2) X pc' tyX0 tyX0_ok nmX0 in_X0 gX_cl0 (gX_at0w w2) 6 (by decide) hlk rfl rfl (ty := .int) (tyX0_ok 6 (by decide)) rfl rfl (by show 6 < 23; decide) rfl d hp (kk _ ⟨w2, h2, rfl⟩)
theorem gX_g0_6N (X : gw_X E cc nL own ret l D R post) (pc' : Nat) {idx : Nat} {host : String} (hlk : Cond.fieldLinkNest own idx "CardHolder" "askedToday" "I" host ∈ lw_tbl) (d : decode cc pc = .ok (.getfield idx, 3)) (hp : pc + 3 = pc') (kk : gw_W E pc' lv (.int (σ.1 0 6) :: st) (gw_st (wX D a σ) Wr) k n) : gw_W E pc lv (.ref (a 0) :: st) (gw_st (wX D a σ) Wr) k n := by
  intro ws hw
  obtain ⟨w2, h2, rfl⟩ := hw
  exact gw_getN X pc' in_X0 gX_cl0 (gX_at0w w2) 6 (by decide) hlk rfl rfl d hp (kk _ ⟨w2, h2, rfl⟩)
theorem gX_p0_6N (X : gw_X E cc nL own ret l D R post) (pc' : Nat) {idx : Nat} {host : String} {v : Int32} (hlk : Cond.fieldLinkNest own idx "CardHolder" "askedToday" "I" host ∈ lw_tbl) (d : decode cc pc = .ok (.putfield idx, 3)) (hp : pc + 3 = pc') (kk : gw_W E pc' lv st (gw_st (wX D a (gw_u σ 0 6 v)) Wr) k n) : gw_W E pc lv (.int v :: .ref (a 0) :: st) (gw_st (wX D a σ) Wr) k n := by
  intro ws hw
  obtain ⟨w2, h2, rfl⟩ := hw
  exact gw_putN (ws' := wX D a (gw_u σ 0 6 v) ++ w2) X pc' tyX0 tyX0_ok nmX0 in_X0 gX_cl0 (gX_at0w w2) 6 (by decide) hlk rfl rfl (ty := .int) (tyX0_ok 6 (by decide)) rfl rfl (by show 6 < 23; decide) rfl d hp (kk _ ⟨w2, h2, rfl⟩)
theorem gX_g0_7 (X : gw_X E cc nL own ret l D R post) (pc' : Nat) {idx : Nat}  (hlk : Cond.fieldLink own idx "CardHolder" "stolen" "I" ∈ lw_all) (d : decode cc pc = .ok (.getfield idx, 3)) (hp : pc + 3 = pc') (kk : gw_W E pc' lv (.int (σ.1 0 7) :: st) (gw_st (wX D a σ) Wr) k n) : gw_W E pc lv (.ref (a 0) :: st) (gw_st (wX D a σ) Wr) k n := by
  intro ws hw
  obtain ⟨w2, h2, rfl⟩ := hw
  exact gw_get X pc' in_X0 gX_cl0 (gX_at0w w2) 7 (by decide) hlk rfl rfl d hp (kk _ ⟨w2, h2, rfl⟩)
theorem gX_p0_7 (X : gw_X E cc nL own ret l D R post) (pc' : Nat) {idx : Nat}  {v : Int32} (hlk : Cond.fieldLink own idx "CardHolder" "stolen" "I" ∈ lw_all) (d : decode cc pc = .ok (.putfield idx, 3)) (hp : pc + 3 = pc') (kk : gw_W E pc' lv st (gw_st (wX D a (gw_u σ 0 7 v)) Wr) k n) : gw_W E pc lv (.int v :: .ref (a 0) :: st) (gw_st (wX D a σ) Wr) k n := by
  intro ws hw
  obtain ⟨w2, h2, rfl⟩ := hw
  exact gw_put (ws' := wX D a (gw_u σ 0 7 v) ++ w2) X pc' tyX0 tyX0_ok nmX0 in_X0 gX_cl0 (gX_at0w w2) 7 (by decide) hlk rfl rfl (ty := .int) (tyX0_ok 7 (by decide)) rfl rfl (by show 7 < 23; decide) rfl d hp (kk _ ⟨w2, h2, rfl⟩)
theorem gX_g0_7N (X : gw_X E cc nL own ret l D R post) (pc' : Nat) {idx : Nat} {host : String} (hlk : Cond.fieldLinkNest own idx "CardHolder" "stolen" "I" host ∈ lw_tbl) (d : decode cc pc = .ok (.getfield idx, 3)) (hp : pc + 3 = pc') (kk : gw_W E pc' lv (.int (σ.1 0 7) :: st) (gw_st (wX D a σ) Wr) k n) : gw_W E pc lv (.ref (a 0) :: st) (gw_st (wX D a σ) Wr) k n := by
  intro ws hw
  obtain ⟨w2, h2, rfl⟩ := hw
  exact gw_getN X pc' in_X0 gX_cl0 (gX_at0w w2) 7 (by decide) hlk rfl rfl d hp (kk _ ⟨w2, h2, rfl⟩)
theorem gX_p0_7N (X : gw_X E cc nL own ret l D R post) (pc' : Nat) {idx : Nat} {host : String} {v : Int32} (hlk : Cond.fieldLinkNest own idx "CardHolder" "stolen" "I" host ∈ lw_tbl) (d : decode cc pc = .ok (.putfield idx, 3)) (hp : pc + 3 = pc') (kk : gw_W E pc' lv st (gw_st (wX D a (gw_u σ 0 7 v)) Wr) k n) : gw_W E pc lv (.int v :: .ref (a 0) :: st) (gw_st (wX D a σ) Wr) k n := by
  intro ws hw
  obtain ⟨w2, h2, rfl⟩ := hw
  exact gw_putN (ws' := wX D a (gw_u σ 0 7 v) ++ w2) X pc' tyX0 tyX0_ok nmX0 in_X0 gX_cl0 (gX_at0w w2) 7 (by decide) hlk rfl rfl (ty := .int) (tyX0_ok 7 (by decide)) rfl rfl (by show 7 < 23; decide) rfl d hp (kk _ ⟨w2, h2, rfl⟩)
theorem gX_g0_8 (X : gw_X E cc nL own ret l D R post) (pc' : Nat) {idx : Nat}  (hlk : Cond.fieldLink own idx "CardHolder" "deedsDone" "I" ∈ lw_all) (d : decode cc pc = .ok (.getfield idx, 3)) (hp : pc + 3 = pc') (kk : gw_W E pc' lv (.int (σ.1 0 8) :: st) (gw_st (wX D a σ) Wr) k n) : gw_W E pc lv (.ref (a 0) :: st) (gw_st (wX D a σ) Wr) k n := by
  intro ws hw
  obtain ⟨w2, h2, rfl⟩ := hw
  exact gw_get X pc' in_X0 gX_cl0 (gX_at0w w2) 8 (by decide) hlk rfl rfl d hp (kk _ ⟨w2, h2, rfl⟩)
theorem gX_p0_8 (X : gw_X E cc nL own ret l D R post) (pc' : Nat) {idx : Nat}  {v : Int32} (hlk : Cond.fieldLink own idx "CardHolder" "deedsDone" "I" ∈ lw_all) (d : decode cc pc = .ok (.putfield idx, 3)) (hp : pc + 3 = pc') (kk : gw_W E pc' lv st (gw_st (wX D a (gw_u σ 0 8 v)) Wr) k n) : gw_W E pc lv (.int v :: .ref (a 0) :: st) (gw_st (wX D a σ) Wr) k n := by
  intro ws hw
  obtain ⟨w2, h2, rfl⟩ := hw
  exact gw_put (ws' := wX D a (gw_u σ 0 8 v) ++ w2) X pc' tyX0 tyX0_ok nmX0 in_X0 gX_cl0 (gX_at0w w2) 8 (by decide) hlk rfl rfl (ty := .int) (tyX0_ok 8 (by decide)) rfl rfl (by show 8 < 23; decide) rfl d hp (kk _ ⟨w2, h2, rfl⟩)
theorem gX_g0_8N (X : gw_X E cc nL own ret l D R post) (pc' : Nat) {idx : Nat} {host : String} (hlk : Cond.fieldLinkNest own idx "CardHolder" "deedsDone" "I" host ∈ lw_tbl) (d : decode cc pc = .ok (.getfield idx, 3)) (hp : pc + 3 = pc') (kk : gw_W E pc' lv (.int (σ.1 0 8) :: st) (gw_st (wX D a σ) Wr) k n) : gw_W E pc lv (.ref (a 0) :: st) (gw_st (wX D a σ) Wr) k n := by
  intro ws hw
  obtain ⟨w2, h2, rfl⟩ := hw
  exact gw_getN X pc' in_X0 gX_cl0 (gX_at0w w2) 8 (by decide) hlk rfl rfl d hp (kk _ ⟨w2, h2, rfl⟩)
theorem gX_p0_8N (X : gw_X E cc nL own ret l D R post) (pc' : Nat) {idx : Nat} {host : String} {v : Int32} (hlk : Cond.fieldLinkNest own idx "CardHolder" "deedsDone" "I" host ∈ lw_tbl) (d : decode cc pc = .ok (.putfield idx, 3)) (hp : pc + 3 = pc') (kk : gw_W E pc' lv st (gw_st (wX D a (gw_u σ 0 8 v)) Wr) k n) : gw_W E pc lv (.int v :: .ref (a 0) :: st) (gw_st (wX D a σ) Wr) k n := by
  intro ws hw
  obtain ⟨w2, h2, rfl⟩ := hw
  exact gw_putN (ws' := wX D a (gw_u σ 0 8 v) ++ w2) X pc' tyX0 tyX0_ok nmX0 in_X0 gX_cl0 (gX_at0w w2) 8 (by decide) hlk rfl rfl (ty := .int) (tyX0_ok 8 (by decide)) rfl rfl (by show 8 < 23; decide) rfl d hp (kk _ ⟨w2, h2, rfl⟩)
theorem gX_g0_9 (X : gw_X E cc nL own ret l D R post) (pc' : Nat) {idx : Nat}  (hlk : Cond.fieldLink own idx "CardHolder" "holder" "[I" ∈ lw_all) (d : decode cc pc = .ok (.getfield idx, 3)) (hp : pc + 3 = pc') (kk : gw_W E pc' lv (.ref (a 3) :: st) (gw_st (wX D a σ) Wr) k n) : gw_W E pc lv (.ref (a 0) :: st) (gw_st (wX D a σ) Wr) k n := by
  intro ws hw
  obtain ⟨w2, h2, rfl⟩ := hw
  exact gw_get X pc' in_X0 gX_cl0 (gX_at0w w2) 9 (by decide) hlk rfl rfl d hp (kk _ ⟨w2, h2, rfl⟩)
theorem gX_g0_9N (X : gw_X E cc nL own ret l D R post) (pc' : Nat) {idx : Nat} {host : String} (hlk : Cond.fieldLinkNest own idx "CardHolder" "holder" "[I" host ∈ lw_tbl) (d : decode cc pc = .ok (.getfield idx, 3)) (hp : pc + 3 = pc') (kk : gw_W E pc' lv (.ref (a 3) :: st) (gw_st (wX D a σ) Wr) k n) : gw_W E pc lv (.ref (a 0) :: st) (gw_st (wX D a σ) Wr) k n := by
  intro ws hw
  obtain ⟨w2, h2, rfl⟩ := hw
  exact gw_getN X pc' in_X0 gX_cl0 (gX_at0w w2) 9 (by decide) hlk rfl rfl d hp (kk _ ⟨w2, h2, rfl⟩)
theorem gX_g0_10 (X : gw_X E cc nL own ret l D R post) (pc' : Nat) {idx : Nat}  (hlk : Cond.fieldLink own idx "CardHolder" "worn" "[I" ∈ lw_all) (d : decode cc pc = .ok (.getfield idx, 3)) (hp : pc + 3 = pc') (kk : gw_W E pc' lv (.ref (a 4) :: st) (gw_st (wX D a σ) Wr) k n) : gw_W E pc lv (.ref (a 0) :: st) (gw_st (wX D a σ) Wr) k n := by
  intro ws hw
  obtain ⟨w2, h2, rfl⟩ := hw
  exact gw_get X pc' in_X0 gX_cl0 (gX_at0w w2) 10 (by decide) hlk rfl rfl d hp (kk _ ⟨w2, h2, rfl⟩)
theorem gX_g0_10N (X : gw_X E cc nL own ret l D R post) (pc' : Nat) {idx : Nat} {host : String} (hlk : Cond.fieldLinkNest own idx "CardHolder" "worn" "[I" host ∈ lw_tbl) (d : decode cc pc = .ok (.getfield idx, 3)) (hp : pc + 3 = pc') (kk : gw_W E pc' lv (.ref (a 4) :: st) (gw_st (wX D a σ) Wr) k n) : gw_W E pc lv (.ref (a 0) :: st) (gw_st (wX D a σ) Wr) k n := by
  intro ws hw
  obtain ⟨w2, h2, rfl⟩ := hw
  exact gw_getN X pc' in_X0 gX_cl0 (gX_at0w w2) 10 (by decide) hlk rfl rfl d hp (kk _ ⟨w2, h2, rfl⟩)
theorem gX_g0_11 (X : gw_X E cc nL own ret l D R post) (pc' : Nat) {idx : Nat}  (hlk : Cond.fieldLink own idx "CardHolder" "had" "[I" ∈ lw_all) (d : decode cc pc = .ok (.getfield idx, 3)) (hp : pc + 3 = pc') (kk : gw_W E pc' lv (.ref (a 5) :: st) (gw_st (wX D a σ) Wr) k n) : gw_W E pc lv (.ref (a 0) :: st) (gw_st (wX D a σ) Wr) k n := by
  intro ws hw
  obtain ⟨w2, h2, rfl⟩ := hw
  exact gw_get X pc' in_X0 gX_cl0 (gX_at0w w2) 11 (by decide) hlk rfl rfl d hp (kk _ ⟨w2, h2, rfl⟩)
theorem gX_g0_11N (X : gw_X E cc nL own ret l D R post) (pc' : Nat) {idx : Nat} {host : String} (hlk : Cond.fieldLinkNest own idx "CardHolder" "had" "[I" host ∈ lw_tbl) (d : decode cc pc = .ok (.getfield idx, 3)) (hp : pc + 3 = pc') (kk : gw_W E pc' lv (.ref (a 5) :: st) (gw_st (wX D a σ) Wr) k n) : gw_W E pc lv (.ref (a 0) :: st) (gw_st (wX D a σ) Wr) k n := by
  intro ws hw
  obtain ⟨w2, h2, rfl⟩ := hw
  exact gw_getN X pc' in_X0 gX_cl0 (gX_at0w w2) 11 (by decide) hlk rfl rfl d hp (kk _ ⟨w2, h2, rfl⟩)
theorem gX_g0_12 (X : gw_X E cc nL own ret l D R post) (pc' : Nat) {idx : Nat}  (hlk : Cond.fieldLink own idx "CardHolder" "kinds" "Ljava/util/ArrayList;" ∈ lw_all) (d : decode cc pc = .ok (.getfield idx, 3)) (hp : pc + 3 = pc') (kk : gw_W E pc' lv (.ref (a 14) :: st) (gw_st (wX D a σ) Wr) k n) : gw_W E pc lv (.ref (a 0) :: st) (gw_st (wX D a σ) Wr) k n := by
  intro ws hw
  obtain ⟨w2, h2, rfl⟩ := hw
  exact gw_get X pc' in_X0 gX_cl0 (gX_at0w w2) 12 (by decide) hlk rfl rfl d hp (kk _ ⟨w2, h2, rfl⟩)
theorem gX_g0_12N (X : gw_X E cc nL own ret l D R post) (pc' : Nat) {idx : Nat} {host : String} (hlk : Cond.fieldLinkNest own idx "CardHolder" "kinds" "Ljava/util/ArrayList;" host ∈ lw_tbl) (d : decode cc pc = .ok (.getfield idx, 3)) (hp : pc + 3 = pc') (kk : gw_W E pc' lv (.ref (a 14) :: st) (gw_st (wX D a σ) Wr) k n) : gw_W E pc lv (.ref (a 0) :: st) (gw_st (wX D a σ) Wr) k n := by
  intro ws hw
  obtain ⟨w2, h2, rfl⟩ := hw
  exact gw_getN X pc' in_X0 gX_cl0 (gX_at0w w2) 12 (by decide) hlk rfl rfl d hp (kk _ ⟨w2, h2, rfl⟩)
theorem gX_g0_13 (X : gw_X E cc nL own ret l D R post) (pc' : Nat) {idx : Nat}  (hlk : Cond.fieldLink own idx "CardHolder" "wished" "[I" ∈ lw_all) (d : decode cc pc = .ok (.getfield idx, 3)) (hp : pc + 3 = pc') (kk : gw_W E pc' lv (.ref (a 6) :: st) (gw_st (wX D a σ) Wr) k n) : gw_W E pc lv (.ref (a 0) :: st) (gw_st (wX D a σ) Wr) k n := by
  intro ws hw
  obtain ⟨w2, h2, rfl⟩ := hw
  exact gw_get X pc' in_X0 gX_cl0 (gX_at0w w2) 13 (by decide) hlk rfl rfl d hp (kk _ ⟨w2, h2, rfl⟩)
theorem gX_g0_13N (X : gw_X E cc nL own ret l D R post) (pc' : Nat) {idx : Nat} {host : String} (hlk : Cond.fieldLinkNest own idx "CardHolder" "wished" "[I" host ∈ lw_tbl) (d : decode cc pc = .ok (.getfield idx, 3)) (hp : pc + 3 = pc') (kk : gw_W E pc' lv (.ref (a 6) :: st) (gw_st (wX D a σ) Wr) k n) : gw_W E pc lv (.ref (a 0) :: st) (gw_st (wX D a σ) Wr) k n := by
  intro ws hw
  obtain ⟨w2, h2, rfl⟩ := hw
  exact gw_getN X pc' in_X0 gX_cl0 (gX_at0w w2) 13 (by decide) hlk rfl rfl d hp (kk _ ⟨w2, h2, rfl⟩)
theorem gX_g0_14 (X : gw_X E cc nL own ret l D R post) (pc' : Nat) {idx : Nat}  (hlk : Cond.fieldLink own idx "CardHolder" "doing" "[I" ∈ lw_all) (d : decode cc pc = .ok (.getfield idx, 3)) (hp : pc + 3 = pc') (kk : gw_W E pc' lv (.ref (a 7) :: st) (gw_st (wX D a σ) Wr) k n) : gw_W E pc lv (.ref (a 0) :: st) (gw_st (wX D a σ) Wr) k n := by
  intro ws hw
  obtain ⟨w2, h2, rfl⟩ := hw
  exact gw_get X pc' in_X0 gX_cl0 (gX_at0w w2) 14 (by decide) hlk rfl rfl d hp (kk _ ⟨w2, h2, rfl⟩)
theorem gX_g0_14N (X : gw_X E cc nL own ret l D R post) (pc' : Nat) {idx : Nat} {host : String} (hlk : Cond.fieldLinkNest own idx "CardHolder" "doing" "[I" host ∈ lw_tbl) (d : decode cc pc = .ok (.getfield idx, 3)) (hp : pc + 3 = pc') (kk : gw_W E pc' lv (.ref (a 7) :: st) (gw_st (wX D a σ) Wr) k n) : gw_W E pc lv (.ref (a 0) :: st) (gw_st (wX D a σ) Wr) k n := by
  intro ws hw
  obtain ⟨w2, h2, rfl⟩ := hw
  exact gw_getN X pc' in_X0 gX_cl0 (gX_at0w w2) 14 (by decide) hlk rfl rfl d hp (kk _ ⟨w2, h2, rfl⟩)
theorem gX_g0_15 (X : gw_X E cc nL own ret l D R post) (pc' : Nat) {idx : Nat}  (hlk : Cond.fieldLink own idx "CardHolder" "tried" "I" ∈ lw_all) (d : decode cc pc = .ok (.getfield idx, 3)) (hp : pc + 3 = pc') (kk : gw_W E pc' lv (.int (σ.1 0 15) :: st) (gw_st (wX D a σ) Wr) k n) : gw_W E pc lv (.ref (a 0) :: st) (gw_st (wX D a σ) Wr) k n := by
  intro ws hw
  obtain ⟨w2, h2, rfl⟩ := hw
  exact gw_get X pc' in_X0 gX_cl0 (gX_at0w w2) 15 (by decide) hlk rfl rfl d hp (kk _ ⟨w2, h2, rfl⟩)
theorem gX_p0_15 (X : gw_X E cc nL own ret l D R post) (pc' : Nat) {idx : Nat}  {v : Int32} (hlk : Cond.fieldLink own idx "CardHolder" "tried" "I" ∈ lw_all) (d : decode cc pc = .ok (.putfield idx, 3)) (hp : pc + 3 = pc') (kk : gw_W E pc' lv st (gw_st (wX D a (gw_u σ 0 15 v)) Wr) k n) : gw_W E pc lv (.int v :: .ref (a 0) :: st) (gw_st (wX D a σ) Wr) k n := by
  intro ws hw
  obtain ⟨w2, h2, rfl⟩ := hw
  exact gw_put (ws' := wX D a (gw_u σ 0 15 v) ++ w2) X pc' tyX0 tyX0_ok nmX0 in_X0 gX_cl0 (gX_at0w w2) 15 (by decide) hlk rfl rfl (ty := .int) (tyX0_ok 15 (by decide)) rfl rfl (by show 15 < 23; decide) rfl d hp (kk _ ⟨w2, h2, rfl⟩)
theorem gX_g0_15N (X : gw_X E cc nL own ret l D R post) (pc' : Nat) {idx : Nat} {host : String} (hlk : Cond.fieldLinkNest own idx "CardHolder" "tried" "I" host ∈ lw_tbl) (d : decode cc pc = .ok (.getfield idx, 3)) (hp : pc + 3 = pc') (kk : gw_W E pc' lv (.int (σ.1 0 15) :: st) (gw_st (wX D a σ) Wr) k n) : gw_W E pc lv (.ref (a 0) :: st) (gw_st (wX D a σ) Wr) k n := by
  intro ws hw
  obtain ⟨w2, h2, rfl⟩ := hw
  exact gw_getN X pc' in_X0 gX_cl0 (gX_at0w w2) 15 (by decide) hlk rfl rfl d hp (kk _ ⟨w2, h2, rfl⟩)
theorem gX_p0_15N (X : gw_X E cc nL own ret l D R post) (pc' : Nat) {idx : Nat} {host : String} {v : Int32} (hlk : Cond.fieldLinkNest own idx "CardHolder" "tried" "I" host ∈ lw_tbl) (d : decode cc pc = .ok (.putfield idx, 3)) (hp : pc + 3 = pc') (kk : gw_W E pc' lv st (gw_st (wX D a (gw_u σ 0 15 v)) Wr) k n) : gw_W E pc lv (.int v :: .ref (a 0) :: st) (gw_st (wX D a σ) Wr) k n := by
  intro ws hw
  obtain ⟨w2, h2, rfl⟩ := hw
  exact gw_putN (ws' := wX D a (gw_u σ 0 15 v) ++ w2) X pc' tyX0 tyX0_ok nmX0 in_X0 gX_cl0 (gX_at0w w2) 15 (by decide) hlk rfl rfl (ty := .int) (tyX0_ok 15 (by decide)) rfl rfl (by show 15 < 23; decide) rfl d hp (kk _ ⟨w2, h2, rfl⟩)
theorem gX_g0_16 (X : gw_X E cc nL own ret l D R post) (pc' : Nat) {idx : Nat}  (hlk : Cond.fieldLink own idx "CardHolder" "watchWorst" "I" ∈ lw_all) (d : decode cc pc = .ok (.getfield idx, 3)) (hp : pc + 3 = pc') (kk : gw_W E pc' lv (.int (σ.1 0 16) :: st) (gw_st (wX D a σ) Wr) k n) : gw_W E pc lv (.ref (a 0) :: st) (gw_st (wX D a σ) Wr) k n := by
  intro ws hw
  obtain ⟨w2, h2, rfl⟩ := hw
  exact gw_get X pc' in_X0 gX_cl0 (gX_at0w w2) 16 (by decide) hlk rfl rfl d hp (kk _ ⟨w2, h2, rfl⟩)
theorem gX_p0_16 (X : gw_X E cc nL own ret l D R post) (pc' : Nat) {idx : Nat}  {v : Int32} (hlk : Cond.fieldLink own idx "CardHolder" "watchWorst" "I" ∈ lw_all) (d : decode cc pc = .ok (.putfield idx, 3)) (hp : pc + 3 = pc') (kk : gw_W E pc' lv st (gw_st (wX D a (gw_u σ 0 16 v)) Wr) k n) : gw_W E pc lv (.int v :: .ref (a 0) :: st) (gw_st (wX D a σ) Wr) k n := by
  intro ws hw
  obtain ⟨w2, h2, rfl⟩ := hw
  exact gw_put (ws' := wX D a (gw_u σ 0 16 v) ++ w2) X pc' tyX0 tyX0_ok nmX0 in_X0 gX_cl0 (gX_at0w w2) 16 (by decide) hlk rfl rfl (ty := .int) (tyX0_ok 16 (by decide)) rfl rfl (by show 16 < 23; decide) rfl d hp (kk _ ⟨w2, h2, rfl⟩)
theorem gX_g0_16N (X : gw_X E cc nL own ret l D R post) (pc' : Nat) {idx : Nat} {host : String} (hlk : Cond.fieldLinkNest own idx "CardHolder" "watchWorst" "I" host ∈ lw_tbl) (d : decode cc pc = .ok (.getfield idx, 3)) (hp : pc + 3 = pc') (kk : gw_W E pc' lv (.int (σ.1 0 16) :: st) (gw_st (wX D a σ) Wr) k n) : gw_W E pc lv (.ref (a 0) :: st) (gw_st (wX D a σ) Wr) k n := by
  intro ws hw
  obtain ⟨w2, h2, rfl⟩ := hw
  exact gw_getN X pc' in_X0 gX_cl0 (gX_at0w w2) 16 (by decide) hlk rfl rfl d hp (kk _ ⟨w2, h2, rfl⟩)
theorem gX_p0_16N (X : gw_X E cc nL own ret l D R post) (pc' : Nat) {idx : Nat} {host : String} {v : Int32} (hlk : Cond.fieldLinkNest own idx "CardHolder" "watchWorst" "I" host ∈ lw_tbl) (d : decode cc pc = .ok (.putfield idx, 3)) (hp : pc + 3 = pc') (kk : gw_W E pc' lv st (gw_st (wX D a (gw_u σ 0 16 v)) Wr) k n) : gw_W E pc lv (.int v :: .ref (a 0) :: st) (gw_st (wX D a σ) Wr) k n := by
  intro ws hw
  obtain ⟨w2, h2, rfl⟩ := hw
  exact gw_putN (ws' := wX D a (gw_u σ 0 16 v) ++ w2) X pc' tyX0 tyX0_ok nmX0 in_X0 gX_cl0 (gX_at0w w2) 16 (by decide) hlk rfl rfl (ty := .int) (tyX0_ok 16 (by decide)) rfl rfl (by show 16 < 23; decide) rfl d hp (kk _ ⟨w2, h2, rfl⟩)
theorem gX_g0_17 (X : gw_X E cc nL own ret l D R post) (pc' : Nat) {idx : Nat}  (hlk : Cond.fieldLink own idx "CardHolder" "layMost" "I" ∈ lw_all) (d : decode cc pc = .ok (.getfield idx, 3)) (hp : pc + 3 = pc') (kk : gw_W E pc' lv (.int (σ.1 0 17) :: st) (gw_st (wX D a σ) Wr) k n) : gw_W E pc lv (.ref (a 0) :: st) (gw_st (wX D a σ) Wr) k n := by
  intro ws hw
  obtain ⟨w2, h2, rfl⟩ := hw
  exact gw_get X pc' in_X0 gX_cl0 (gX_at0w w2) 17 (by decide) hlk rfl rfl d hp (kk _ ⟨w2, h2, rfl⟩)
theorem gX_p0_17 (X : gw_X E cc nL own ret l D R post) (pc' : Nat) {idx : Nat}  {v : Int32} (hlk : Cond.fieldLink own idx "CardHolder" "layMost" "I" ∈ lw_all) (d : decode cc pc = .ok (.putfield idx, 3)) (hp : pc + 3 = pc') (kk : gw_W E pc' lv st (gw_st (wX D a (gw_u σ 0 17 v)) Wr) k n) : gw_W E pc lv (.int v :: .ref (a 0) :: st) (gw_st (wX D a σ) Wr) k n := by
  intro ws hw
  obtain ⟨w2, h2, rfl⟩ := hw
  exact gw_put (ws' := wX D a (gw_u σ 0 17 v) ++ w2) X pc' tyX0 tyX0_ok nmX0 in_X0 gX_cl0 (gX_at0w w2) 17 (by decide) hlk rfl rfl (ty := .int) (tyX0_ok 17 (by decide)) rfl rfl (by show 17 < 23; decide) rfl d hp (kk _ ⟨w2, h2, rfl⟩)
theorem gX_g0_17N (X : gw_X E cc nL own ret l D R post) (pc' : Nat) {idx : Nat} {host : String} (hlk : Cond.fieldLinkNest own idx "CardHolder" "layMost" "I" host ∈ lw_tbl) (d : decode cc pc = .ok (.getfield idx, 3)) (hp : pc + 3 = pc') (kk : gw_W E pc' lv (.int (σ.1 0 17) :: st) (gw_st (wX D a σ) Wr) k n) : gw_W E pc lv (.ref (a 0) :: st) (gw_st (wX D a σ) Wr) k n := by
  intro ws hw
  obtain ⟨w2, h2, rfl⟩ := hw
  exact gw_getN X pc' in_X0 gX_cl0 (gX_at0w w2) 17 (by decide) hlk rfl rfl d hp (kk _ ⟨w2, h2, rfl⟩)
theorem gX_p0_17N (X : gw_X E cc nL own ret l D R post) (pc' : Nat) {idx : Nat} {host : String} {v : Int32} (hlk : Cond.fieldLinkNest own idx "CardHolder" "layMost" "I" host ∈ lw_tbl) (d : decode cc pc = .ok (.putfield idx, 3)) (hp : pc + 3 = pc') (kk : gw_W E pc' lv st (gw_st (wX D a (gw_u σ 0 17 v)) Wr) k n) : gw_W E pc lv (.int v :: .ref (a 0) :: st) (gw_st (wX D a σ) Wr) k n := by
  intro ws hw
  obtain ⟨w2, h2, rfl⟩ := hw
  exact gw_putN (ws' := wX D a (gw_u σ 0 17 v) ++ w2) X pc' tyX0 tyX0_ok nmX0 in_X0 gX_cl0 (gX_at0w w2) 17 (by decide) hlk rfl rfl (ty := .int) (tyX0_ok 17 (by decide)) rfl rfl (by show 17 < 23; decide) rfl d hp (kk _ ⟨w2, h2, rfl⟩)
theorem gX_g0_18 (X : gw_X E cc nL own ret l D R post) (pc' : Nat) {idx : Nat}  (hlk : Cond.fieldLink own idx "CardHolder" "layCard" "I" ∈ lw_all) (d : decode cc pc = .ok (.getfield idx, 3)) (hp : pc + 3 = pc') (kk : gw_W E pc' lv (.int (σ.1 0 18) :: st) (gw_st (wX D a σ) Wr) k n) : gw_W E pc lv (.ref (a 0) :: st) (gw_st (wX D a σ) Wr) k n := by
  intro ws hw
  obtain ⟨w2, h2, rfl⟩ := hw
  exact gw_get X pc' in_X0 gX_cl0 (gX_at0w w2) 18 (by decide) hlk rfl rfl d hp (kk _ ⟨w2, h2, rfl⟩)
theorem gX_p0_18 (X : gw_X E cc nL own ret l D R post) (pc' : Nat) {idx : Nat}  {v : Int32} (hlk : Cond.fieldLink own idx "CardHolder" "layCard" "I" ∈ lw_all) (d : decode cc pc = .ok (.putfield idx, 3)) (hp : pc + 3 = pc') (kk : gw_W E pc' lv st (gw_st (wX D a (gw_u σ 0 18 v)) Wr) k n) : gw_W E pc lv (.int v :: .ref (a 0) :: st) (gw_st (wX D a σ) Wr) k n := by
  intro ws hw
  obtain ⟨w2, h2, rfl⟩ := hw
  exact gw_put (ws' := wX D a (gw_u σ 0 18 v) ++ w2) X pc' tyX0 tyX0_ok nmX0 in_X0 gX_cl0 (gX_at0w w2) 18 (by decide) hlk rfl rfl (ty := .int) (tyX0_ok 18 (by decide)) rfl rfl (by show 18 < 23; decide) rfl d hp (kk _ ⟨w2, h2, rfl⟩)
theorem gX_g0_18N (X : gw_X E cc nL own ret l D R post) (pc' : Nat) {idx : Nat} {host : String} (hlk : Cond.fieldLinkNest own idx "CardHolder" "layCard" "I" host ∈ lw_tbl) (d : decode cc pc = .ok (.getfield idx, 3)) (hp : pc + 3 = pc') (kk : gw_W E pc' lv (.int (σ.1 0 18) :: st) (gw_st (wX D a σ) Wr) k n) : gw_W E pc lv (.ref (a 0) :: st) (gw_st (wX D a σ) Wr) k n := by
  intro ws hw
  obtain ⟨w2, h2, rfl⟩ := hw
  exact gw_getN X pc' in_X0 gX_cl0 (gX_at0w w2) 18 (by decide) hlk rfl rfl d hp (kk _ ⟨w2, h2, rfl⟩)
theorem gX_p0_18N (X : gw_X E cc nL own ret l D R post) (pc' : Nat) {idx : Nat} {host : String} {v : Int32} (hlk : Cond.fieldLinkNest own idx "CardHolder" "layCard" "I" host ∈ lw_tbl) (d : decode cc pc = .ok (.putfield idx, 3)) (hp : pc + 3 = pc') (kk : gw_W E pc' lv st (gw_st (wX D a (gw_u σ 0 18 v)) Wr) k n) : gw_W E pc lv (.int v :: .ref (a 0) :: st) (gw_st (wX D a σ) Wr) k n := by
  intro ws hw
  obtain ⟨w2, h2, rfl⟩ := hw
  exact gw_putN (ws' := wX D a (gw_u σ 0 18 v) ++ w2) X pc' tyX0 tyX0_ok nmX0 in_X0 gX_cl0 (gX_at0w w2) 18 (by decide) hlk rfl rfl (ty := .int) (tyX0_ok 18 (by decide)) rfl rfl (by show 18 < 23; decide) rfl d hp (kk _ ⟨w2, h2, rfl⟩)
theorem gX_g0_19 (X : gw_X E cc nL own ret l D R post) (pc' : Nat) {idx : Nat}  (hlk : Cond.fieldLink own idx "CardHolder" "layReply" "I" ∈ lw_all) (d : decode cc pc = .ok (.getfield idx, 3)) (hp : pc + 3 = pc') (kk : gw_W E pc' lv (.int (σ.1 0 19) :: st) (gw_st (wX D a σ) Wr) k n) : gw_W E pc lv (.ref (a 0) :: st) (gw_st (wX D a σ) Wr) k n := by
  intro ws hw
  obtain ⟨w2, h2, rfl⟩ := hw
  exact gw_get X pc' in_X0 gX_cl0 (gX_at0w w2) 19 (by decide) hlk rfl rfl d hp (kk _ ⟨w2, h2, rfl⟩)
theorem gX_p0_19 (X : gw_X E cc nL own ret l D R post) (pc' : Nat) {idx : Nat}  {v : Int32} (hlk : Cond.fieldLink own idx "CardHolder" "layReply" "I" ∈ lw_all) (d : decode cc pc = .ok (.putfield idx, 3)) (hp : pc + 3 = pc') (kk : gw_W E pc' lv st (gw_st (wX D a (gw_u σ 0 19 v)) Wr) k n) : gw_W E pc lv (.int v :: .ref (a 0) :: st) (gw_st (wX D a σ) Wr) k n := by
  intro ws hw
  obtain ⟨w2, h2, rfl⟩ := hw
  exact gw_put (ws' := wX D a (gw_u σ 0 19 v) ++ w2) X pc' tyX0 tyX0_ok nmX0 in_X0 gX_cl0 (gX_at0w w2) 19 (by decide) hlk rfl rfl (ty := .int) (tyX0_ok 19 (by decide)) rfl rfl (by show 19 < 23; decide) rfl d hp (kk _ ⟨w2, h2, rfl⟩)
theorem gX_g0_19N (X : gw_X E cc nL own ret l D R post) (pc' : Nat) {idx : Nat} {host : String} (hlk : Cond.fieldLinkNest own idx "CardHolder" "layReply" "I" host ∈ lw_tbl) (d : decode cc pc = .ok (.getfield idx, 3)) (hp : pc + 3 = pc') (kk : gw_W E pc' lv (.int (σ.1 0 19) :: st) (gw_st (wX D a σ) Wr) k n) : gw_W E pc lv (.ref (a 0) :: st) (gw_st (wX D a σ) Wr) k n := by
  intro ws hw
  obtain ⟨w2, h2, rfl⟩ := hw
  exact gw_getN X pc' in_X0 gX_cl0 (gX_at0w w2) 19 (by decide) hlk rfl rfl d hp (kk _ ⟨w2, h2, rfl⟩)
theorem gX_p0_19N (X : gw_X E cc nL own ret l D R post) (pc' : Nat) {idx : Nat} {host : String} {v : Int32} (hlk : Cond.fieldLinkNest own idx "CardHolder" "layReply" "I" host ∈ lw_tbl) (d : decode cc pc = .ok (.putfield idx, 3)) (hp : pc + 3 = pc') (kk : gw_W E pc' lv st (gw_st (wX D a (gw_u σ 0 19 v)) Wr) k n) : gw_W E pc lv (.int v :: .ref (a 0) :: st) (gw_st (wX D a σ) Wr) k n := by
  intro ws hw
  obtain ⟨w2, h2, rfl⟩ := hw
  exact gw_putN (ws' := wX D a (gw_u σ 0 19 v) ++ w2) X pc' tyX0 tyX0_ok nmX0 in_X0 gX_cl0 (gX_at0w w2) 19 (by decide) hlk rfl rfl (ty := .int) (tyX0_ok 19 (by decide)) rfl rfl (by show 19 < 23; decide) rfl d hp (kk _ ⟨w2, h2, rfl⟩)
theorem gX_g0_20 (X : gw_X E cc nL own ret l D R post) (pc' : Nat) {idx : Nat}  (hlk : Cond.fieldLink own idx "CardHolder" "laid" "[I" ∈ lw_all) (d : decode cc pc = .ok (.getfield idx, 3)) (hp : pc + 3 = pc') (kk : gw_W E pc' lv (.ref (a 8) :: st) (gw_st (wX D a σ) Wr) k n) : gw_W E pc lv (.ref (a 0) :: st) (gw_st (wX D a σ) Wr) k n := by
  intro ws hw
  obtain ⟨w2, h2, rfl⟩ := hw
  exact gw_get X pc' in_X0 gX_cl0 (gX_at0w w2) 20 (by decide) hlk rfl rfl d hp (kk _ ⟨w2, h2, rfl⟩)
theorem gX_g0_20N (X : gw_X E cc nL own ret l D R post) (pc' : Nat) {idx : Nat} {host : String} (hlk : Cond.fieldLinkNest own idx "CardHolder" "laid" "[I" host ∈ lw_tbl) (d : decode cc pc = .ok (.getfield idx, 3)) (hp : pc + 3 = pc') (kk : gw_W E pc' lv (.ref (a 8) :: st) (gw_st (wX D a σ) Wr) k n) : gw_W E pc lv (.ref (a 0) :: st) (gw_st (wX D a σ) Wr) k n := by
  intro ws hw
  obtain ⟨w2, h2, rfl⟩ := hw
  exact gw_getN X pc' in_X0 gX_cl0 (gX_at0w w2) 20 (by decide) hlk rfl rfl d hp (kk _ ⟨w2, h2, rfl⟩)
theorem gX_g0_21 (X : gw_X E cc nL own ret l D R post) (pc' : Nat) {idx : Nat}  (hlk : Cond.fieldLink own idx "CardHolder" "slots" "[LCardHolder$Slot;" ∈ lw_all) (d : decode cc pc = .ok (.getfield idx, 3)) (hp : pc + 3 = pc') (kk : gw_W E pc' lv (.ref (a 15) :: st) (gw_st (wX D a σ) Wr) k n) : gw_W E pc lv (.ref (a 0) :: st) (gw_st (wX D a σ) Wr) k n := by
  intro ws hw
  obtain ⟨w2, h2, rfl⟩ := hw
  exact gw_get X pc' in_X0 gX_cl0 (gX_at0w w2) 21 (by decide) hlk rfl rfl d hp (kk _ ⟨w2, h2, rfl⟩)
theorem gX_g0_21N (X : gw_X E cc nL own ret l D R post) (pc' : Nat) {idx : Nat} {host : String} (hlk : Cond.fieldLinkNest own idx "CardHolder" "slots" "[LCardHolder$Slot;" host ∈ lw_tbl) (d : decode cc pc = .ok (.getfield idx, 3)) (hp : pc + 3 = pc') (kk : gw_W E pc' lv (.ref (a 15) :: st) (gw_st (wX D a σ) Wr) k n) : gw_W E pc lv (.ref (a 0) :: st) (gw_st (wX D a σ) Wr) k n := by
  intro ws hw
  obtain ⟨w2, h2, rfl⟩ := hw
  exact gw_getN X pc' in_X0 gX_cl0 (gX_at0w w2) 21 (by decide) hlk rfl rfl d hp (kk _ ⟨w2, h2, rfl⟩)
theorem gX_g0_22 (X : gw_X E cc nL own ret l D R post) (pc' : Nat) {idx : Nat}  (hlk : Cond.fieldLink own idx "CardHolder" "images" "Ljava/util/ArrayList;" ∈ lw_all) (d : decode cc pc = .ok (.getfield idx, 3)) (hp : pc + 3 = pc') (kk : gw_W E pc' lv (.ref (a 16) :: st) (gw_st (wX D a σ) Wr) k n) : gw_W E pc lv (.ref (a 0) :: st) (gw_st (wX D a σ) Wr) k n := by
  intro ws hw
  obtain ⟨w2, h2, rfl⟩ := hw
  exact gw_get X pc' in_X0 gX_cl0 (gX_at0w w2) 22 (by decide) hlk rfl rfl d hp (kk _ ⟨w2, h2, rfl⟩)
theorem gX_g0_22N (X : gw_X E cc nL own ret l D R post) (pc' : Nat) {idx : Nat} {host : String} (hlk : Cond.fieldLinkNest own idx "CardHolder" "images" "Ljava/util/ArrayList;" host ∈ lw_tbl) (d : decode cc pc = .ok (.getfield idx, 3)) (hp : pc + 3 = pc') (kk : gw_W E pc' lv (.ref (a 16) :: st) (gw_st (wX D a σ) Wr) k n) : gw_W E pc lv (.ref (a 0) :: st) (gw_st (wX D a σ) Wr) k n := by
  intro ws hw
  obtain ⟨w2, h2, rfl⟩ := hw
  exact gw_getN X pc' in_X0 gX_cl0 (gX_at0w w2) 22 (by decide) hlk rfl rfl d hp (kk _ ⟨w2, h2, rfl⟩)
theorem gX_at1w (w2 : va_W) : (wX D a σ ++ w2)[1]? = some (a 1, .inr (1, wXf1 a σ)) := rfl
theorem gX_at1 : ∀ ws, (gw_st (wX D a σ) Wr) ws → ∃ fs, ws[1]? = some (a 1, .inr (1, fs)) := fun ws ⟨w2, _, e⟩ => e ▸ ⟨_, gX_at1w (D := D) w2⟩
theorem gX_cl1 : gw_cl[1]? = some (RX1, TX1, 11) := rfl
theorem gX_g1_0 (X : gw_X E cc nL own ret l D R post) (pc' : Nat) {idx : Nat}  (hlk : Cond.fieldLink own idx "CardHolder$City" "wear" "I" ∈ lw_all) (d : decode cc pc = .ok (.getfield idx, 3)) (hp : pc + 3 = pc') (kk : gw_W E pc' lv (.int (σ.1 1 0) :: st) (gw_st (wX D a σ) Wr) k n) : gw_W E pc lv (.ref (a 1) :: st) (gw_st (wX D a σ) Wr) k n := by
  intro ws hw
  obtain ⟨w2, h2, rfl⟩ := hw
  exact gw_get X pc' in_X1 gX_cl1 (gX_at1w w2) 0 (by decide) hlk rfl rfl d hp (kk _ ⟨w2, h2, rfl⟩)
theorem gX_p1_0 (X : gw_X E cc nL own ret l D R post) (pc' : Nat) {idx : Nat}  {v : Int32} (hlk : Cond.fieldLink own idx "CardHolder$City" "wear" "I" ∈ lw_all) (d : decode cc pc = .ok (.putfield idx, 3)) (hp : pc + 3 = pc') (kk : gw_W E pc' lv st (gw_st (wX D a (gw_u σ 1 0 v)) Wr) k n) : gw_W E pc lv (.int v :: .ref (a 1) :: st) (gw_st (wX D a σ) Wr) k n := by
  intro ws hw
  obtain ⟨w2, h2, rfl⟩ := hw
  exact gw_put (ws' := wX D a (gw_u σ 1 0 v) ++ w2) X pc' tyX1 tyX1_ok nmX1 in_X1 gX_cl1 (gX_at1w w2) 0 (by decide) hlk rfl rfl (ty := .int) (tyX1_ok 0 (by decide)) rfl rfl (by show 0 < 11; decide) rfl d hp (kk _ ⟨w2, h2, rfl⟩)
theorem gX_g1_0N (X : gw_X E cc nL own ret l D R post) (pc' : Nat) {idx : Nat} {host : String} (hlk : Cond.fieldLinkNest own idx "CardHolder$City" "wear" "I" host ∈ lw_tbl) (d : decode cc pc = .ok (.getfield idx, 3)) (hp : pc + 3 = pc') (kk : gw_W E pc' lv (.int (σ.1 1 0) :: st) (gw_st (wX D a σ) Wr) k n) : gw_W E pc lv (.ref (a 1) :: st) (gw_st (wX D a σ) Wr) k n := by
  intro ws hw
  obtain ⟨w2, h2, rfl⟩ := hw
  exact gw_getN X pc' in_X1 gX_cl1 (gX_at1w w2) 0 (by decide) hlk rfl rfl d hp (kk _ ⟨w2, h2, rfl⟩)
theorem gX_p1_0N (X : gw_X E cc nL own ret l D R post) (pc' : Nat) {idx : Nat} {host : String} {v : Int32} (hlk : Cond.fieldLinkNest own idx "CardHolder$City" "wear" "I" host ∈ lw_tbl) (d : decode cc pc = .ok (.putfield idx, 3)) (hp : pc + 3 = pc') (kk : gw_W E pc' lv st (gw_st (wX D a (gw_u σ 1 0 v)) Wr) k n) : gw_W E pc lv (.int v :: .ref (a 1) :: st) (gw_st (wX D a σ) Wr) k n := by
  intro ws hw
  obtain ⟨w2, h2, rfl⟩ := hw
  exact gw_putN (ws' := wX D a (gw_u σ 1 0 v) ++ w2) X pc' tyX1 tyX1_ok nmX1 in_X1 gX_cl1 (gX_at1w w2) 0 (by decide) hlk rfl rfl (ty := .int) (tyX1_ok 0 (by decide)) rfl rfl (by show 0 < 11; decide) rfl d hp (kk _ ⟨w2, h2, rfl⟩)
theorem gX_g1_1 (X : gw_X E cc nL own ret l D R post) (pc' : Nat) {idx : Nat}  (hlk : Cond.fieldLink own idx "CardHolder$City" "lines" "I" ∈ lw_all) (d : decode cc pc = .ok (.getfield idx, 3)) (hp : pc + 3 = pc') (kk : gw_W E pc' lv (.int (σ.1 1 1) :: st) (gw_st (wX D a σ) Wr) k n) : gw_W E pc lv (.ref (a 1) :: st) (gw_st (wX D a σ) Wr) k n := by
  intro ws hw
  obtain ⟨w2, h2, rfl⟩ := hw
  exact gw_get X pc' in_X1 gX_cl1 (gX_at1w w2) 1 (by decide) hlk rfl rfl d hp (kk _ ⟨w2, h2, rfl⟩)
theorem gX_p1_1 (X : gw_X E cc nL own ret l D R post) (pc' : Nat) {idx : Nat}  {v : Int32} (hlk : Cond.fieldLink own idx "CardHolder$City" "lines" "I" ∈ lw_all) (d : decode cc pc = .ok (.putfield idx, 3)) (hp : pc + 3 = pc') (kk : gw_W E pc' lv st (gw_st (wX D a (gw_u σ 1 1 v)) Wr) k n) : gw_W E pc lv (.int v :: .ref (a 1) :: st) (gw_st (wX D a σ) Wr) k n := by
  intro ws hw
  obtain ⟨w2, h2, rfl⟩ := hw
  exact gw_put (ws' := wX D a (gw_u σ 1 1 v) ++ w2) X pc' tyX1 tyX1_ok nmX1 in_X1 gX_cl1 (gX_at1w w2) 1 (by decide) hlk rfl rfl (ty := .int) (tyX1_ok 1 (by decide)) rfl rfl (by show 1 < 11; decide) rfl d hp (kk _ ⟨w2, h2, rfl⟩)
theorem gX_g1_1N (X : gw_X E cc nL own ret l D R post) (pc' : Nat) {idx : Nat} {host : String} (hlk : Cond.fieldLinkNest own idx "CardHolder$City" "lines" "I" host ∈ lw_tbl) (d : decode cc pc = .ok (.getfield idx, 3)) (hp : pc + 3 = pc') (kk : gw_W E pc' lv (.int (σ.1 1 1) :: st) (gw_st (wX D a σ) Wr) k n) : gw_W E pc lv (.ref (a 1) :: st) (gw_st (wX D a σ) Wr) k n := by
  intro ws hw
  obtain ⟨w2, h2, rfl⟩ := hw
  exact gw_getN X pc' in_X1 gX_cl1 (gX_at1w w2) 1 (by decide) hlk rfl rfl d hp (kk _ ⟨w2, h2, rfl⟩)
theorem gX_p1_1N (X : gw_X E cc nL own ret l D R post) (pc' : Nat) {idx : Nat} {host : String} {v : Int32} (hlk : Cond.fieldLinkNest own idx "CardHolder$City" "lines" "I" host ∈ lw_tbl) (d : decode cc pc = .ok (.putfield idx, 3)) (hp : pc + 3 = pc') (kk : gw_W E pc' lv st (gw_st (wX D a (gw_u σ 1 1 v)) Wr) k n) : gw_W E pc lv (.int v :: .ref (a 1) :: st) (gw_st (wX D a σ) Wr) k n := by
  intro ws hw
  obtain ⟨w2, h2, rfl⟩ := hw
  exact gw_putN (ws' := wX D a (gw_u σ 1 1 v) ++ w2) X pc' tyX1 tyX1_ok nmX1 in_X1 gX_cl1 (gX_at1w w2) 1 (by decide) hlk rfl rfl (ty := .int) (tyX1_ok 1 (by decide)) rfl rfl (by show 1 < 11; decide) rfl d hp (kk _ ⟨w2, h2, rfl⟩)
theorem gX_g1_2 (X : gw_X E cc nL own ret l D R post) (pc' : Nat) {idx : Nat}  (hlk : Cond.fieldLink own idx "CardHolder$City" "persons" "I" ∈ lw_all) (d : decode cc pc = .ok (.getfield idx, 3)) (hp : pc + 3 = pc') (kk : gw_W E pc' lv (.int (σ.1 1 2) :: st) (gw_st (wX D a σ) Wr) k n) : gw_W E pc lv (.ref (a 1) :: st) (gw_st (wX D a σ) Wr) k n := by
  intro ws hw
  obtain ⟨w2, h2, rfl⟩ := hw
  exact gw_get X pc' in_X1 gX_cl1 (gX_at1w w2) 2 (by decide) hlk rfl rfl d hp (kk _ ⟨w2, h2, rfl⟩)
theorem gX_p1_2 (X : gw_X E cc nL own ret l D R post) (pc' : Nat) {idx : Nat}  {v : Int32} (hlk : Cond.fieldLink own idx "CardHolder$City" "persons" "I" ∈ lw_all) (d : decode cc pc = .ok (.putfield idx, 3)) (hp : pc + 3 = pc') (kk : gw_W E pc' lv st (gw_st (wX D a (gw_u σ 1 2 v)) Wr) k n) : gw_W E pc lv (.int v :: .ref (a 1) :: st) (gw_st (wX D a σ) Wr) k n := by
  intro ws hw
  obtain ⟨w2, h2, rfl⟩ := hw
  exact gw_put (ws' := wX D a (gw_u σ 1 2 v) ++ w2) X pc' tyX1 tyX1_ok nmX1 in_X1 gX_cl1 (gX_at1w w2) 2 (by decide) hlk rfl rfl (ty := .int) (tyX1_ok 2 (by decide)) rfl rfl (by show 2 < 11; decide) rfl d hp (kk _ ⟨w2, h2, rfl⟩)
theorem gX_g1_2N (X : gw_X E cc nL own ret l D R post) (pc' : Nat) {idx : Nat} {host : String} (hlk : Cond.fieldLinkNest own idx "CardHolder$City" "persons" "I" host ∈ lw_tbl) (d : decode cc pc = .ok (.getfield idx, 3)) (hp : pc + 3 = pc') (kk : gw_W E pc' lv (.int (σ.1 1 2) :: st) (gw_st (wX D a σ) Wr) k n) : gw_W E pc lv (.ref (a 1) :: st) (gw_st (wX D a σ) Wr) k n := by
  intro ws hw
  obtain ⟨w2, h2, rfl⟩ := hw
  exact gw_getN X pc' in_X1 gX_cl1 (gX_at1w w2) 2 (by decide) hlk rfl rfl d hp (kk _ ⟨w2, h2, rfl⟩)
theorem gX_p1_2N (X : gw_X E cc nL own ret l D R post) (pc' : Nat) {idx : Nat} {host : String} {v : Int32} (hlk : Cond.fieldLinkNest own idx "CardHolder$City" "persons" "I" host ∈ lw_tbl) (d : decode cc pc = .ok (.putfield idx, 3)) (hp : pc + 3 = pc') (kk : gw_W E pc' lv st (gw_st (wX D a (gw_u σ 1 2 v)) Wr) k n) : gw_W E pc lv (.int v :: .ref (a 1) :: st) (gw_st (wX D a σ) Wr) k n := by
  intro ws hw
  obtain ⟨w2, h2, rfl⟩ := hw
  exact gw_putN (ws' := wX D a (gw_u σ 1 2 v) ++ w2) X pc' tyX1 tyX1_ok nmX1 in_X1 gX_cl1 (gX_at1w w2) 2 (by decide) hlk rfl rfl (ty := .int) (tyX1_ok 2 (by decide)) rfl rfl (by show 2 < 11; decide) rfl d hp (kk _ ⟨w2, h2, rfl⟩)
theorem gX_g1_3 (X : gw_X E cc nL own ret l D R post) (pc' : Nat) {idx : Nat}  (hlk : Cond.fieldLink own idx "CardHolder$City" "acts" "I" ∈ lw_all) (d : decode cc pc = .ok (.getfield idx, 3)) (hp : pc + 3 = pc') (kk : gw_W E pc' lv (.int (σ.1 1 3) :: st) (gw_st (wX D a σ) Wr) k n) : gw_W E pc lv (.ref (a 1) :: st) (gw_st (wX D a σ) Wr) k n := by
  intro ws hw
  obtain ⟨w2, h2, rfl⟩ := hw
  exact gw_get X pc' in_X1 gX_cl1 (gX_at1w w2) 3 (by decide) hlk rfl rfl d hp (kk _ ⟨w2, h2, rfl⟩)
theorem gX_p1_3 (X : gw_X E cc nL own ret l D R post) (pc' : Nat) {idx : Nat}  {v : Int32} (hlk : Cond.fieldLink own idx "CardHolder$City" "acts" "I" ∈ lw_all) (d : decode cc pc = .ok (.putfield idx, 3)) (hp : pc + 3 = pc') (kk : gw_W E pc' lv st (gw_st (wX D a (gw_u σ 1 3 v)) Wr) k n) : gw_W E pc lv (.int v :: .ref (a 1) :: st) (gw_st (wX D a σ) Wr) k n := by
  intro ws hw
  obtain ⟨w2, h2, rfl⟩ := hw
  exact gw_put (ws' := wX D a (gw_u σ 1 3 v) ++ w2) X pc' tyX1 tyX1_ok nmX1 in_X1 gX_cl1 (gX_at1w w2) 3 (by decide) hlk rfl rfl (ty := .int) (tyX1_ok 3 (by decide)) rfl rfl (by show 3 < 11; decide) rfl d hp (kk _ ⟨w2, h2, rfl⟩)
theorem gX_g1_3N (X : gw_X E cc nL own ret l D R post) (pc' : Nat) {idx : Nat} {host : String} (hlk : Cond.fieldLinkNest own idx "CardHolder$City" "acts" "I" host ∈ lw_tbl) (d : decode cc pc = .ok (.getfield idx, 3)) (hp : pc + 3 = pc') (kk : gw_W E pc' lv (.int (σ.1 1 3) :: st) (gw_st (wX D a σ) Wr) k n) : gw_W E pc lv (.ref (a 1) :: st) (gw_st (wX D a σ) Wr) k n := by
  intro ws hw
  obtain ⟨w2, h2, rfl⟩ := hw
  exact gw_getN X pc' in_X1 gX_cl1 (gX_at1w w2) 3 (by decide) hlk rfl rfl d hp (kk _ ⟨w2, h2, rfl⟩)
theorem gX_p1_3N (X : gw_X E cc nL own ret l D R post) (pc' : Nat) {idx : Nat} {host : String} {v : Int32} (hlk : Cond.fieldLinkNest own idx "CardHolder$City" "acts" "I" host ∈ lw_tbl) (d : decode cc pc = .ok (.putfield idx, 3)) (hp : pc + 3 = pc') (kk : gw_W E pc' lv st (gw_st (wX D a (gw_u σ 1 3 v)) Wr) k n) : gw_W E pc lv (.int v :: .ref (a 1) :: st) (gw_st (wX D a σ) Wr) k n := by
  intro ws hw
  obtain ⟨w2, h2, rfl⟩ := hw
  exact gw_putN (ws' := wX D a (gw_u σ 1 3 v) ++ w2) X pc' tyX1 tyX1_ok nmX1 in_X1 gX_cl1 (gX_at1w w2) 3 (by decide) hlk rfl rfl (ty := .int) (tyX1_ok 3 (by decide)) rfl rfl (by show 3 < 11; decide) rfl d hp (kk _ ⟨w2, h2, rfl⟩)
theorem gX_g1_4 (X : gw_X E cc nL own ret l D R post) (pc' : Nat) {idx : Nat}  (hlk : Cond.fieldLink own idx "CardHolder$City" "forged" "I" ∈ lw_all) (d : decode cc pc = .ok (.getfield idx, 3)) (hp : pc + 3 = pc') (kk : gw_W E pc' lv (.int (σ.1 1 4) :: st) (gw_st (wX D a σ) Wr) k n) : gw_W E pc lv (.ref (a 1) :: st) (gw_st (wX D a σ) Wr) k n := by
  intro ws hw
  obtain ⟨w2, h2, rfl⟩ := hw
  exact gw_get X pc' in_X1 gX_cl1 (gX_at1w w2) 4 (by decide) hlk rfl rfl d hp (kk _ ⟨w2, h2, rfl⟩)
theorem gX_p1_4 (X : gw_X E cc nL own ret l D R post) (pc' : Nat) {idx : Nat}  {v : Int32} (hlk : Cond.fieldLink own idx "CardHolder$City" "forged" "I" ∈ lw_all) (d : decode cc pc = .ok (.putfield idx, 3)) (hp : pc + 3 = pc') (kk : gw_W E pc' lv st (gw_st (wX D a (gw_u σ 1 4 v)) Wr) k n) : gw_W E pc lv (.int v :: .ref (a 1) :: st) (gw_st (wX D a σ) Wr) k n := by
  intro ws hw
  obtain ⟨w2, h2, rfl⟩ := hw
  exact gw_put (ws' := wX D a (gw_u σ 1 4 v) ++ w2) X pc' tyX1 tyX1_ok nmX1 in_X1 gX_cl1 (gX_at1w w2) 4 (by decide) hlk rfl rfl (ty := .int) (tyX1_ok 4 (by decide)) rfl rfl (by show 4 < 11; decide) rfl d hp (kk _ ⟨w2, h2, rfl⟩)
theorem gX_g1_4N (X : gw_X E cc nL own ret l D R post) (pc' : Nat) {idx : Nat} {host : String} (hlk : Cond.fieldLinkNest own idx "CardHolder$City" "forged" "I" host ∈ lw_tbl) (d : decode cc pc = .ok (.getfield idx, 3)) (hp : pc + 3 = pc') (kk : gw_W E pc' lv (.int (σ.1 1 4) :: st) (gw_st (wX D a σ) Wr) k n) : gw_W E pc lv (.ref (a 1) :: st) (gw_st (wX D a σ) Wr) k n := by
  intro ws hw
  obtain ⟨w2, h2, rfl⟩ := hw
  exact gw_getN X pc' in_X1 gX_cl1 (gX_at1w w2) 4 (by decide) hlk rfl rfl d hp (kk _ ⟨w2, h2, rfl⟩)
theorem gX_p1_4N (X : gw_X E cc nL own ret l D R post) (pc' : Nat) {idx : Nat} {host : String} {v : Int32} (hlk : Cond.fieldLinkNest own idx "CardHolder$City" "forged" "I" host ∈ lw_tbl) (d : decode cc pc = .ok (.putfield idx, 3)) (hp : pc + 3 = pc') (kk : gw_W E pc' lv st (gw_st (wX D a (gw_u σ 1 4 v)) Wr) k n) : gw_W E pc lv (.int v :: .ref (a 1) :: st) (gw_st (wX D a σ) Wr) k n := by
  intro ws hw
  obtain ⟨w2, h2, rfl⟩ := hw
  exact gw_putN (ws' := wX D a (gw_u σ 1 4 v) ++ w2) X pc' tyX1 tyX1_ok nmX1 in_X1 gX_cl1 (gX_at1w w2) 4 (by decide) hlk rfl rfl (ty := .int) (tyX1_ok 4 (by decide)) rfl rfl (by show 4 < 11; decide) rfl d hp (kk _ ⟨w2, h2, rfl⟩)
theorem gX_g1_5 (X : gw_X E cc nL own ret l D R post) (pc' : Nat) {idx : Nat}  (hlk : Cond.fieldLink own idx "CardHolder$City" "told" "I" ∈ lw_all) (d : decode cc pc = .ok (.getfield idx, 3)) (hp : pc + 3 = pc') (kk : gw_W E pc' lv (.int (σ.1 1 5) :: st) (gw_st (wX D a σ) Wr) k n) : gw_W E pc lv (.ref (a 1) :: st) (gw_st (wX D a σ) Wr) k n := by
  intro ws hw
  obtain ⟨w2, h2, rfl⟩ := hw
  exact gw_get X pc' in_X1 gX_cl1 (gX_at1w w2) 5 (by decide) hlk rfl rfl d hp (kk _ ⟨w2, h2, rfl⟩)
theorem gX_p1_5 (X : gw_X E cc nL own ret l D R post) (pc' : Nat) {idx : Nat}  {v : Int32} (hlk : Cond.fieldLink own idx "CardHolder$City" "told" "I" ∈ lw_all) (d : decode cc pc = .ok (.putfield idx, 3)) (hp : pc + 3 = pc') (kk : gw_W E pc' lv st (gw_st (wX D a (gw_u σ 1 5 v)) Wr) k n) : gw_W E pc lv (.int v :: .ref (a 1) :: st) (gw_st (wX D a σ) Wr) k n := by
  intro ws hw
  obtain ⟨w2, h2, rfl⟩ := hw
  exact gw_put (ws' := wX D a (gw_u σ 1 5 v) ++ w2) X pc' tyX1 tyX1_ok nmX1 in_X1 gX_cl1 (gX_at1w w2) 5 (by decide) hlk rfl rfl (ty := .int) (tyX1_ok 5 (by decide)) rfl rfl (by show 5 < 11; decide) rfl d hp (kk _ ⟨w2, h2, rfl⟩)
theorem gX_g1_5N (X : gw_X E cc nL own ret l D R post) (pc' : Nat) {idx : Nat} {host : String} (hlk : Cond.fieldLinkNest own idx "CardHolder$City" "told" "I" host ∈ lw_tbl) (d : decode cc pc = .ok (.getfield idx, 3)) (hp : pc + 3 = pc') (kk : gw_W E pc' lv (.int (σ.1 1 5) :: st) (gw_st (wX D a σ) Wr) k n) : gw_W E pc lv (.ref (a 1) :: st) (gw_st (wX D a σ) Wr) k n := by
  intro ws hw
  obtain ⟨w2, h2, rfl⟩ := hw
  exact gw_getN X pc' in_X1 gX_cl1 (gX_at1w w2) 5 (by decide) hlk rfl rfl d hp (kk _ ⟨w2, h2, rfl⟩)
theorem gX_p1_5N (X : gw_X E cc nL own ret l D R post) (pc' : Nat) {idx : Nat} {host : String} {v : Int32} (hlk : Cond.fieldLinkNest own idx "CardHolder$City" "told" "I" host ∈ lw_tbl) (d : decode cc pc = .ok (.putfield idx, 3)) (hp : pc + 3 = pc') (kk : gw_W E pc' lv st (gw_st (wX D a (gw_u σ 1 5 v)) Wr) k n) : gw_W E pc lv (.int v :: .ref (a 1) :: st) (gw_st (wX D a σ) Wr) k n := by
  intro ws hw
  obtain ⟨w2, h2, rfl⟩ := hw
  exact gw_putN (ws' := wX D a (gw_u σ 1 5 v) ++ w2) X pc' tyX1 tyX1_ok nmX1 in_X1 gX_cl1 (gX_at1w w2) 5 (by decide) hlk rfl rfl (ty := .int) (tyX1_ok 5 (by decide)) rfl rfl (by show 5 < 11; decide) rfl d hp (kk _ ⟨w2, h2, rfl⟩)
theorem gX_g1_6 (X : gw_X E cc nL own ret l D R post) (pc' : Nat) {idx : Nat}  (hlk : Cond.fieldLink own idx "CardHolder$City" "worth" "[I" ∈ lw_all) (d : decode cc pc = .ok (.getfield idx, 3)) (hp : pc + 3 = pc') (kk : gw_W E pc' lv (.ref (a 9) :: st) (gw_st (wX D a σ) Wr) k n) : gw_W E pc lv (.ref (a 1) :: st) (gw_st (wX D a σ) Wr) k n := by
  intro ws hw
  obtain ⟨w2, h2, rfl⟩ := hw
  exact gw_get X pc' in_X1 gX_cl1 (gX_at1w w2) 6 (by decide) hlk rfl rfl d hp (kk _ ⟨w2, h2, rfl⟩)
theorem gX_g1_6N (X : gw_X E cc nL own ret l D R post) (pc' : Nat) {idx : Nat} {host : String} (hlk : Cond.fieldLinkNest own idx "CardHolder$City" "worth" "[I" host ∈ lw_tbl) (d : decode cc pc = .ok (.getfield idx, 3)) (hp : pc + 3 = pc') (kk : gw_W E pc' lv (.ref (a 9) :: st) (gw_st (wX D a σ) Wr) k n) : gw_W E pc lv (.ref (a 1) :: st) (gw_st (wX D a σ) Wr) k n := by
  intro ws hw
  obtain ⟨w2, h2, rfl⟩ := hw
  exact gw_getN X pc' in_X1 gX_cl1 (gX_at1w w2) 6 (by decide) hlk rfl rfl d hp (kk _ ⟨w2, h2, rfl⟩)
theorem gX_g1_7 (X : gw_X E cc nL own ret l D R post) (pc' : Nat) {idx : Nat}  (hlk : Cond.fieldLink own idx "CardHolder$City" "does" "[I" ∈ lw_all) (d : decode cc pc = .ok (.getfield idx, 3)) (hp : pc + 3 = pc') (kk : gw_W E pc' lv (.ref (a 10) :: st) (gw_st (wX D a σ) Wr) k n) : gw_W E pc lv (.ref (a 1) :: st) (gw_st (wX D a σ) Wr) k n := by
  intro ws hw
  obtain ⟨w2, h2, rfl⟩ := hw
  exact gw_get X pc' in_X1 gX_cl1 (gX_at1w w2) 7 (by decide) hlk rfl rfl d hp (kk _ ⟨w2, h2, rfl⟩)
theorem gX_g1_7N (X : gw_X E cc nL own ret l D R post) (pc' : Nat) {idx : Nat} {host : String} (hlk : Cond.fieldLinkNest own idx "CardHolder$City" "does" "[I" host ∈ lw_tbl) (d : decode cc pc = .ok (.getfield idx, 3)) (hp : pc + 3 = pc') (kk : gw_W E pc' lv (.ref (a 10) :: st) (gw_st (wX D a σ) Wr) k n) : gw_W E pc lv (.ref (a 1) :: st) (gw_st (wX D a σ) Wr) k n := by
  intro ws hw
  obtain ⟨w2, h2, rfl⟩ := hw
  exact gw_getN X pc' in_X1 gX_cl1 (gX_at1w w2) 7 (by decide) hlk rfl rfl d hp (kk _ ⟨w2, h2, rfl⟩)
theorem gX_g1_8 (X : gw_X E cc nL own ret l D R post) (pc' : Nat) {idx : Nat}  (hlk : Cond.fieldLink own idx "CardHolder$City" "wishes" "[I" ∈ lw_all) (d : decode cc pc = .ok (.getfield idx, 3)) (hp : pc + 3 = pc') (kk : gw_W E pc' lv (.ref (a 11) :: st) (gw_st (wX D a σ) Wr) k n) : gw_W E pc lv (.ref (a 1) :: st) (gw_st (wX D a σ) Wr) k n := by
  intro ws hw
  obtain ⟨w2, h2, rfl⟩ := hw
  exact gw_get X pc' in_X1 gX_cl1 (gX_at1w w2) 8 (by decide) hlk rfl rfl d hp (kk _ ⟨w2, h2, rfl⟩)
theorem gX_g1_8N (X : gw_X E cc nL own ret l D R post) (pc' : Nat) {idx : Nat} {host : String} (hlk : Cond.fieldLinkNest own idx "CardHolder$City" "wishes" "[I" host ∈ lw_tbl) (d : decode cc pc = .ok (.getfield idx, 3)) (hp : pc + 3 = pc') (kk : gw_W E pc' lv (.ref (a 11) :: st) (gw_st (wX D a σ) Wr) k n) : gw_W E pc lv (.ref (a 1) :: st) (gw_st (wX D a σ) Wr) k n := by
  intro ws hw
  obtain ⟨w2, h2, rfl⟩ := hw
  exact gw_getN X pc' in_X1 gX_cl1 (gX_at1w w2) 8 (by decide) hlk rfl rfl d hp (kk _ ⟨w2, h2, rfl⟩)
theorem gX_g1_9 (X : gw_X E cc nL own ret l D R post) (pc' : Nat) {idx : Nat}  (hlk : Cond.fieldLink own idx "CardHolder$City" "holder" "[I" ∈ lw_all) (d : decode cc pc = .ok (.getfield idx, 3)) (hp : pc + 3 = pc') (kk : gw_W E pc' lv (.ref (a 12) :: st) (gw_st (wX D a σ) Wr) k n) : gw_W E pc lv (.ref (a 1) :: st) (gw_st (wX D a σ) Wr) k n := by
  intro ws hw
  obtain ⟨w2, h2, rfl⟩ := hw
  exact gw_get X pc' in_X1 gX_cl1 (gX_at1w w2) 9 (by decide) hlk rfl rfl d hp (kk _ ⟨w2, h2, rfl⟩)
theorem gX_g1_9N (X : gw_X E cc nL own ret l D R post) (pc' : Nat) {idx : Nat} {host : String} (hlk : Cond.fieldLinkNest own idx "CardHolder$City" "holder" "[I" host ∈ lw_tbl) (d : decode cc pc = .ok (.getfield idx, 3)) (hp : pc + 3 = pc') (kk : gw_W E pc' lv (.ref (a 12) :: st) (gw_st (wX D a σ) Wr) k n) : gw_W E pc lv (.ref (a 1) :: st) (gw_st (wX D a σ) Wr) k n := by
  intro ws hw
  obtain ⟨w2, h2, rfl⟩ := hw
  exact gw_getN X pc' in_X1 gX_cl1 (gX_at1w w2) 9 (by decide) hlk rfl rfl d hp (kk _ ⟨w2, h2, rfl⟩)
theorem gX_g1_10 (X : gw_X E cc nL own ret l D R post) (pc' : Nat) {idx : Nat}  (hlk : Cond.fieldLink own idx "CardHolder$City" "act" "[I" ∈ lw_all) (d : decode cc pc = .ok (.getfield idx, 3)) (hp : pc + 3 = pc') (kk : gw_W E pc' lv (.ref (a 13) :: st) (gw_st (wX D a σ) Wr) k n) : gw_W E pc lv (.ref (a 1) :: st) (gw_st (wX D a σ) Wr) k n := by
  intro ws hw
  obtain ⟨w2, h2, rfl⟩ := hw
  exact gw_get X pc' in_X1 gX_cl1 (gX_at1w w2) 10 (by decide) hlk rfl rfl d hp (kk _ ⟨w2, h2, rfl⟩)
theorem gX_g1_10N (X : gw_X E cc nL own ret l D R post) (pc' : Nat) {idx : Nat} {host : String} (hlk : Cond.fieldLinkNest own idx "CardHolder$City" "act" "[I" host ∈ lw_tbl) (d : decode cc pc = .ok (.getfield idx, 3)) (hp : pc + 3 = pc') (kk : gw_W E pc' lv (.ref (a 13) :: st) (gw_st (wX D a σ) Wr) k n) : gw_W E pc lv (.ref (a 1) :: st) (gw_st (wX D a σ) Wr) k n := by
  intro ws hw
  obtain ⟨w2, h2, rfl⟩ := hw
  exact gw_getN X pc' in_X1 gX_cl1 (gX_at1w w2) 10 (by decide) hlk rfl rfl d hp (kk _ ⟨w2, h2, rfl⟩)
theorem gX_l2 (X : gw_X E cc nL own ret l D R post) (pc' : Nat) (j : Nat) {i : Int32} (hin : vp_in i 900) (hj : i.toNatClampNeg = j) (d : decode cc pc = .ok (.baload, 1)) (hp : pc + 1 = pc') (kk : gw_W E pc' lv (.int (σ.1 2 j) :: st) (gw_st (wX D a σ) Wr) k n) : gw_W E pc lv (.int i :: .ref (a 2) :: st) (gw_st (wX D a σ) Wr) k n := by
  intro ws hw
  obtain ⟨w2, h2, rfl⟩ := hw
  exact gw_bald (q0 := 2) X pc' j rfl hin hj d hp (kk _ ⟨w2, h2, rfl⟩)
theorem gX_s2 (X : gw_X E cc nL own ret l D R post) (pc' : Nat) (j : Nat) {i : Int32} {x : Int32} (hin : vp_in i 900) (hj : i.toNatClampNeg = j) (d : decode cc pc = .ok (.bastore, 1)) (hp : pc + 1 = pc') (kk : gw_W E pc' lv st (gw_st (wX D a (gw_u σ 2 j (vp_nar .byte x))) Wr) k n) : gw_W E pc lv (.int x :: .int i :: .ref (a 2) :: st) (gw_st (wX D a σ) Wr) k n := by
  intro ws hw
  obtain ⟨w2, h2, rfl⟩ := hw
  exact gw_bast (q0 := 2) (ws' := wX D a (gw_u σ 2 j (vp_nar .byte x)) ++ w2) X pc' j rfl hin hj rfl d hp (kk _ ⟨w2, h2, rfl⟩)
theorem gX_n2 (X : gw_X E cc nL own ret l D R post) (pc' : Nat) (d : decode cc pc = .ok (.arraylength, 1)) (hp : pc + 1 = pc') (kk : gw_W E pc' lv (.int 900 :: st) (gw_st (wX D a σ) Wr) k n) : gw_W E pc lv (.ref (a 2) :: st) (gw_st (wX D a σ) Wr) k n := by
  intro ws hw
  obtain ⟨w2, h2, rfl⟩ := hw
  exact gw_alen (q0 := 2) (t0 := 1) X pc' rfl rfl (show Int32.ofNat 900 = 900 by decide) d hp (kk _ ⟨w2, h2, rfl⟩)
theorem gX_l3 (X : gw_X E cc nL own ret l D R post) (pc' : Nat) (j : Nat) {i : Int32} (hin : vp_in i 8) (hj : i.toNatClampNeg = j) (d : decode cc pc = .ok (.iaload, 1)) (hp : pc + 1 = pc') (kk : gw_W E pc' lv (.int (σ.1 3 j) :: st) (gw_st (wX D a σ) Wr) k n) : gw_W E pc lv (.int i :: .ref (a 3) :: st) (gw_st (wX D a σ) Wr) k n := by
  intro ws hw
  obtain ⟨w2, h2, rfl⟩ := hw
  exact gw_iald (q0 := 3) X pc' j rfl hin hj d hp (kk _ ⟨w2, h2, rfl⟩)
theorem gX_s3 (X : gw_X E cc nL own ret l D R post) (pc' : Nat) (j : Nat) {i : Int32} {x : Int32} (hin : vp_in i 8) (hj : i.toNatClampNeg = j) (d : decode cc pc = .ok (.iastore, 1)) (hp : pc + 1 = pc') (kk : gw_W E pc' lv st (gw_st (wX D a (gw_u σ 3 j x)) Wr) k n) : gw_W E pc lv (.int x :: .int i :: .ref (a 3) :: st) (gw_st (wX D a σ) Wr) k n := by
  intro ws hw
  obtain ⟨w2, h2, rfl⟩ := hw
  exact gw_iast (q0 := 3) (ws' := wX D a (gw_u σ 3 j x) ++ w2) X pc' j rfl hin hj rfl d hp (kk _ ⟨w2, h2, rfl⟩)
theorem gX_n3 (X : gw_X E cc nL own ret l D R post) (pc' : Nat) (d : decode cc pc = .ok (.arraylength, 1)) (hp : pc + 1 = pc') (kk : gw_W E pc' lv (.int 8 :: st) (gw_st (wX D a σ) Wr) k n) : gw_W E pc lv (.ref (a 3) :: st) (gw_st (wX D a σ) Wr) k n := by
  intro ws hw
  obtain ⟨w2, h2, rfl⟩ := hw
  exact gw_alen (q0 := 3) (t0 := 0) X pc' rfl rfl (show Int32.ofNat 8 = 8 by decide) d hp (kk _ ⟨w2, h2, rfl⟩)
theorem gX_l4 (X : gw_X E cc nL own ret l D R post) (pc' : Nat) (j : Nat) {i : Int32} (hin : vp_in i 8) (hj : i.toNatClampNeg = j) (d : decode cc pc = .ok (.iaload, 1)) (hp : pc + 1 = pc') (kk : gw_W E pc' lv (.int (σ.1 4 j) :: st) (gw_st (wX D a σ) Wr) k n) : gw_W E pc lv (.int i :: .ref (a 4) :: st) (gw_st (wX D a σ) Wr) k n := by
  intro ws hw
  obtain ⟨w2, h2, rfl⟩ := hw
  exact gw_iald (q0 := 4) X pc' j rfl hin hj d hp (kk _ ⟨w2, h2, rfl⟩)
theorem gX_s4 (X : gw_X E cc nL own ret l D R post) (pc' : Nat) (j : Nat) {i : Int32} {x : Int32} (hin : vp_in i 8) (hj : i.toNatClampNeg = j) (d : decode cc pc = .ok (.iastore, 1)) (hp : pc + 1 = pc') (kk : gw_W E pc' lv st (gw_st (wX D a (gw_u σ 4 j x)) Wr) k n) : gw_W E pc lv (.int x :: .int i :: .ref (a 4) :: st) (gw_st (wX D a σ) Wr) k n := by
  intro ws hw
  obtain ⟨w2, h2, rfl⟩ := hw
  exact gw_iast (q0 := 4) (ws' := wX D a (gw_u σ 4 j x) ++ w2) X pc' j rfl hin hj rfl d hp (kk _ ⟨w2, h2, rfl⟩)
theorem gX_n4 (X : gw_X E cc nL own ret l D R post) (pc' : Nat) (d : decode cc pc = .ok (.arraylength, 1)) (hp : pc + 1 = pc') (kk : gw_W E pc' lv (.int 8 :: st) (gw_st (wX D a σ) Wr) k n) : gw_W E pc lv (.ref (a 4) :: st) (gw_st (wX D a σ) Wr) k n := by
  intro ws hw
  obtain ⟨w2, h2, rfl⟩ := hw
  exact gw_alen (q0 := 4) (t0 := 0) X pc' rfl rfl (show Int32.ofNat 8 = 8 by decide) d hp (kk _ ⟨w2, h2, rfl⟩)
theorem gX_l5 (X : gw_X E cc nL own ret l D R post) (pc' : Nat) (j : Nat) {i : Int32} (hin : vp_in i 8) (hj : i.toNatClampNeg = j) (d : decode cc pc = .ok (.iaload, 1)) (hp : pc + 1 = pc') (kk : gw_W E pc' lv (.int (σ.1 5 j) :: st) (gw_st (wX D a σ) Wr) k n) : gw_W E pc lv (.int i :: .ref (a 5) :: st) (gw_st (wX D a σ) Wr) k n := by
  intro ws hw
  obtain ⟨w2, h2, rfl⟩ := hw
  exact gw_iald (q0 := 5) X pc' j rfl hin hj d hp (kk _ ⟨w2, h2, rfl⟩)
theorem gX_s5 (X : gw_X E cc nL own ret l D R post) (pc' : Nat) (j : Nat) {i : Int32} {x : Int32} (hin : vp_in i 8) (hj : i.toNatClampNeg = j) (d : decode cc pc = .ok (.iastore, 1)) (hp : pc + 1 = pc') (kk : gw_W E pc' lv st (gw_st (wX D a (gw_u σ 5 j x)) Wr) k n) : gw_W E pc lv (.int x :: .int i :: .ref (a 5) :: st) (gw_st (wX D a σ) Wr) k n := by
  intro ws hw
  obtain ⟨w2, h2, rfl⟩ := hw
  exact gw_iast (q0 := 5) (ws' := wX D a (gw_u σ 5 j x) ++ w2) X pc' j rfl hin hj rfl d hp (kk _ ⟨w2, h2, rfl⟩)
theorem gX_n5 (X : gw_X E cc nL own ret l D R post) (pc' : Nat) (d : decode cc pc = .ok (.arraylength, 1)) (hp : pc + 1 = pc') (kk : gw_W E pc' lv (.int 8 :: st) (gw_st (wX D a σ) Wr) k n) : gw_W E pc lv (.ref (a 5) :: st) (gw_st (wX D a σ) Wr) k n := by
  intro ws hw
  obtain ⟨w2, h2, rfl⟩ := hw
  exact gw_alen (q0 := 5) (t0 := 0) X pc' rfl rfl (show Int32.ofNat 8 = 8 by decide) d hp (kk _ ⟨w2, h2, rfl⟩)
theorem gX_l6 (X : gw_X E cc nL own ret l D R post) (pc' : Nat) (j : Nat) {i : Int32} (hin : vp_in i 48) (hj : i.toNatClampNeg = j) (d : decode cc pc = .ok (.iaload, 1)) (hp : pc + 1 = pc') (kk : gw_W E pc' lv (.int (σ.1 6 j) :: st) (gw_st (wX D a σ) Wr) k n) : gw_W E pc lv (.int i :: .ref (a 6) :: st) (gw_st (wX D a σ) Wr) k n := by
  intro ws hw
  obtain ⟨w2, h2, rfl⟩ := hw
  exact gw_iald (q0 := 6) X pc' j rfl hin hj d hp (kk _ ⟨w2, h2, rfl⟩)
theorem gX_s6 (X : gw_X E cc nL own ret l D R post) (pc' : Nat) (j : Nat) {i : Int32} {x : Int32} (hin : vp_in i 48) (hj : i.toNatClampNeg = j) (d : decode cc pc = .ok (.iastore, 1)) (hp : pc + 1 = pc') (kk : gw_W E pc' lv st (gw_st (wX D a (gw_u σ 6 j x)) Wr) k n) : gw_W E pc lv (.int x :: .int i :: .ref (a 6) :: st) (gw_st (wX D a σ) Wr) k n := by
  intro ws hw
  obtain ⟨w2, h2, rfl⟩ := hw
  exact gw_iast (q0 := 6) (ws' := wX D a (gw_u σ 6 j x) ++ w2) X pc' j rfl hin hj rfl d hp (kk _ ⟨w2, h2, rfl⟩)
theorem gX_n6 (X : gw_X E cc nL own ret l D R post) (pc' : Nat) (d : decode cc pc = .ok (.arraylength, 1)) (hp : pc + 1 = pc') (kk : gw_W E pc' lv (.int 48 :: st) (gw_st (wX D a σ) Wr) k n) : gw_W E pc lv (.ref (a 6) :: st) (gw_st (wX D a σ) Wr) k n := by
  intro ws hw
  obtain ⟨w2, h2, rfl⟩ := hw
  exact gw_alen (q0 := 6) (t0 := 0) X pc' rfl rfl (show Int32.ofNat 48 = 48 by decide) d hp (kk _ ⟨w2, h2, rfl⟩)
theorem gX_l7 (X : gw_X E cc nL own ret l D R post) (pc' : Nat) (j : Nat) {i : Int32} (hin : vp_in i 8) (hj : i.toNatClampNeg = j) (d : decode cc pc = .ok (.iaload, 1)) (hp : pc + 1 = pc') (kk : gw_W E pc' lv (.int (σ.1 7 j) :: st) (gw_st (wX D a σ) Wr) k n) : gw_W E pc lv (.int i :: .ref (a 7) :: st) (gw_st (wX D a σ) Wr) k n := by
  intro ws hw
  obtain ⟨w2, h2, rfl⟩ := hw
  exact gw_iald (q0 := 7) X pc' j rfl hin hj d hp (kk _ ⟨w2, h2, rfl⟩)
theorem gX_s7 (X : gw_X E cc nL own ret l D R post) (pc' : Nat) (j : Nat) {i : Int32} {x : Int32} (hin : vp_in i 8) (hj : i.toNatClampNeg = j) (d : decode cc pc = .ok (.iastore, 1)) (hp : pc + 1 = pc') (kk : gw_W E pc' lv st (gw_st (wX D a (gw_u σ 7 j x)) Wr) k n) : gw_W E pc lv (.int x :: .int i :: .ref (a 7) :: st) (gw_st (wX D a σ) Wr) k n := by
  intro ws hw
  obtain ⟨w2, h2, rfl⟩ := hw
  exact gw_iast (q0 := 7) (ws' := wX D a (gw_u σ 7 j x) ++ w2) X pc' j rfl hin hj rfl d hp (kk _ ⟨w2, h2, rfl⟩)
theorem gX_n7 (X : gw_X E cc nL own ret l D R post) (pc' : Nat) (d : decode cc pc = .ok (.arraylength, 1)) (hp : pc + 1 = pc') (kk : gw_W E pc' lv (.int 8 :: st) (gw_st (wX D a σ) Wr) k n) : gw_W E pc lv (.ref (a 7) :: st) (gw_st (wX D a σ) Wr) k n := by
  intro ws hw
  obtain ⟨w2, h2, rfl⟩ := hw
  exact gw_alen (q0 := 7) (t0 := 0) X pc' rfl rfl (show Int32.ofNat 8 = 8 by decide) d hp (kk _ ⟨w2, h2, rfl⟩)
theorem gX_l8 (X : gw_X E cc nL own ret l D R post) (pc' : Nat) (j : Nat) {i : Int32} (hin : vp_in i 8) (hj : i.toNatClampNeg = j) (d : decode cc pc = .ok (.iaload, 1)) (hp : pc + 1 = pc') (kk : gw_W E pc' lv (.int (σ.1 8 j) :: st) (gw_st (wX D a σ) Wr) k n) : gw_W E pc lv (.int i :: .ref (a 8) :: st) (gw_st (wX D a σ) Wr) k n := by
  intro ws hw
  obtain ⟨w2, h2, rfl⟩ := hw
  exact gw_iald (q0 := 8) X pc' j rfl hin hj d hp (kk _ ⟨w2, h2, rfl⟩)
theorem gX_s8 (X : gw_X E cc nL own ret l D R post) (pc' : Nat) (j : Nat) {i : Int32} {x : Int32} (hin : vp_in i 8) (hj : i.toNatClampNeg = j) (d : decode cc pc = .ok (.iastore, 1)) (hp : pc + 1 = pc') (kk : gw_W E pc' lv st (gw_st (wX D a (gw_u σ 8 j x)) Wr) k n) : gw_W E pc lv (.int x :: .int i :: .ref (a 8) :: st) (gw_st (wX D a σ) Wr) k n := by
  intro ws hw
  obtain ⟨w2, h2, rfl⟩ := hw
  exact gw_iast (q0 := 8) (ws' := wX D a (gw_u σ 8 j x) ++ w2) X pc' j rfl hin hj rfl d hp (kk _ ⟨w2, h2, rfl⟩)
theorem gX_n8 (X : gw_X E cc nL own ret l D R post) (pc' : Nat) (d : decode cc pc = .ok (.arraylength, 1)) (hp : pc + 1 = pc') (kk : gw_W E pc' lv (.int 8 :: st) (gw_st (wX D a σ) Wr) k n) : gw_W E pc lv (.ref (a 8) :: st) (gw_st (wX D a σ) Wr) k n := by
  intro ws hw
  obtain ⟨w2, h2, rfl⟩ := hw
  exact gw_alen (q0 := 8) (t0 := 0) X pc' rfl rfl (show Int32.ofNat 8 = 8 by decide) d hp (kk _ ⟨w2, h2, rfl⟩)
theorem gX_l9 (X : gw_X E cc nL own ret l D R post) (pc' : Nat) (j : Nat) {i : Int32} (hin : vp_in i 8) (hj : i.toNatClampNeg = j) (d : decode cc pc = .ok (.iaload, 1)) (hp : pc + 1 = pc') (kk : gw_W E pc' lv (.int (σ.1 9 j) :: st) (gw_st (wX D a σ) Wr) k n) : gw_W E pc lv (.int i :: .ref (a 9) :: st) (gw_st (wX D a σ) Wr) k n := by
  intro ws hw
  obtain ⟨w2, h2, rfl⟩ := hw
  exact gw_iald (q0 := 9) X pc' j rfl hin hj d hp (kk _ ⟨w2, h2, rfl⟩)
theorem gX_s9 (X : gw_X E cc nL own ret l D R post) (pc' : Nat) (j : Nat) {i : Int32} {x : Int32} (hin : vp_in i 8) (hj : i.toNatClampNeg = j) (d : decode cc pc = .ok (.iastore, 1)) (hp : pc + 1 = pc') (kk : gw_W E pc' lv st (gw_st (wX D a (gw_u σ 9 j x)) Wr) k n) : gw_W E pc lv (.int x :: .int i :: .ref (a 9) :: st) (gw_st (wX D a σ) Wr) k n := by
  intro ws hw
  obtain ⟨w2, h2, rfl⟩ := hw
  exact gw_iast (q0 := 9) (ws' := wX D a (gw_u σ 9 j x) ++ w2) X pc' j rfl hin hj rfl d hp (kk _ ⟨w2, h2, rfl⟩)
theorem gX_n9 (X : gw_X E cc nL own ret l D R post) (pc' : Nat) (d : decode cc pc = .ok (.arraylength, 1)) (hp : pc + 1 = pc') (kk : gw_W E pc' lv (.int 8 :: st) (gw_st (wX D a σ) Wr) k n) : gw_W E pc lv (.ref (a 9) :: st) (gw_st (wX D a σ) Wr) k n := by
  intro ws hw
  obtain ⟨w2, h2, rfl⟩ := hw
  exact gw_alen (q0 := 9) (t0 := 0) X pc' rfl rfl (show Int32.ofNat 8 = 8 by decide) d hp (kk _ ⟨w2, h2, rfl⟩)
theorem gX_l10 (X : gw_X E cc nL own ret l D R post) (pc' : Nat) (j : Nat) {i : Int32} (hin : vp_in i 8) (hj : i.toNatClampNeg = j) (d : decode cc pc = .ok (.iaload, 1)) (hp : pc + 1 = pc') (kk : gw_W E pc' lv (.int (σ.1 10 j) :: st) (gw_st (wX D a σ) Wr) k n) : gw_W E pc lv (.int i :: .ref (a 10) :: st) (gw_st (wX D a σ) Wr) k n := by
  intro ws hw
  obtain ⟨w2, h2, rfl⟩ := hw
  exact gw_iald (q0 := 10) X pc' j rfl hin hj d hp (kk _ ⟨w2, h2, rfl⟩)
theorem gX_s10 (X : gw_X E cc nL own ret l D R post) (pc' : Nat) (j : Nat) {i : Int32} {x : Int32} (hin : vp_in i 8) (hj : i.toNatClampNeg = j) (d : decode cc pc = .ok (.iastore, 1)) (hp : pc + 1 = pc') (kk : gw_W E pc' lv st (gw_st (wX D a (gw_u σ 10 j x)) Wr) k n) : gw_W E pc lv (.int x :: .int i :: .ref (a 10) :: st) (gw_st (wX D a σ) Wr) k n := by
  intro ws hw
  obtain ⟨w2, h2, rfl⟩ := hw
  exact gw_iast (q0 := 10) (ws' := wX D a (gw_u σ 10 j x) ++ w2) X pc' j rfl hin hj rfl d hp (kk _ ⟨w2, h2, rfl⟩)
theorem gX_n10 (X : gw_X E cc nL own ret l D R post) (pc' : Nat) (d : decode cc pc = .ok (.arraylength, 1)) (hp : pc + 1 = pc') (kk : gw_W E pc' lv (.int 8 :: st) (gw_st (wX D a σ) Wr) k n) : gw_W E pc lv (.ref (a 10) :: st) (gw_st (wX D a σ) Wr) k n := by
  intro ws hw
  obtain ⟨w2, h2, rfl⟩ := hw
  exact gw_alen (q0 := 10) (t0 := 0) X pc' rfl rfl (show Int32.ofNat 8 = 8 by decide) d hp (kk _ ⟨w2, h2, rfl⟩)
theorem gX_l11 (X : gw_X E cc nL own ret l D R post) (pc' : Nat) (j : Nat) {i : Int32} (hin : vp_in i 8) (hj : i.toNatClampNeg = j) (d : decode cc pc = .ok (.iaload, 1)) (hp : pc + 1 = pc') (kk : gw_W E pc' lv (.int (σ.1 11 j) :: st) (gw_st (wX D a σ) Wr) k n) : gw_W E pc lv (.int i :: .ref (a 11) :: st) (gw_st (wX D a σ) Wr) k n := by
  intro ws hw
  obtain ⟨w2, h2, rfl⟩ := hw
  exact gw_iald (q0 := 11) X pc' j rfl hin hj d hp (kk _ ⟨w2, h2, rfl⟩)
theorem gX_s11 (X : gw_X E cc nL own ret l D R post) (pc' : Nat) (j : Nat) {i : Int32} {x : Int32} (hin : vp_in i 8) (hj : i.toNatClampNeg = j) (d : decode cc pc = .ok (.iastore, 1)) (hp : pc + 1 = pc') (kk : gw_W E pc' lv st (gw_st (wX D a (gw_u σ 11 j x)) Wr) k n) : gw_W E pc lv (.int x :: .int i :: .ref (a 11) :: st) (gw_st (wX D a σ) Wr) k n := by
  intro ws hw
  obtain ⟨w2, h2, rfl⟩ := hw
  exact gw_iast (q0 := 11) (ws' := wX D a (gw_u σ 11 j x) ++ w2) X pc' j rfl hin hj rfl d hp (kk _ ⟨w2, h2, rfl⟩)
theorem gX_n11 (X : gw_X E cc nL own ret l D R post) (pc' : Nat) (d : decode cc pc = .ok (.arraylength, 1)) (hp : pc + 1 = pc') (kk : gw_W E pc' lv (.int 8 :: st) (gw_st (wX D a σ) Wr) k n) : gw_W E pc lv (.ref (a 11) :: st) (gw_st (wX D a σ) Wr) k n := by
  intro ws hw
  obtain ⟨w2, h2, rfl⟩ := hw
  exact gw_alen (q0 := 11) (t0 := 0) X pc' rfl rfl (show Int32.ofNat 8 = 8 by decide) d hp (kk _ ⟨w2, h2, rfl⟩)
theorem gX_l12 (X : gw_X E cc nL own ret l D R post) (pc' : Nat) (j : Nat) {i : Int32} (hin : vp_in i 8) (hj : i.toNatClampNeg = j) (d : decode cc pc = .ok (.iaload, 1)) (hp : pc + 1 = pc') (kk : gw_W E pc' lv (.int (σ.1 12 j) :: st) (gw_st (wX D a σ) Wr) k n) : gw_W E pc lv (.int i :: .ref (a 12) :: st) (gw_st (wX D a σ) Wr) k n := by
  intro ws hw
  obtain ⟨w2, h2, rfl⟩ := hw
  exact gw_iald (q0 := 12) X pc' j rfl hin hj d hp (kk _ ⟨w2, h2, rfl⟩)
theorem gX_s12 (X : gw_X E cc nL own ret l D R post) (pc' : Nat) (j : Nat) {i : Int32} {x : Int32} (hin : vp_in i 8) (hj : i.toNatClampNeg = j) (d : decode cc pc = .ok (.iastore, 1)) (hp : pc + 1 = pc') (kk : gw_W E pc' lv st (gw_st (wX D a (gw_u σ 12 j x)) Wr) k n) : gw_W E pc lv (.int x :: .int i :: .ref (a 12) :: st) (gw_st (wX D a σ) Wr) k n := by
  intro ws hw
  obtain ⟨w2, h2, rfl⟩ := hw
  exact gw_iast (q0 := 12) (ws' := wX D a (gw_u σ 12 j x) ++ w2) X pc' j rfl hin hj rfl d hp (kk _ ⟨w2, h2, rfl⟩)
theorem gX_n12 (X : gw_X E cc nL own ret l D R post) (pc' : Nat) (d : decode cc pc = .ok (.arraylength, 1)) (hp : pc + 1 = pc') (kk : gw_W E pc' lv (.int 8 :: st) (gw_st (wX D a σ) Wr) k n) : gw_W E pc lv (.ref (a 12) :: st) (gw_st (wX D a σ) Wr) k n := by
  intro ws hw
  obtain ⟨w2, h2, rfl⟩ := hw
  exact gw_alen (q0 := 12) (t0 := 0) X pc' rfl rfl (show Int32.ofNat 8 = 8 by decide) d hp (kk _ ⟨w2, h2, rfl⟩)
theorem gX_l13 (X : gw_X E cc nL own ret l D R post) (pc' : Nat) (j : Nat) {i : Int32} (hin : vp_in i 40) (hj : i.toNatClampNeg = j) (d : decode cc pc = .ok (.iaload, 1)) (hp : pc + 1 = pc') (kk : gw_W E pc' lv (.int (σ.1 13 j) :: st) (gw_st (wX D a σ) Wr) k n) : gw_W E pc lv (.int i :: .ref (a 13) :: st) (gw_st (wX D a σ) Wr) k n := by
  intro ws hw
  obtain ⟨w2, h2, rfl⟩ := hw
  exact gw_iald (q0 := 13) X pc' j rfl hin hj d hp (kk _ ⟨w2, h2, rfl⟩)
theorem gX_s13 (X : gw_X E cc nL own ret l D R post) (pc' : Nat) (j : Nat) {i : Int32} {x : Int32} (hin : vp_in i 40) (hj : i.toNatClampNeg = j) (d : decode cc pc = .ok (.iastore, 1)) (hp : pc + 1 = pc') (kk : gw_W E pc' lv st (gw_st (wX D a (gw_u σ 13 j x)) Wr) k n) : gw_W E pc lv (.int x :: .int i :: .ref (a 13) :: st) (gw_st (wX D a σ) Wr) k n := by
  intro ws hw
  obtain ⟨w2, h2, rfl⟩ := hw
  exact gw_iast (q0 := 13) (ws' := wX D a (gw_u σ 13 j x) ++ w2) X pc' j rfl hin hj rfl d hp (kk _ ⟨w2, h2, rfl⟩)
theorem gX_n13 (X : gw_X E cc nL own ret l D R post) (pc' : Nat) (d : decode cc pc = .ok (.arraylength, 1)) (hp : pc + 1 = pc') (kk : gw_W E pc' lv (.int 40 :: st) (gw_st (wX D a σ) Wr) k n) : gw_W E pc lv (.ref (a 13) :: st) (gw_st (wX D a σ) Wr) k n := by
  intro ws hw
  obtain ⟨w2, h2, rfl⟩ := hw
  exact gw_alen (q0 := 13) (t0 := 0) X pc' rfl rfl (show Int32.ofNat 40 = 40 by decide) d hp (kk _ ⟨w2, h2, rfl⟩)
theorem gM_at0w (w2 : va_W) : (wM D a σ ++ w2)[0]? = some (a 0, .inr (3, wMf0 a σ)) := rfl
theorem gM_at0 : ∀ ws, (gw_st (wM D a σ) Wr) ws → ∃ fs, ws[0]? = some (a 0, .inr (3, fs)) := fun ws ⟨w2, _, e⟩ => e ▸ ⟨_, gM_at0w (D := D) w2⟩
theorem gM_cl0 : gw_cl[3]? = some (RX3, TX3, 31) := rfl
theorem gM_g0_0 (X : gw_X E cc nL own ret l D R post) (pc' : Nat) {idx : Nat}  (hlk : Cond.fieldLink own idx "CardHolderModel" "thrown" "I" ∈ lw_all) (d : decode cc pc = .ok (.getfield idx, 3)) (hp : pc + 3 = pc') (kk : gw_W E pc' lv (.int (σ.1 0 0) :: st) (gw_st (wM D a σ) Wr) k n) : gw_W E pc lv (.ref (a 0) :: st) (gw_st (wM D a σ) Wr) k n := by
  intro ws hw
  obtain ⟨w2, h2, rfl⟩ := hw
  exact gw_get X pc' in_X3 gM_cl0 (gM_at0w w2) 0 (by decide) hlk rfl rfl d hp (kk _ ⟨w2, h2, rfl⟩)
theorem gM_p0_0 (X : gw_X E cc nL own ret l D R post) (pc' : Nat) {idx : Nat}  {v : Int32} (hlk : Cond.fieldLink own idx "CardHolderModel" "thrown" "I" ∈ lw_all) (d : decode cc pc = .ok (.putfield idx, 3)) (hp : pc + 3 = pc') (kk : gw_W E pc' lv st (gw_st (wM D a (gw_u σ 0 0 v)) Wr) k n) : gw_W E pc lv (.int v :: .ref (a 0) :: st) (gw_st (wM D a σ) Wr) k n := by
  intro ws hw
  obtain ⟨w2, h2, rfl⟩ := hw
  exact gw_put (ws' := wM D a (gw_u σ 0 0 v) ++ w2) X pc' tyX3 tyX3_ok nmX3 in_X3 gM_cl0 (gM_at0w w2) 0 (by decide) hlk rfl rfl (ty := .int) (tyX3_ok 0 (by decide)) rfl rfl (by show 0 < 31; decide) rfl d hp (kk _ ⟨w2, h2, rfl⟩)
theorem gM_g0_1 (X : gw_X E cc nL own ret l D R post) (pc' : Nat) {idx : Nat}  (hlk : Cond.fieldLink own idx "CardHolderModel" "width" "[I" ∈ lw_all) (d : decode cc pc = .ok (.getfield idx, 3)) (hp : pc + 3 = pc') (kk : gw_W E pc' lv (.ref (a 1) :: st) (gw_st (wM D a σ) Wr) k n) : gw_W E pc lv (.ref (a 0) :: st) (gw_st (wM D a σ) Wr) k n := by
  intro ws hw
  obtain ⟨w2, h2, rfl⟩ := hw
  exact gw_get X pc' in_X3 gM_cl0 (gM_at0w w2) 1 (by decide) hlk rfl rfl d hp (kk _ ⟨w2, h2, rfl⟩)
theorem gM_g0_2 (X : gw_X E cc nL own ret l D R post) (pc' : Nat) {idx : Nat}  (hlk : Cond.fieldLink own idx "CardHolderModel" "many" "[I" ∈ lw_all) (d : decode cc pc = .ok (.getfield idx, 3)) (hp : pc + 3 = pc') (kk : gw_W E pc' lv (.ref (a 2) :: st) (gw_st (wM D a σ) Wr) k n) : gw_W E pc lv (.ref (a 0) :: st) (gw_st (wM D a σ) Wr) k n := by
  intro ws hw
  obtain ⟨w2, h2, rfl⟩ := hw
  exact gw_get X pc' in_X3 gM_cl0 (gM_at0w w2) 2 (by decide) hlk rfl rfl d hp (kk _ ⟨w2, h2, rfl⟩)
theorem gM_g0_3 (X : gw_X E cc nL own ret l D R post) (pc' : Nat) {idx : Nat}  (hlk : Cond.fieldLink own idx "CardHolderModel" "cells" "[J" ∈ lw_all) (d : decode cc pc = .ok (.getfield idx, 3)) (hp : pc + 3 = pc') (kk : gw_W E pc' lv (.ref (a 3) :: st) (gw_st (wM D a σ) Wr) k n) : gw_W E pc lv (.ref (a 0) :: st) (gw_st (wM D a σ) Wr) k n := by
  intro ws hw
  obtain ⟨w2, h2, rfl⟩ := hw
  exact gw_get X pc' in_X3 gM_cl0 (gM_at0w w2) 3 (by decide) hlk rfl rfl d hp (kk _ ⟨w2, h2, rfl⟩)
theorem gM_g0_4 (X : gw_X E cc nL own ret l D R post) (pc' : Nat) {idx : Nat}  (hlk : Cond.fieldLink own idx "CardHolderModel" "moved" "[J" ∈ lw_all) (d : decode cc pc = .ok (.getfield idx, 3)) (hp : pc + 3 = pc') (kk : gw_W E pc' lv (.ref (a 4) :: st) (gw_st (wM D a σ) Wr) k n) : gw_W E pc lv (.ref (a 0) :: st) (gw_st (wM D a σ) Wr) k n := by
  intro ws hw
  obtain ⟨w2, h2, rfl⟩ := hw
  exact gw_get X pc' in_X3 gM_cl0 (gM_at0w w2) 4 (by decide) hlk rfl rfl d hp (kk _ ⟨w2, h2, rfl⟩)
theorem gM_g0_5 (X : gw_X E cc nL own ret l D R post) (pc' : Nat) {idx : Nat}  (hlk : Cond.fieldLink own idx "CardHolderModel" "tape" "[B" ∈ lw_all) (d : decode cc pc = .ok (.getfield idx, 3)) (hp : pc + 3 = pc') (kk : gw_W E pc' lv (.ref (a 5) :: st) (gw_st (wM D a σ) Wr) k n) : gw_W E pc lv (.ref (a 0) :: st) (gw_st (wM D a σ) Wr) k n := by
  intro ws hw
  obtain ⟨w2, h2, rfl⟩ := hw
  exact gw_get X pc' in_X3 gM_cl0 (gM_at0w w2) 5 (by decide) hlk rfl rfl d hp (kk _ ⟨w2, h2, rfl⟩)
theorem gM_g0_6 (X : gw_X E cc nL own ret l D R post) (pc' : Nat) {idx : Nat}  (hlk : Cond.fieldLink own idx "CardHolderModel" "taped" "I" ∈ lw_all) (d : decode cc pc = .ok (.getfield idx, 3)) (hp : pc + 3 = pc') (kk : gw_W E pc' lv (.int (σ.1 0 6) :: st) (gw_st (wM D a σ) Wr) k n) : gw_W E pc lv (.ref (a 0) :: st) (gw_st (wM D a σ) Wr) k n := by
  intro ws hw
  obtain ⟨w2, h2, rfl⟩ := hw
  exact gw_get X pc' in_X3 gM_cl0 (gM_at0w w2) 6 (by decide) hlk rfl rfl d hp (kk _ ⟨w2, h2, rfl⟩)
theorem gM_p0_6 (X : gw_X E cc nL own ret l D R post) (pc' : Nat) {idx : Nat}  {v : Int32} (hlk : Cond.fieldLink own idx "CardHolderModel" "taped" "I" ∈ lw_all) (d : decode cc pc = .ok (.putfield idx, 3)) (hp : pc + 3 = pc') (kk : gw_W E pc' lv st (gw_st (wM D a (gw_u σ 0 6 v)) Wr) k n) : gw_W E pc lv (.int v :: .ref (a 0) :: st) (gw_st (wM D a σ) Wr) k n := by
  intro ws hw
  obtain ⟨w2, h2, rfl⟩ := hw
  exact gw_put (ws' := wM D a (gw_u σ 0 6 v) ++ w2) X pc' tyX3 tyX3_ok nmX3 in_X3 gM_cl0 (gM_at0w w2) 6 (by decide) hlk rfl rfl (ty := .int) (tyX3_ok 6 (by decide)) rfl rfl (by show 6 < 31; decide) rfl d hp (kk _ ⟨w2, h2, rfl⟩)
theorem gM_g0_7 (X : gw_X E cc nL own ret l D R post) (pc' : Nat) {idx : Nat}  (hlk : Cond.fieldLink own idx "CardHolderModel" "at" "I" ∈ lw_all) (d : decode cc pc = .ok (.getfield idx, 3)) (hp : pc + 3 = pc') (kk : gw_W E pc' lv (.int (σ.1 0 7) :: st) (gw_st (wM D a σ) Wr) k n) : gw_W E pc lv (.ref (a 0) :: st) (gw_st (wM D a σ) Wr) k n := by
  intro ws hw
  obtain ⟨w2, h2, rfl⟩ := hw
  exact gw_get X pc' in_X3 gM_cl0 (gM_at0w w2) 7 (by decide) hlk rfl rfl d hp (kk _ ⟨w2, h2, rfl⟩)
theorem gM_p0_7 (X : gw_X E cc nL own ret l D R post) (pc' : Nat) {idx : Nat}  {v : Int32} (hlk : Cond.fieldLink own idx "CardHolderModel" "at" "I" ∈ lw_all) (d : decode cc pc = .ok (.putfield idx, 3)) (hp : pc + 3 = pc') (kk : gw_W E pc' lv st (gw_st (wM D a (gw_u σ 0 7 v)) Wr) k n) : gw_W E pc lv (.int v :: .ref (a 0) :: st) (gw_st (wM D a σ) Wr) k n := by
  intro ws hw
  obtain ⟨w2, h2, rfl⟩ := hw
  exact gw_put (ws' := wM D a (gw_u σ 0 7 v) ++ w2) X pc' tyX3 tyX3_ok nmX3 in_X3 gM_cl0 (gM_at0w w2) 7 (by decide) hlk rfl rfl (ty := .int) (tyX3_ok 7 (by decide)) rfl rfl (by show 7 < 31; decide) rfl d hp (kk _ ⟨w2, h2, rfl⟩)
theorem gM_g0_8 (X : gw_X E cc nL own ret l D R post) (pc' : Nat) {idx : Nat}  (hlk : Cond.fieldLink own idx "CardHolderModel" "token" "I" ∈ lw_all) (d : decode cc pc = .ok (.getfield idx, 3)) (hp : pc + 3 = pc') (kk : gw_W E pc' lv (.int (σ.1 0 8) :: st) (gw_st (wM D a σ) Wr) k n) : gw_W E pc lv (.ref (a 0) :: st) (gw_st (wM D a σ) Wr) k n := by
  intro ws hw
  obtain ⟨w2, h2, rfl⟩ := hw
  exact gw_get X pc' in_X3 gM_cl0 (gM_at0w w2) 8 (by decide) hlk rfl rfl d hp (kk _ ⟨w2, h2, rfl⟩)
theorem gM_p0_8 (X : gw_X E cc nL own ret l D R post) (pc' : Nat) {idx : Nat}  {v : Int32} (hlk : Cond.fieldLink own idx "CardHolderModel" "token" "I" ∈ lw_all) (d : decode cc pc = .ok (.putfield idx, 3)) (hp : pc + 3 = pc') (kk : gw_W E pc' lv st (gw_st (wM D a (gw_u σ 0 8 v)) Wr) k n) : gw_W E pc lv (.int v :: .ref (a 0) :: st) (gw_st (wM D a σ) Wr) k n := by
  intro ws hw
  obtain ⟨w2, h2, rfl⟩ := hw
  exact gw_put (ws' := wM D a (gw_u σ 0 8 v) ++ w2) X pc' tyX3 tyX3_ok nmX3 in_X3 gM_cl0 (gM_at0w w2) 8 (by decide) hlk rfl rfl (ty := .int) (tyX3_ok 8 (by decide)) rfl rfl (by show 8 < 31; decide) rfl d hp (kk _ ⟨w2, h2, rfl⟩)
theorem gM_g0_9 (X : gw_X E cc nL own ret l D R post) (pc' : Nat) {idx : Nat}  (hlk : Cond.fieldLink own idx "CardHolderModel" "place" "I" ∈ lw_all) (d : decode cc pc = .ok (.getfield idx, 3)) (hp : pc + 3 = pc') (kk : gw_W E pc' lv (.int (σ.1 0 9) :: st) (gw_st (wM D a σ) Wr) k n) : gw_W E pc lv (.ref (a 0) :: st) (gw_st (wM D a σ) Wr) k n := by
  intro ws hw
  obtain ⟨w2, h2, rfl⟩ := hw
  exact gw_get X pc' in_X3 gM_cl0 (gM_at0w w2) 9 (by decide) hlk rfl rfl d hp (kk _ ⟨w2, h2, rfl⟩)
theorem gM_p0_9 (X : gw_X E cc nL own ret l D R post) (pc' : Nat) {idx : Nat}  {v : Int32} (hlk : Cond.fieldLink own idx "CardHolderModel" "place" "I" ∈ lw_all) (d : decode cc pc = .ok (.putfield idx, 3)) (hp : pc + 3 = pc') (kk : gw_W E pc' lv st (gw_st (wM D a (gw_u σ 0 9 v)) Wr) k n) : gw_W E pc lv (.int v :: .ref (a 0) :: st) (gw_st (wM D a σ) Wr) k n := by
  intro ws hw
  obtain ⟨w2, h2, rfl⟩ := hw
  exact gw_put (ws' := wM D a (gw_u σ 0 9 v) ++ w2) X pc' tyX3 tyX3_ok nmX3 in_X3 gM_cl0 (gM_at0w w2) 9 (by decide) hlk rfl rfl (ty := .int) (tyX3_ok 9 (by decide)) rfl rfl (by show 9 < 31; decide) rfl d hp (kk _ ⟨w2, h2, rfl⟩)
theorem gM_g0_10 (X : gw_X E cc nL own ret l D R post) (pc' : Nat) {idx : Nat}  (hlk : Cond.fieldLink own idx "CardHolderModel" "value" "I" ∈ lw_all) (d : decode cc pc = .ok (.getfield idx, 3)) (hp : pc + 3 = pc') (kk : gw_W E pc' lv (.int (σ.1 0 10) :: st) (gw_st (wM D a σ) Wr) k n) : gw_W E pc lv (.ref (a 0) :: st) (gw_st (wM D a σ) Wr) k n := by
  intro ws hw
  obtain ⟨w2, h2, rfl⟩ := hw
  exact gw_get X pc' in_X3 gM_cl0 (gM_at0w w2) 10 (by decide) hlk rfl rfl d hp (kk _ ⟨w2, h2, rfl⟩)
theorem gM_p0_10 (X : gw_X E cc nL own ret l D R post) (pc' : Nat) {idx : Nat}  {v : Int32} (hlk : Cond.fieldLink own idx "CardHolderModel" "value" "I" ∈ lw_all) (d : decode cc pc = .ok (.putfield idx, 3)) (hp : pc + 3 = pc') (kk : gw_W E pc' lv st (gw_st (wM D a (gw_u σ 0 10 v)) Wr) k n) : gw_W E pc lv (.int v :: .ref (a 0) :: st) (gw_st (wM D a σ) Wr) k n := by
  intro ws hw
  obtain ⟨w2, h2, rfl⟩ := hw
  exact gw_put (ws' := wM D a (gw_u σ 0 10 v) ++ w2) X pc' tyX3 tyX3_ok nmX3 in_X3 gM_cl0 (gM_at0w w2) 10 (by decide) hlk rfl rfl (ty := .int) (tyX3_ok 10 (by decide)) rfl rfl (by show 10 < 31; decide) rfl d hp (kk _ ⟨w2, h2, rfl⟩)
theorem gM_g0_11 (X : gw_X E cc nL own ret l D R post) (pc' : Nat) {idx : Nat}  (hlk : Cond.fieldLink own idx "CardHolderModel" "word" "J" ∈ lw_all) (d : decode cc pc = .ok (.getfield idx, 3)) (hp : pc + 3 = pc') (kk : gw_W E pc' lv (.long (σ.2 0 11) :: st) (gw_st (wM D a σ) Wr) k n) : gw_W E pc lv (.ref (a 0) :: st) (gw_st (wM D a σ) Wr) k n := by
  intro ws hw
  obtain ⟨w2, h2, rfl⟩ := hw
  exact gw_get X pc' in_X3 gM_cl0 (gM_at0w w2) 11 (by decide) hlk rfl rfl d hp (kk _ ⟨w2, h2, rfl⟩)
theorem gM_p0_11 (X : gw_X E cc nL own ret l D R post) (pc' : Nat) {idx : Nat}  {v : Int64} (hlk : Cond.fieldLink own idx "CardHolderModel" "word" "J" ∈ lw_all) (d : decode cc pc = .ok (.putfield idx, 3)) (hp : pc + 3 = pc') (kk : gw_W E pc' lv st (gw_st (wM D a (gw_ul σ 0 11 v)) Wr) k n) : gw_W E pc lv (.long v :: .ref (a 0) :: st) (gw_st (wM D a σ) Wr) k n := by
  intro ws hw
  obtain ⟨w2, h2, rfl⟩ := hw
  exact gw_put (ws' := wM D a (gw_ul σ 0 11 v) ++ w2) X pc' tyX3 tyX3_ok nmX3 in_X3 gM_cl0 (gM_at0w w2) 11 (by decide) hlk rfl rfl (ty := .long) (tyX3_ok 11 (by decide)) rfl rfl (by show 11 < 31; decide) rfl d hp (kk _ ⟨w2, h2, rfl⟩)
theorem gM_g0_12 (X : gw_X E cc nL own ret l D R post) (pc' : Nat) {idx : Nat}  (hlk : Cond.fieldLink own idx "CardHolderModel" "bad" "I" ∈ lw_all) (d : decode cc pc = .ok (.getfield idx, 3)) (hp : pc + 3 = pc') (kk : gw_W E pc' lv (.int (σ.1 0 12) :: st) (gw_st (wM D a σ) Wr) k n) : gw_W E pc lv (.ref (a 0) :: st) (gw_st (wM D a σ) Wr) k n := by
  intro ws hw
  obtain ⟨w2, h2, rfl⟩ := hw
  exact gw_get X pc' in_X3 gM_cl0 (gM_at0w w2) 12 (by decide) hlk rfl rfl d hp (kk _ ⟨w2, h2, rfl⟩)
theorem gM_p0_12 (X : gw_X E cc nL own ret l D R post) (pc' : Nat) {idx : Nat}  {v : Int32} (hlk : Cond.fieldLink own idx "CardHolderModel" "bad" "I" ∈ lw_all) (d : decode cc pc = .ok (.putfield idx, 3)) (hp : pc + 3 = pc') (kk : gw_W E pc' lv st (gw_st (wM D a (gw_u σ 0 12 v)) Wr) k n) : gw_W E pc lv (.int v :: .ref (a 0) :: st) (gw_st (wM D a σ) Wr) k n := by
  intro ws hw
  obtain ⟨w2, h2, rfl⟩ := hw
  exact gw_put (ws' := wM D a (gw_u σ 0 12 v) ++ w2) X pc' tyX3 tyX3_ok nmX3 in_X3 gM_cl0 (gM_at0w w2) 12 (by decide) hlk rfl rfl (ty := .int) (tyX3_ok 12 (by decide)) rfl rfl (by show 12 < 31; decide) rfl d hp (kk _ ⟨w2, h2, rfl⟩)
theorem gM_g0_13 (X : gw_X E cc nL own ret l D R post) (pc' : Nat) {idx : Nat}  (hlk : Cond.fieldLink own idx "CardHolderModel" "badPlace" "I" ∈ lw_all) (d : decode cc pc = .ok (.getfield idx, 3)) (hp : pc + 3 = pc') (kk : gw_W E pc' lv (.int (σ.1 0 13) :: st) (gw_st (wM D a σ) Wr) k n) : gw_W E pc lv (.ref (a 0) :: st) (gw_st (wM D a σ) Wr) k n := by
  intro ws hw
  obtain ⟨w2, h2, rfl⟩ := hw
  exact gw_get X pc' in_X3 gM_cl0 (gM_at0w w2) 13 (by decide) hlk rfl rfl d hp (kk _ ⟨w2, h2, rfl⟩)
theorem gM_p0_13 (X : gw_X E cc nL own ret l D R post) (pc' : Nat) {idx : Nat}  {v : Int32} (hlk : Cond.fieldLink own idx "CardHolderModel" "badPlace" "I" ∈ lw_all) (d : decode cc pc = .ok (.putfield idx, 3)) (hp : pc + 3 = pc') (kk : gw_W E pc' lv st (gw_st (wM D a (gw_u σ 0 13 v)) Wr) k n) : gw_W E pc lv (.int v :: .ref (a 0) :: st) (gw_st (wM D a σ) Wr) k n := by
  intro ws hw
  obtain ⟨w2, h2, rfl⟩ := hw
  exact gw_put (ws' := wM D a (gw_u σ 0 13 v) ++ w2) X pc' tyX3 tyX3_ok nmX3 in_X3 gM_cl0 (gM_at0w w2) 13 (by decide) hlk rfl rfl (ty := .int) (tyX3_ok 13 (by decide)) rfl rfl (by show 13 < 31; decide) rfl d hp (kk _ ⟨w2, h2, rfl⟩)
theorem gM_g0_14 (X : gw_X E cc nL own ret l D R post) (pc' : Nat) {idx : Nat}  (hlk : Cond.fieldLink own idx "CardHolderModel" "fault" "I" ∈ lw_all) (d : decode cc pc = .ok (.getfield idx, 3)) (hp : pc + 3 = pc') (kk : gw_W E pc' lv (.int (σ.1 0 14) :: st) (gw_st (wM D a σ) Wr) k n) : gw_W E pc lv (.ref (a 0) :: st) (gw_st (wM D a σ) Wr) k n := by
  intro ws hw
  obtain ⟨w2, h2, rfl⟩ := hw
  exact gw_get X pc' in_X3 gM_cl0 (gM_at0w w2) 14 (by decide) hlk rfl rfl d hp (kk _ ⟨w2, h2, rfl⟩)
theorem gM_p0_14 (X : gw_X E cc nL own ret l D R post) (pc' : Nat) {idx : Nat}  {v : Int32} (hlk : Cond.fieldLink own idx "CardHolderModel" "fault" "I" ∈ lw_all) (d : decode cc pc = .ok (.putfield idx, 3)) (hp : pc + 3 = pc') (kk : gw_W E pc' lv st (gw_st (wM D a (gw_u σ 0 14 v)) Wr) k n) : gw_W E pc lv (.int v :: .ref (a 0) :: st) (gw_st (wM D a σ) Wr) k n := by
  intro ws hw
  obtain ⟨w2, h2, rfl⟩ := hw
  exact gw_put (ws' := wM D a (gw_u σ 0 14 v) ++ w2) X pc' tyX3 tyX3_ok nmX3 in_X3 gM_cl0 (gM_at0w w2) 14 (by decide) hlk rfl rfl (ty := .int) (tyX3_ok 14 (by decide)) rfl rfl (by show 14 < 31; decide) rfl d hp (kk _ ⟨w2, h2, rfl⟩)
theorem gM_g0_15 (X : gw_X E cc nL own ret l D R post) (pc' : Nat) {idx : Nat}  (hlk : Cond.fieldLink own idx "CardHolderModel" "faultPlace" "I" ∈ lw_all) (d : decode cc pc = .ok (.getfield idx, 3)) (hp : pc + 3 = pc') (kk : gw_W E pc' lv (.int (σ.1 0 15) :: st) (gw_st (wM D a σ) Wr) k n) : gw_W E pc lv (.ref (a 0) :: st) (gw_st (wM D a σ) Wr) k n := by
  intro ws hw
  obtain ⟨w2, h2, rfl⟩ := hw
  exact gw_get X pc' in_X3 gM_cl0 (gM_at0w w2) 15 (by decide) hlk rfl rfl d hp (kk _ ⟨w2, h2, rfl⟩)
theorem gM_p0_15 (X : gw_X E cc nL own ret l D R post) (pc' : Nat) {idx : Nat}  {v : Int32} (hlk : Cond.fieldLink own idx "CardHolderModel" "faultPlace" "I" ∈ lw_all) (d : decode cc pc = .ok (.putfield idx, 3)) (hp : pc + 3 = pc') (kk : gw_W E pc' lv st (gw_st (wM D a (gw_u σ 0 15 v)) Wr) k n) : gw_W E pc lv (.int v :: .ref (a 0) :: st) (gw_st (wM D a σ) Wr) k n := by
  intro ws hw
  obtain ⟨w2, h2, rfl⟩ := hw
  exact gw_put (ws' := wM D a (gw_u σ 0 15 v) ++ w2) X pc' tyX3 tyX3_ok nmX3 in_X3 gM_cl0 (gM_at0w w2) 15 (by decide) hlk rfl rfl (ty := .int) (tyX3_ok 15 (by decide)) rfl rfl (by show 15 < 31; decide) rfl d hp (kk _ ⟨w2, h2, rfl⟩)
theorem gM_g0_16 (X : gw_X E cc nL own ret l D R post) (pc' : Nat) {idx : Nat}  (hlk : Cond.fieldLink own idx "CardHolderModel" "lines" "[I" ∈ lw_all) (d : decode cc pc = .ok (.getfield idx, 3)) (hp : pc + 3 = pc') (kk : gw_W E pc' lv (.ref (a 6) :: st) (gw_st (wM D a σ) Wr) k n) : gw_W E pc lv (.ref (a 0) :: st) (gw_st (wM D a σ) Wr) k n := by
  intro ws hw
  obtain ⟨w2, h2, rfl⟩ := hw
  exact gw_get X pc' in_X3 gM_cl0 (gM_at0w w2) 16 (by decide) hlk rfl rfl d hp (kk _ ⟨w2, h2, rfl⟩)
theorem gM_g0_17 (X : gw_X E cc nL own ret l D R post) (pc' : Nat) {idx : Nat}  (hlk : Cond.fieldLink own idx "CardHolderModel" "has" "[I" ∈ lw_all) (d : decode cc pc = .ok (.getfield idx, 3)) (hp : pc + 3 = pc') (kk : gw_W E pc' lv (.ref (a 7) :: st) (gw_st (wM D a σ) Wr) k n) : gw_W E pc lv (.ref (a 0) :: st) (gw_st (wM D a σ) Wr) k n := by
  intro ws hw
  obtain ⟨w2, h2, rfl⟩ := hw
  exact gw_get X pc' in_X3 gM_cl0 (gM_at0w w2) 17 (by decide) hlk rfl rfl d hp (kk _ ⟨w2, h2, rfl⟩)
theorem gM_g0_18 (X : gw_X E cc nL own ret l D R post) (pc' : Nat) {idx : Nat}  (hlk : Cond.fieldLink own idx "CardHolderModel" "person" "[I" ∈ lw_all) (d : decode cc pc = .ok (.getfield idx, 3)) (hp : pc + 3 = pc') (kk : gw_W E pc' lv (.ref (a 8) :: st) (gw_st (wM D a σ) Wr) k n) : gw_W E pc lv (.ref (a 0) :: st) (gw_st (wM D a σ) Wr) k n := by
  intro ws hw
  obtain ⟨w2, h2, rfl⟩ := hw
  exact gw_get X pc' in_X3 gM_cl0 (gM_at0w w2) 18 (by decide) hlk rfl rfl d hp (kk _ ⟨w2, h2, rfl⟩)
theorem gM_g0_19 (X : gw_X E cc nL own ret l D R post) (pc' : Nat) {idx : Nat}  (hlk : Cond.fieldLink own idx "CardHolderModel" "act" "[I" ∈ lw_all) (d : decode cc pc = .ok (.getfield idx, 3)) (hp : pc + 3 = pc') (kk : gw_W E pc' lv (.ref (a 9) :: st) (gw_st (wM D a σ) Wr) k n) : gw_W E pc lv (.ref (a 0) :: st) (gw_st (wM D a σ) Wr) k n := by
  intro ws hw
  obtain ⟨w2, h2, rfl⟩ := hw
  exact gw_get X pc' in_X3 gM_cl0 (gM_at0w w2) 19 (by decide) hlk rfl rfl d hp (kk _ ⟨w2, h2, rfl⟩)
theorem gM_g0_20 (X : gw_X E cc nL own ret l D R post) (pc' : Nat) {idx : Nat}  (hlk : Cond.fieldLink own idx "CardHolderModel" "isKept" "[Z" ∈ lw_all) (d : decode cc pc = .ok (.getfield idx, 3)) (hp : pc + 3 = pc') (kk : gw_W E pc' lv (.ref (a 10) :: st) (gw_st (wM D a σ) Wr) k n) : gw_W E pc lv (.ref (a 0) :: st) (gw_st (wM D a σ) Wr) k n := by
  intro ws hw
  obtain ⟨w2, h2, rfl⟩ := hw
  exact gw_get X pc' in_X3 gM_cl0 (gM_at0w w2) 20 (by decide) hlk rfl rfl d hp (kk _ ⟨w2, h2, rfl⟩)
theorem gM_g0_21 (X : gw_X E cc nL own ret l D R post) (pc' : Nat) {idx : Nat}  (hlk : Cond.fieldLink own idx "CardHolderModel" "holder" "[I" ∈ lw_all) (d : decode cc pc = .ok (.getfield idx, 3)) (hp : pc + 3 = pc') (kk : gw_W E pc' lv (.ref (a 11) :: st) (gw_st (wM D a σ) Wr) k n) : gw_W E pc lv (.ref (a 0) :: st) (gw_st (wM D a σ) Wr) k n := by
  intro ws hw
  obtain ⟨w2, h2, rfl⟩ := hw
  exact gw_get X pc' in_X3 gM_cl0 (gM_at0w w2) 21 (by decide) hlk rfl rfl d hp (kk _ ⟨w2, h2, rfl⟩)
theorem gM_g0_22 (X : gw_X E cc nL own ret l D R post) (pc' : Nat) {idx : Nat}  (hlk : Cond.fieldLink own idx "CardHolderModel" "worn" "[I" ∈ lw_all) (d : decode cc pc = .ok (.getfield idx, 3)) (hp : pc + 3 = pc') (kk : gw_W E pc' lv (.ref (a 12) :: st) (gw_st (wM D a σ) Wr) k n) : gw_W E pc lv (.ref (a 0) :: st) (gw_st (wM D a σ) Wr) k n := by
  intro ws hw
  obtain ⟨w2, h2, rfl⟩ := hw
  exact gw_get X pc' in_X3 gM_cl0 (gM_at0w w2) 22 (by decide) hlk rfl rfl d hp (kk _ ⟨w2, h2, rfl⟩)
theorem gM_g0_23 (X : gw_X E cc nL own ret l D R post) (pc' : Nat) {idx : Nat}  (hlk : Cond.fieldLink own idx "CardHolderModel" "had" "[I" ∈ lw_all) (d : decode cc pc = .ok (.getfield idx, 3)) (hp : pc + 3 = pc') (kk : gw_W E pc' lv (.ref (a 13) :: st) (gw_st (wM D a σ) Wr) k n) : gw_W E pc lv (.ref (a 0) :: st) (gw_st (wM D a σ) Wr) k n := by
  intro ws hw
  obtain ⟨w2, h2, rfl⟩ := hw
  exact gw_get X pc' in_X3 gM_cl0 (gM_at0w w2) 23 (by decide) hlk rfl rfl d hp (kk _ ⟨w2, h2, rfl⟩)
theorem gM_g0_24 (X : gw_X E cc nL own ret l D R post) (pc' : Nat) {idx : Nat}  (hlk : Cond.fieldLink own idx "CardHolderModel" "asked" "I" ∈ lw_all) (d : decode cc pc = .ok (.getfield idx, 3)) (hp : pc + 3 = pc') (kk : gw_W E pc' lv (.int (σ.1 0 24) :: st) (gw_st (wM D a σ) Wr) k n) : gw_W E pc lv (.ref (a 0) :: st) (gw_st (wM D a σ) Wr) k n := by
  intro ws hw
  obtain ⟨w2, h2, rfl⟩ := hw
  exact gw_get X pc' in_X3 gM_cl0 (gM_at0w w2) 24 (by decide) hlk rfl rfl d hp (kk _ ⟨w2, h2, rfl⟩)
theorem gM_p0_24 (X : gw_X E cc nL own ret l D R post) (pc' : Nat) {idx : Nat}  {v : Int32} (hlk : Cond.fieldLink own idx "CardHolderModel" "asked" "I" ∈ lw_all) (d : decode cc pc = .ok (.putfield idx, 3)) (hp : pc + 3 = pc') (kk : gw_W E pc' lv st (gw_st (wM D a (gw_u σ 0 24 v)) Wr) k n) : gw_W E pc lv (.int v :: .ref (a 0) :: st) (gw_st (wM D a σ) Wr) k n := by
  intro ws hw
  obtain ⟨w2, h2, rfl⟩ := hw
  exact gw_put (ws' := wM D a (gw_u σ 0 24 v) ++ w2) X pc' tyX3 tyX3_ok nmX3 in_X3 gM_cl0 (gM_at0w w2) 24 (by decide) hlk rfl rfl (ty := .int) (tyX3_ok 24 (by decide)) rfl rfl (by show 24 < 31; decide) rfl d hp (kk _ ⟨w2, h2, rfl⟩)
theorem gM_g0_25 (X : gw_X E cc nL own ret l D R post) (pc' : Nat) {idx : Nat}  (hlk : Cond.fieldLink own idx "CardHolderModel" "stolen" "I" ∈ lw_all) (d : decode cc pc = .ok (.getfield idx, 3)) (hp : pc + 3 = pc') (kk : gw_W E pc' lv (.int (σ.1 0 25) :: st) (gw_st (wM D a σ) Wr) k n) : gw_W E pc lv (.ref (a 0) :: st) (gw_st (wM D a σ) Wr) k n := by
  intro ws hw
  obtain ⟨w2, h2, rfl⟩ := hw
  exact gw_get X pc' in_X3 gM_cl0 (gM_at0w w2) 25 (by decide) hlk rfl rfl d hp (kk _ ⟨w2, h2, rfl⟩)
theorem gM_p0_25 (X : gw_X E cc nL own ret l D R post) (pc' : Nat) {idx : Nat}  {v : Int32} (hlk : Cond.fieldLink own idx "CardHolderModel" "stolen" "I" ∈ lw_all) (d : decode cc pc = .ok (.putfield idx, 3)) (hp : pc + 3 = pc') (kk : gw_W E pc' lv st (gw_st (wM D a (gw_u σ 0 25 v)) Wr) k n) : gw_W E pc lv (.int v :: .ref (a 0) :: st) (gw_st (wM D a σ) Wr) k n := by
  intro ws hw
  obtain ⟨w2, h2, rfl⟩ := hw
  exact gw_put (ws' := wM D a (gw_u σ 0 25 v) ++ w2) X pc' tyX3 tyX3_ok nmX3 in_X3 gM_cl0 (gM_at0w w2) 25 (by decide) hlk rfl rfl (ty := .int) (tyX3_ok 25 (by decide)) rfl rfl (by show 25 < 31; decide) rfl d hp (kk _ ⟨w2, h2, rfl⟩)
theorem gM_g0_26 (X : gw_X E cc nL own ret l D R post) (pc' : Nat) {idx : Nat}  (hlk : Cond.fieldLink own idx "CardHolderModel" "dayNow" "I" ∈ lw_all) (d : decode cc pc = .ok (.getfield idx, 3)) (hp : pc + 3 = pc') (kk : gw_W E pc' lv (.int (σ.1 0 26) :: st) (gw_st (wM D a σ) Wr) k n) : gw_W E pc lv (.ref (a 0) :: st) (gw_st (wM D a σ) Wr) k n := by
  intro ws hw
  obtain ⟨w2, h2, rfl⟩ := hw
  exact gw_get X pc' in_X3 gM_cl0 (gM_at0w w2) 26 (by decide) hlk rfl rfl d hp (kk _ ⟨w2, h2, rfl⟩)
theorem gM_p0_26 (X : gw_X E cc nL own ret l D R post) (pc' : Nat) {idx : Nat}  {v : Int32} (hlk : Cond.fieldLink own idx "CardHolderModel" "dayNow" "I" ∈ lw_all) (d : decode cc pc = .ok (.putfield idx, 3)) (hp : pc + 3 = pc') (kk : gw_W E pc' lv st (gw_st (wM D a (gw_u σ 0 26 v)) Wr) k n) : gw_W E pc lv (.int v :: .ref (a 0) :: st) (gw_st (wM D a σ) Wr) k n := by
  intro ws hw
  obtain ⟨w2, h2, rfl⟩ := hw
  exact gw_put (ws' := wM D a (gw_u σ 0 26 v) ++ w2) X pc' tyX3 tyX3_ok nmX3 in_X3 gM_cl0 (gM_at0w w2) 26 (by decide) hlk rfl rfl (ty := .int) (tyX3_ok 26 (by decide)) rfl rfl (by show 26 < 31; decide) rfl d hp (kk _ ⟨w2, h2, rfl⟩)
theorem gM_g0_27 (X : gw_X E cc nL own ret l D R post) (pc' : Nat) {idx : Nat}  (hlk : Cond.fieldLink own idx "CardHolderModel" "done" "I" ∈ lw_all) (d : decode cc pc = .ok (.getfield idx, 3)) (hp : pc + 3 = pc') (kk : gw_W E pc' lv (.int (σ.1 0 27) :: st) (gw_st (wM D a σ) Wr) k n) : gw_W E pc lv (.ref (a 0) :: st) (gw_st (wM D a σ) Wr) k n := by
  intro ws hw
  obtain ⟨w2, h2, rfl⟩ := hw
  exact gw_get X pc' in_X3 gM_cl0 (gM_at0w w2) 27 (by decide) hlk rfl rfl d hp (kk _ ⟨w2, h2, rfl⟩)
theorem gM_p0_27 (X : gw_X E cc nL own ret l D R post) (pc' : Nat) {idx : Nat}  {v : Int32} (hlk : Cond.fieldLink own idx "CardHolderModel" "done" "I" ∈ lw_all) (d : decode cc pc = .ok (.putfield idx, 3)) (hp : pc + 3 = pc') (kk : gw_W E pc' lv st (gw_st (wM D a (gw_u σ 0 27 v)) Wr) k n) : gw_W E pc lv (.int v :: .ref (a 0) :: st) (gw_st (wM D a σ) Wr) k n := by
  intro ws hw
  obtain ⟨w2, h2, rfl⟩ := hw
  exact gw_put (ws' := wM D a (gw_u σ 0 27 v) ++ w2) X pc' tyX3 tyX3_ok nmX3 in_X3 gM_cl0 (gM_at0w w2) 27 (by decide) hlk rfl rfl (ty := .int) (tyX3_ok 27 (by decide)) rfl rfl (by show 27 < 31; decide) rfl d hp (kk _ ⟨w2, h2, rfl⟩)
theorem gM_g0_28 (X : gw_X E cc nL own ret l D R post) (pc' : Nat) {idx : Nat}  (hlk : Cond.fieldLink own idx "CardHolderModel" "most" "[I" ∈ lw_all) (d : decode cc pc = .ok (.getfield idx, 3)) (hp : pc + 3 = pc') (kk : gw_W E pc' lv (.ref (a 14) :: st) (gw_st (wM D a σ) Wr) k n) : gw_W E pc lv (.ref (a 0) :: st) (gw_st (wM D a σ) Wr) k n := by
  intro ws hw
  obtain ⟨w2, h2, rfl⟩ := hw
  exact gw_get X pc' in_X3 gM_cl0 (gM_at0w w2) 28 (by decide) hlk rfl rfl d hp (kk _ ⟨w2, h2, rfl⟩)
theorem gM_g0_29 (X : gw_X E cc nL own ret l D R post) (pc' : Nat) {idx : Nat}  (hlk : Cond.fieldLink own idx "CardHolderModel" "watchBest" "I" ∈ lw_all) (d : decode cc pc = .ok (.getfield idx, 3)) (hp : pc + 3 = pc') (kk : gw_W E pc' lv (.int (σ.1 0 29) :: st) (gw_st (wM D a σ) Wr) k n) : gw_W E pc lv (.ref (a 0) :: st) (gw_st (wM D a σ) Wr) k n := by
  intro ws hw
  obtain ⟨w2, h2, rfl⟩ := hw
  exact gw_get X pc' in_X3 gM_cl0 (gM_at0w w2) 29 (by decide) hlk rfl rfl d hp (kk _ ⟨w2, h2, rfl⟩)
theorem gM_p0_29 (X : gw_X E cc nL own ret l D R post) (pc' : Nat) {idx : Nat}  {v : Int32} (hlk : Cond.fieldLink own idx "CardHolderModel" "watchBest" "I" ∈ lw_all) (d : decode cc pc = .ok (.putfield idx, 3)) (hp : pc + 3 = pc') (kk : gw_W E pc' lv st (gw_st (wM D a (gw_u σ 0 29 v)) Wr) k n) : gw_W E pc lv (.int v :: .ref (a 0) :: st) (gw_st (wM D a σ) Wr) k n := by
  intro ws hw
  obtain ⟨w2, h2, rfl⟩ := hw
  exact gw_put (ws' := wM D a (gw_u σ 0 29 v) ++ w2) X pc' tyX3 tyX3_ok nmX3 in_X3 gM_cl0 (gM_at0w w2) 29 (by decide) hlk rfl rfl (ty := .int) (tyX3_ok 29 (by decide)) rfl rfl (by show 29 < 31; decide) rfl d hp (kk _ ⟨w2, h2, rfl⟩)
theorem gM_g0_30 (X : gw_X E cc nL own ret l D R post) (pc' : Nat) {idx : Nat}  (hlk : Cond.fieldLink own idx "CardHolderModel" "watchLeaves" "I" ∈ lw_all) (d : decode cc pc = .ok (.getfield idx, 3)) (hp : pc + 3 = pc') (kk : gw_W E pc' lv (.int (σ.1 0 30) :: st) (gw_st (wM D a σ) Wr) k n) : gw_W E pc lv (.ref (a 0) :: st) (gw_st (wM D a σ) Wr) k n := by
  intro ws hw
  obtain ⟨w2, h2, rfl⟩ := hw
  exact gw_get X pc' in_X3 gM_cl0 (gM_at0w w2) 30 (by decide) hlk rfl rfl d hp (kk _ ⟨w2, h2, rfl⟩)
theorem gM_p0_30 (X : gw_X E cc nL own ret l D R post) (pc' : Nat) {idx : Nat}  {v : Int32} (hlk : Cond.fieldLink own idx "CardHolderModel" "watchLeaves" "I" ∈ lw_all) (d : decode cc pc = .ok (.putfield idx, 3)) (hp : pc + 3 = pc') (kk : gw_W E pc' lv st (gw_st (wM D a (gw_u σ 0 30 v)) Wr) k n) : gw_W E pc lv (.int v :: .ref (a 0) :: st) (gw_st (wM D a σ) Wr) k n := by
  intro ws hw
  obtain ⟨w2, h2, rfl⟩ := hw
  exact gw_put (ws' := wM D a (gw_u σ 0 30 v) ++ w2) X pc' tyX3 tyX3_ok nmX3 in_X3 gM_cl0 (gM_at0w w2) 30 (by decide) hlk rfl rfl (ty := .int) (tyX3_ok 30 (by decide)) rfl rfl (by show 30 < 31; decide) rfl d hp (kk _ ⟨w2, h2, rfl⟩)
theorem gM_l1 (X : gw_X E cc nL own ret l D R post) (pc' : Nat) (j : Nat) {i : Int32} (hin : vp_in i 4) (hj : i.toNatClampNeg = j) (d : decode cc pc = .ok (.iaload, 1)) (hp : pc + 1 = pc') (kk : gw_W E pc' lv (.int (σ.1 1 j) :: st) (gw_st (wM D a σ) Wr) k n) : gw_W E pc lv (.int i :: .ref (a 1) :: st) (gw_st (wM D a σ) Wr) k n := by
  intro ws hw
  obtain ⟨w2, h2, rfl⟩ := hw
  exact gw_iald (q0 := 1) X pc' j rfl hin hj d hp (kk _ ⟨w2, h2, rfl⟩)
theorem gM_s1 (X : gw_X E cc nL own ret l D R post) (pc' : Nat) (j : Nat) {i : Int32} {x : Int32} (hin : vp_in i 4) (hj : i.toNatClampNeg = j) (d : decode cc pc = .ok (.iastore, 1)) (hp : pc + 1 = pc') (kk : gw_W E pc' lv st (gw_st (wM D a (gw_u σ 1 j x)) Wr) k n) : gw_W E pc lv (.int x :: .int i :: .ref (a 1) :: st) (gw_st (wM D a σ) Wr) k n := by
  intro ws hw
  obtain ⟨w2, h2, rfl⟩ := hw
  exact gw_iast (q0 := 1) (ws' := wM D a (gw_u σ 1 j x) ++ w2) X pc' j rfl hin hj rfl d hp (kk _ ⟨w2, h2, rfl⟩)
theorem gM_n1 (X : gw_X E cc nL own ret l D R post) (pc' : Nat) (d : decode cc pc = .ok (.arraylength, 1)) (hp : pc + 1 = pc') (kk : gw_W E pc' lv (.int 4 :: st) (gw_st (wM D a σ) Wr) k n) : gw_W E pc lv (.ref (a 1) :: st) (gw_st (wM D a σ) Wr) k n := by
  intro ws hw
  obtain ⟨w2, h2, rfl⟩ := hw
  exact gw_alen (q0 := 1) (t0 := 0) X pc' rfl rfl (show Int32.ofNat 4 = 4 by decide) d hp (kk _ ⟨w2, h2, rfl⟩)
theorem gM_l2 (X : gw_X E cc nL own ret l D R post) (pc' : Nat) (j : Nat) {i : Int32} (hin : vp_in i 4) (hj : i.toNatClampNeg = j) (d : decode cc pc = .ok (.iaload, 1)) (hp : pc + 1 = pc') (kk : gw_W E pc' lv (.int (σ.1 2 j) :: st) (gw_st (wM D a σ) Wr) k n) : gw_W E pc lv (.int i :: .ref (a 2) :: st) (gw_st (wM D a σ) Wr) k n := by
  intro ws hw
  obtain ⟨w2, h2, rfl⟩ := hw
  exact gw_iald (q0 := 2) X pc' j rfl hin hj d hp (kk _ ⟨w2, h2, rfl⟩)
theorem gM_s2 (X : gw_X E cc nL own ret l D R post) (pc' : Nat) (j : Nat) {i : Int32} {x : Int32} (hin : vp_in i 4) (hj : i.toNatClampNeg = j) (d : decode cc pc = .ok (.iastore, 1)) (hp : pc + 1 = pc') (kk : gw_W E pc' lv st (gw_st (wM D a (gw_u σ 2 j x)) Wr) k n) : gw_W E pc lv (.int x :: .int i :: .ref (a 2) :: st) (gw_st (wM D a σ) Wr) k n := by
  intro ws hw
  obtain ⟨w2, h2, rfl⟩ := hw
  exact gw_iast (q0 := 2) (ws' := wM D a (gw_u σ 2 j x) ++ w2) X pc' j rfl hin hj rfl d hp (kk _ ⟨w2, h2, rfl⟩)
theorem gM_n2 (X : gw_X E cc nL own ret l D R post) (pc' : Nat) (d : decode cc pc = .ok (.arraylength, 1)) (hp : pc + 1 = pc') (kk : gw_W E pc' lv (.int 4 :: st) (gw_st (wM D a σ) Wr) k n) : gw_W E pc lv (.ref (a 2) :: st) (gw_st (wM D a σ) Wr) k n := by
  intro ws hw
  obtain ⟨w2, h2, rfl⟩ := hw
  exact gw_alen (q0 := 2) (t0 := 0) X pc' rfl rfl (show Int32.ofNat 4 = 4 by decide) d hp (kk _ ⟨w2, h2, rfl⟩)
theorem gM_l3 (X : gw_X E cc nL own ret l D R post) (pc' : Nat) (j : Nat) {i : Int32} (hin : vp_in i 240) (hj : i.toNatClampNeg = j) (d : decode cc pc = .ok (.laload, 1)) (hp : pc + 1 = pc') (kk : gw_W E pc' lv (.long (σ.2 3 j) :: st) (gw_st (wM D a σ) Wr) k n) : gw_W E pc lv (.int i :: .ref (a 3) :: st) (gw_st (wM D a σ) Wr) k n := by
  intro ws hw
  obtain ⟨w2, h2, rfl⟩ := hw
  exact gw_lald (q0 := 3) X pc' j rfl hin hj d hp (kk _ ⟨w2, h2, rfl⟩)
theorem gM_s3 (X : gw_X E cc nL own ret l D R post) (pc' : Nat) (j : Nat) {i : Int32} {x : Int64} (hin : vp_in i 240) (hj : i.toNatClampNeg = j) (d : decode cc pc = .ok (.lastore, 1)) (hp : pc + 1 = pc') (kk : gw_W E pc' lv st (gw_st (wM D a (gw_ul σ 3 j x)) Wr) k n) : gw_W E pc lv (.long x :: .int i :: .ref (a 3) :: st) (gw_st (wM D a σ) Wr) k n := by
  intro ws hw
  obtain ⟨w2, h2, rfl⟩ := hw
  exact gw_last (q0 := 3) (ws' := wM D a (gw_ul σ 3 j x) ++ w2) X pc' j rfl hin hj rfl d hp (kk _ ⟨w2, h2, rfl⟩)
theorem gM_n3 (X : gw_X E cc nL own ret l D R post) (pc' : Nat) (d : decode cc pc = .ok (.arraylength, 1)) (hp : pc + 1 = pc') (kk : gw_W E pc' lv (.int 240 :: st) (gw_st (wM D a σ) Wr) k n) : gw_W E pc lv (.ref (a 3) :: st) (gw_st (wM D a σ) Wr) k n := by
  intro ws hw
  obtain ⟨w2, h2, rfl⟩ := hw
  exact gw_alen (q0 := 3) (t0 := 2) X pc' rfl rfl (show Int32.ofNat 240 = 240 by decide) d hp (kk _ ⟨w2, h2, rfl⟩)
theorem gM_l4 (X : gw_X E cc nL own ret l D R post) (pc' : Nat) (j : Nat) {i : Int32} (hin : vp_in i 60) (hj : i.toNatClampNeg = j) (d : decode cc pc = .ok (.laload, 1)) (hp : pc + 1 = pc') (kk : gw_W E pc' lv (.long (σ.2 4 j) :: st) (gw_st (wM D a σ) Wr) k n) : gw_W E pc lv (.int i :: .ref (a 4) :: st) (gw_st (wM D a σ) Wr) k n := by
  intro ws hw
  obtain ⟨w2, h2, rfl⟩ := hw
  exact gw_lald (q0 := 4) X pc' j rfl hin hj d hp (kk _ ⟨w2, h2, rfl⟩)
theorem gM_s4 (X : gw_X E cc nL own ret l D R post) (pc' : Nat) (j : Nat) {i : Int32} {x : Int64} (hin : vp_in i 60) (hj : i.toNatClampNeg = j) (d : decode cc pc = .ok (.lastore, 1)) (hp : pc + 1 = pc') (kk : gw_W E pc' lv st (gw_st (wM D a (gw_ul σ 4 j x)) Wr) k n) : gw_W E pc lv (.long x :: .int i :: .ref (a 4) :: st) (gw_st (wM D a σ) Wr) k n := by
  intro ws hw
  obtain ⟨w2, h2, rfl⟩ := hw
  exact gw_last (q0 := 4) (ws' := wM D a (gw_ul σ 4 j x) ++ w2) X pc' j rfl hin hj rfl d hp (kk _ ⟨w2, h2, rfl⟩)
theorem gM_n4 (X : gw_X E cc nL own ret l D R post) (pc' : Nat) (d : decode cc pc = .ok (.arraylength, 1)) (hp : pc + 1 = pc') (kk : gw_W E pc' lv (.int 60 :: st) (gw_st (wM D a σ) Wr) k n) : gw_W E pc lv (.ref (a 4) :: st) (gw_st (wM D a σ) Wr) k n := by
  intro ws hw
  obtain ⟨w2, h2, rfl⟩ := hw
  exact gw_alen (q0 := 4) (t0 := 2) X pc' rfl rfl (show Int32.ofNat 60 = 60 by decide) d hp (kk _ ⟨w2, h2, rfl⟩)
theorem gM_l5 (X : gw_X E cc nL own ret l D R post) (pc' : Nat) (j : Nat) {i : Int32} (hin : vp_in i 900) (hj : i.toNatClampNeg = j) (d : decode cc pc = .ok (.baload, 1)) (hp : pc + 1 = pc') (kk : gw_W E pc' lv (.int (σ.1 5 j) :: st) (gw_st (wM D a σ) Wr) k n) : gw_W E pc lv (.int i :: .ref (a 5) :: st) (gw_st (wM D a σ) Wr) k n := by
  intro ws hw
  obtain ⟨w2, h2, rfl⟩ := hw
  exact gw_bald (q0 := 5) X pc' j rfl hin hj d hp (kk _ ⟨w2, h2, rfl⟩)
theorem gM_s5 (X : gw_X E cc nL own ret l D R post) (pc' : Nat) (j : Nat) {i : Int32} {x : Int32} (hin : vp_in i 900) (hj : i.toNatClampNeg = j) (d : decode cc pc = .ok (.bastore, 1)) (hp : pc + 1 = pc') (kk : gw_W E pc' lv st (gw_st (wM D a (gw_u σ 5 j (vp_nar .byte x))) Wr) k n) : gw_W E pc lv (.int x :: .int i :: .ref (a 5) :: st) (gw_st (wM D a σ) Wr) k n := by
  intro ws hw
  obtain ⟨w2, h2, rfl⟩ := hw
  exact gw_bast (q0 := 5) (ws' := wM D a (gw_u σ 5 j (vp_nar .byte x)) ++ w2) X pc' j rfl hin hj rfl d hp (kk _ ⟨w2, h2, rfl⟩)
theorem gM_n5 (X : gw_X E cc nL own ret l D R post) (pc' : Nat) (d : decode cc pc = .ok (.arraylength, 1)) (hp : pc + 1 = pc') (kk : gw_W E pc' lv (.int 900 :: st) (gw_st (wM D a σ) Wr) k n) : gw_W E pc lv (.ref (a 5) :: st) (gw_st (wM D a σ) Wr) k n := by
  intro ws hw
  obtain ⟨w2, h2, rfl⟩ := hw
  exact gw_alen (q0 := 5) (t0 := 1) X pc' rfl rfl (show Int32.ofNat 900 = 900 by decide) d hp (kk _ ⟨w2, h2, rfl⟩)
theorem gM_l6 (X : gw_X E cc nL own ret l D R post) (pc' : Nat) (j : Nat) {i : Int32} (hin : vp_in i 5) (hj : i.toNatClampNeg = j) (d : decode cc pc = .ok (.iaload, 1)) (hp : pc + 1 = pc') (kk : gw_W E pc' lv (.int (σ.1 6 j) :: st) (gw_st (wM D a σ) Wr) k n) : gw_W E pc lv (.int i :: .ref (a 6) :: st) (gw_st (wM D a σ) Wr) k n := by
  intro ws hw
  obtain ⟨w2, h2, rfl⟩ := hw
  exact gw_iald (q0 := 6) X pc' j rfl hin hj d hp (kk _ ⟨w2, h2, rfl⟩)
theorem gM_s6 (X : gw_X E cc nL own ret l D R post) (pc' : Nat) (j : Nat) {i : Int32} {x : Int32} (hin : vp_in i 5) (hj : i.toNatClampNeg = j) (d : decode cc pc = .ok (.iastore, 1)) (hp : pc + 1 = pc') (kk : gw_W E pc' lv st (gw_st (wM D a (gw_u σ 6 j x)) Wr) k n) : gw_W E pc lv (.int x :: .int i :: .ref (a 6) :: st) (gw_st (wM D a σ) Wr) k n := by
  intro ws hw
  obtain ⟨w2, h2, rfl⟩ := hw
  exact gw_iast (q0 := 6) (ws' := wM D a (gw_u σ 6 j x) ++ w2) X pc' j rfl hin hj rfl d hp (kk _ ⟨w2, h2, rfl⟩)
theorem gM_n6 (X : gw_X E cc nL own ret l D R post) (pc' : Nat) (d : decode cc pc = .ok (.arraylength, 1)) (hp : pc + 1 = pc') (kk : gw_W E pc' lv (.int 5 :: st) (gw_st (wM D a σ) Wr) k n) : gw_W E pc lv (.ref (a 6) :: st) (gw_st (wM D a σ) Wr) k n := by
  intro ws hw
  obtain ⟨w2, h2, rfl⟩ := hw
  exact gw_alen (q0 := 6) (t0 := 0) X pc' rfl rfl (show Int32.ofNat 5 = 5 by decide) d hp (kk _ ⟨w2, h2, rfl⟩)
theorem gM_l7 (X : gw_X E cc nL own ret l D R post) (pc' : Nat) (j : Nat) {i : Int32} (hin : vp_in i 15) (hj : i.toNatClampNeg = j) (d : decode cc pc = .ok (.iaload, 1)) (hp : pc + 1 = pc') (kk : gw_W E pc' lv (.int (σ.1 7 j) :: st) (gw_st (wM D a σ) Wr) k n) : gw_W E pc lv (.int i :: .ref (a 7) :: st) (gw_st (wM D a σ) Wr) k n := by
  intro ws hw
  obtain ⟨w2, h2, rfl⟩ := hw
  exact gw_iald (q0 := 7) X pc' j rfl hin hj d hp (kk _ ⟨w2, h2, rfl⟩)
theorem gM_s7 (X : gw_X E cc nL own ret l D R post) (pc' : Nat) (j : Nat) {i : Int32} {x : Int32} (hin : vp_in i 15) (hj : i.toNatClampNeg = j) (d : decode cc pc = .ok (.iastore, 1)) (hp : pc + 1 = pc') (kk : gw_W E pc' lv st (gw_st (wM D a (gw_u σ 7 j x)) Wr) k n) : gw_W E pc lv (.int x :: .int i :: .ref (a 7) :: st) (gw_st (wM D a σ) Wr) k n := by
  intro ws hw
  obtain ⟨w2, h2, rfl⟩ := hw
  exact gw_iast (q0 := 7) (ws' := wM D a (gw_u σ 7 j x) ++ w2) X pc' j rfl hin hj rfl d hp (kk _ ⟨w2, h2, rfl⟩)
theorem gM_n7 (X : gw_X E cc nL own ret l D R post) (pc' : Nat) (d : decode cc pc = .ok (.arraylength, 1)) (hp : pc + 1 = pc') (kk : gw_W E pc' lv (.int 15 :: st) (gw_st (wM D a σ) Wr) k n) : gw_W E pc lv (.ref (a 7) :: st) (gw_st (wM D a σ) Wr) k n := by
  intro ws hw
  obtain ⟨w2, h2, rfl⟩ := hw
  exact gw_alen (q0 := 7) (t0 := 0) X pc' rfl rfl (show Int32.ofNat 15 = 15 by decide) d hp (kk _ ⟨w2, h2, rfl⟩)
theorem gM_l8 (X : gw_X E cc nL own ret l D R post) (pc' : Nat) (j : Nat) {i : Int32} (hin : vp_in i 200) (hj : i.toNatClampNeg = j) (d : decode cc pc = .ok (.iaload, 1)) (hp : pc + 1 = pc') (kk : gw_W E pc' lv (.int (σ.1 8 j) :: st) (gw_st (wM D a σ) Wr) k n) : gw_W E pc lv (.int i :: .ref (a 8) :: st) (gw_st (wM D a σ) Wr) k n := by
  intro ws hw
  obtain ⟨w2, h2, rfl⟩ := hw
  exact gw_iald (q0 := 8) X pc' j rfl hin hj d hp (kk _ ⟨w2, h2, rfl⟩)
theorem gM_s8 (X : gw_X E cc nL own ret l D R post) (pc' : Nat) (j : Nat) {i : Int32} {x : Int32} (hin : vp_in i 200) (hj : i.toNatClampNeg = j) (d : decode cc pc = .ok (.iastore, 1)) (hp : pc + 1 = pc') (kk : gw_W E pc' lv st (gw_st (wM D a (gw_u σ 8 j x)) Wr) k n) : gw_W E pc lv (.int x :: .int i :: .ref (a 8) :: st) (gw_st (wM D a σ) Wr) k n := by
  intro ws hw
  obtain ⟨w2, h2, rfl⟩ := hw
  exact gw_iast (q0 := 8) (ws' := wM D a (gw_u σ 8 j x) ++ w2) X pc' j rfl hin hj rfl d hp (kk _ ⟨w2, h2, rfl⟩)
theorem gM_n8 (X : gw_X E cc nL own ret l D R post) (pc' : Nat) (d : decode cc pc = .ok (.arraylength, 1)) (hp : pc + 1 = pc') (kk : gw_W E pc' lv (.int 200 :: st) (gw_st (wM D a σ) Wr) k n) : gw_W E pc lv (.ref (a 8) :: st) (gw_st (wM D a σ) Wr) k n := by
  intro ws hw
  obtain ⟨w2, h2, rfl⟩ := hw
  exact gw_alen (q0 := 8) (t0 := 0) X pc' rfl rfl (show Int32.ofNat 200 = 200 by decide) d hp (kk _ ⟨w2, h2, rfl⟩)
theorem gM_l9 (X : gw_X E cc nL own ret l D R post) (pc' : Nat) (j : Nat) {i : Int32} (hin : vp_in i 1000) (hj : i.toNatClampNeg = j) (d : decode cc pc = .ok (.iaload, 1)) (hp : pc + 1 = pc') (kk : gw_W E pc' lv (.int (σ.1 9 j) :: st) (gw_st (wM D a σ) Wr) k n) : gw_W E pc lv (.int i :: .ref (a 9) :: st) (gw_st (wM D a σ) Wr) k n := by
  intro ws hw
  obtain ⟨w2, h2, rfl⟩ := hw
  exact gw_iald (q0 := 9) X pc' j rfl hin hj d hp (kk _ ⟨w2, h2, rfl⟩)
theorem gM_s9 (X : gw_X E cc nL own ret l D R post) (pc' : Nat) (j : Nat) {i : Int32} {x : Int32} (hin : vp_in i 1000) (hj : i.toNatClampNeg = j) (d : decode cc pc = .ok (.iastore, 1)) (hp : pc + 1 = pc') (kk : gw_W E pc' lv st (gw_st (wM D a (gw_u σ 9 j x)) Wr) k n) : gw_W E pc lv (.int x :: .int i :: .ref (a 9) :: st) (gw_st (wM D a σ) Wr) k n := by
  intro ws hw
  obtain ⟨w2, h2, rfl⟩ := hw
  exact gw_iast (q0 := 9) (ws' := wM D a (gw_u σ 9 j x) ++ w2) X pc' j rfl hin hj rfl d hp (kk _ ⟨w2, h2, rfl⟩)
theorem gM_n9 (X : gw_X E cc nL own ret l D R post) (pc' : Nat) (d : decode cc pc = .ok (.arraylength, 1)) (hp : pc + 1 = pc') (kk : gw_W E pc' lv (.int 1000 :: st) (gw_st (wM D a σ) Wr) k n) : gw_W E pc lv (.ref (a 9) :: st) (gw_st (wM D a σ) Wr) k n := by
  intro ws hw
  obtain ⟨w2, h2, rfl⟩ := hw
  exact gw_alen (q0 := 9) (t0 := 0) X pc' rfl rfl (show Int32.ofNat 1000 = 1000 by decide) d hp (kk _ ⟨w2, h2, rfl⟩)
theorem gM_l10 (X : gw_X E cc nL own ret l D R post) (pc' : Nat) (j : Nat) {i : Int32} (hin : vp_in i 3) (hj : i.toNatClampNeg = j) (d : decode cc pc = .ok (.baload, 1)) (hp : pc + 1 = pc') (kk : gw_W E pc' lv (.int (σ.1 10 j) :: st) (gw_st (wM D a σ) Wr) k n) : gw_W E pc lv (.int i :: .ref (a 10) :: st) (gw_st (wM D a σ) Wr) k n := by
  intro ws hw
  obtain ⟨w2, h2, rfl⟩ := hw
  exact gw_zald (q0 := 10) X pc' j rfl hin hj d hp (kk _ ⟨w2, h2, rfl⟩)
theorem gM_s10 (X : gw_X E cc nL own ret l D R post) (pc' : Nat) (j : Nat) {i : Int32} {x : Int32} (hin : vp_in i 3) (hj : i.toNatClampNeg = j) (d : decode cc pc = .ok (.bastore, 1)) (hp : pc + 1 = pc') (kk : gw_W E pc' lv st (gw_st (wM D a (gw_u σ 10 j (vp_nar .boolean x))) Wr) k n) : gw_W E pc lv (.int x :: .int i :: .ref (a 10) :: st) (gw_st (wM D a σ) Wr) k n := by
  intro ws hw
  obtain ⟨w2, h2, rfl⟩ := hw
  exact gw_zast (q0 := 10) (ws' := wM D a (gw_u σ 10 j (vp_nar .boolean x)) ++ w2) X pc' j rfl hin hj rfl d hp (kk _ ⟨w2, h2, rfl⟩)
theorem gM_n10 (X : gw_X E cc nL own ret l D R post) (pc' : Nat) (d : decode cc pc = .ok (.arraylength, 1)) (hp : pc + 1 = pc') (kk : gw_W E pc' lv (.int 3 :: st) (gw_st (wM D a σ) Wr) k n) : gw_W E pc lv (.ref (a 10) :: st) (gw_st (wM D a σ) Wr) k n := by
  intro ws hw
  obtain ⟨w2, h2, rfl⟩ := hw
  exact gw_alen (q0 := 10) (t0 := 3) X pc' rfl rfl (show Int32.ofNat 3 = 3 by decide) d hp (kk _ ⟨w2, h2, rfl⟩)
theorem gM_l11 (X : gw_X E cc nL own ret l D R post) (pc' : Nat) (j : Nat) {i : Int32} (hin : vp_in i 8) (hj : i.toNatClampNeg = j) (d : decode cc pc = .ok (.iaload, 1)) (hp : pc + 1 = pc') (kk : gw_W E pc' lv (.int (σ.1 11 j) :: st) (gw_st (wM D a σ) Wr) k n) : gw_W E pc lv (.int i :: .ref (a 11) :: st) (gw_st (wM D a σ) Wr) k n := by
  intro ws hw
  obtain ⟨w2, h2, rfl⟩ := hw
  exact gw_iald (q0 := 11) X pc' j rfl hin hj d hp (kk _ ⟨w2, h2, rfl⟩)
theorem gM_s11 (X : gw_X E cc nL own ret l D R post) (pc' : Nat) (j : Nat) {i : Int32} {x : Int32} (hin : vp_in i 8) (hj : i.toNatClampNeg = j) (d : decode cc pc = .ok (.iastore, 1)) (hp : pc + 1 = pc') (kk : gw_W E pc' lv st (gw_st (wM D a (gw_u σ 11 j x)) Wr) k n) : gw_W E pc lv (.int x :: .int i :: .ref (a 11) :: st) (gw_st (wM D a σ) Wr) k n := by
  intro ws hw
  obtain ⟨w2, h2, rfl⟩ := hw
  exact gw_iast (q0 := 11) (ws' := wM D a (gw_u σ 11 j x) ++ w2) X pc' j rfl hin hj rfl d hp (kk _ ⟨w2, h2, rfl⟩)
theorem gM_n11 (X : gw_X E cc nL own ret l D R post) (pc' : Nat) (d : decode cc pc = .ok (.arraylength, 1)) (hp : pc + 1 = pc') (kk : gw_W E pc' lv (.int 8 :: st) (gw_st (wM D a σ) Wr) k n) : gw_W E pc lv (.ref (a 11) :: st) (gw_st (wM D a σ) Wr) k n := by
  intro ws hw
  obtain ⟨w2, h2, rfl⟩ := hw
  exact gw_alen (q0 := 11) (t0 := 0) X pc' rfl rfl (show Int32.ofNat 8 = 8 by decide) d hp (kk _ ⟨w2, h2, rfl⟩)
theorem gM_l12 (X : gw_X E cc nL own ret l D R post) (pc' : Nat) (j : Nat) {i : Int32} (hin : vp_in i 8) (hj : i.toNatClampNeg = j) (d : decode cc pc = .ok (.iaload, 1)) (hp : pc + 1 = pc') (kk : gw_W E pc' lv (.int (σ.1 12 j) :: st) (gw_st (wM D a σ) Wr) k n) : gw_W E pc lv (.int i :: .ref (a 12) :: st) (gw_st (wM D a σ) Wr) k n := by
  intro ws hw
  obtain ⟨w2, h2, rfl⟩ := hw
  exact gw_iald (q0 := 12) X pc' j rfl hin hj d hp (kk _ ⟨w2, h2, rfl⟩)
theorem gM_s12 (X : gw_X E cc nL own ret l D R post) (pc' : Nat) (j : Nat) {i : Int32} {x : Int32} (hin : vp_in i 8) (hj : i.toNatClampNeg = j) (d : decode cc pc = .ok (.iastore, 1)) (hp : pc + 1 = pc') (kk : gw_W E pc' lv st (gw_st (wM D a (gw_u σ 12 j x)) Wr) k n) : gw_W E pc lv (.int x :: .int i :: .ref (a 12) :: st) (gw_st (wM D a σ) Wr) k n := by
  intro ws hw
  obtain ⟨w2, h2, rfl⟩ := hw
  exact gw_iast (q0 := 12) (ws' := wM D a (gw_u σ 12 j x) ++ w2) X pc' j rfl hin hj rfl d hp (kk _ ⟨w2, h2, rfl⟩)
theorem gM_n12 (X : gw_X E cc nL own ret l D R post) (pc' : Nat) (d : decode cc pc = .ok (.arraylength, 1)) (hp : pc + 1 = pc') (kk : gw_W E pc' lv (.int 8 :: st) (gw_st (wM D a σ) Wr) k n) : gw_W E pc lv (.ref (a 12) :: st) (gw_st (wM D a σ) Wr) k n := by
  intro ws hw
  obtain ⟨w2, h2, rfl⟩ := hw
  exact gw_alen (q0 := 12) (t0 := 0) X pc' rfl rfl (show Int32.ofNat 8 = 8 by decide) d hp (kk _ ⟨w2, h2, rfl⟩)
theorem gM_l13 (X : gw_X E cc nL own ret l D R post) (pc' : Nat) (j : Nat) {i : Int32} (hin : vp_in i 8) (hj : i.toNatClampNeg = j) (d : decode cc pc = .ok (.iaload, 1)) (hp : pc + 1 = pc') (kk : gw_W E pc' lv (.int (σ.1 13 j) :: st) (gw_st (wM D a σ) Wr) k n) : gw_W E pc lv (.int i :: .ref (a 13) :: st) (gw_st (wM D a σ) Wr) k n := by
  intro ws hw
  obtain ⟨w2, h2, rfl⟩ := hw
  exact gw_iald (q0 := 13) X pc' j rfl hin hj d hp (kk _ ⟨w2, h2, rfl⟩)
theorem gM_s13 (X : gw_X E cc nL own ret l D R post) (pc' : Nat) (j : Nat) {i : Int32} {x : Int32} (hin : vp_in i 8) (hj : i.toNatClampNeg = j) (d : decode cc pc = .ok (.iastore, 1)) (hp : pc + 1 = pc') (kk : gw_W E pc' lv st (gw_st (wM D a (gw_u σ 13 j x)) Wr) k n) : gw_W E pc lv (.int x :: .int i :: .ref (a 13) :: st) (gw_st (wM D a σ) Wr) k n := by
  intro ws hw
  obtain ⟨w2, h2, rfl⟩ := hw
  exact gw_iast (q0 := 13) (ws' := wM D a (gw_u σ 13 j x) ++ w2) X pc' j rfl hin hj rfl d hp (kk _ ⟨w2, h2, rfl⟩)
theorem gM_n13 (X : gw_X E cc nL own ret l D R post) (pc' : Nat) (d : decode cc pc = .ok (.arraylength, 1)) (hp : pc + 1 = pc') (kk : gw_W E pc' lv (.int 8 :: st) (gw_st (wM D a σ) Wr) k n) : gw_W E pc lv (.ref (a 13) :: st) (gw_st (wM D a σ) Wr) k n := by
  intro ws hw
  obtain ⟨w2, h2, rfl⟩ := hw
  exact gw_alen (q0 := 13) (t0 := 0) X pc' rfl rfl (show Int32.ofNat 8 = 8 by decide) d hp (kk _ ⟨w2, h2, rfl⟩)
theorem gM_l14 (X : gw_X E cc nL own ret l D R post) (pc' : Nat) (j : Nat) {i : Int32} (hin : vp_in i 576) (hj : i.toNatClampNeg = j) (d : decode cc pc = .ok (.iaload, 1)) (hp : pc + 1 = pc') (kk : gw_W E pc' lv (.int (σ.1 14 j) :: st) (gw_st (wM D a σ) Wr) k n) : gw_W E pc lv (.int i :: .ref (a 14) :: st) (gw_st (wM D a σ) Wr) k n := by
  intro ws hw
  obtain ⟨w2, h2, rfl⟩ := hw
  exact gw_iald (q0 := 14) X pc' j rfl hin hj d hp (kk _ ⟨w2, h2, rfl⟩)
theorem gM_s14 (X : gw_X E cc nL own ret l D R post) (pc' : Nat) (j : Nat) {i : Int32} {x : Int32} (hin : vp_in i 576) (hj : i.toNatClampNeg = j) (d : decode cc pc = .ok (.iastore, 1)) (hp : pc + 1 = pc') (kk : gw_W E pc' lv st (gw_st (wM D a (gw_u σ 14 j x)) Wr) k n) : gw_W E pc lv (.int x :: .int i :: .ref (a 14) :: st) (gw_st (wM D a σ) Wr) k n := by
  intro ws hw
  obtain ⟨w2, h2, rfl⟩ := hw
  exact gw_iast (q0 := 14) (ws' := wM D a (gw_u σ 14 j x) ++ w2) X pc' j rfl hin hj rfl d hp (kk _ ⟨w2, h2, rfl⟩)
theorem gM_n14 (X : gw_X E cc nL own ret l D R post) (pc' : Nat) (d : decode cc pc = .ok (.arraylength, 1)) (hp : pc + 1 = pc') (kk : gw_W E pc' lv (.int 576 :: st) (gw_st (wM D a σ) Wr) k n) : gw_W E pc lv (.ref (a 14) :: st) (gw_st (wM D a σ) Wr) k n := by
  intro ws hw
  obtain ⟨w2, h2, rfl⟩ := hw
  exact gw_alen (q0 := 14) (t0 := 0) X pc' rfl rfl (show Int32.ofNat 576 = 576 by decide) d hp (kk _ ⟨w2, h2, rfl⟩)
theorem gX_cp12_3 (X : gw_X E cc nL own ret l D R post) (pc' : Nat) {idx : Nat} (hlk : Cond.methodLink own idx arraycopyName ∈ lw_all) (d : decode cc pc = .ok (.invokestatic idx, 3)) (hp : pc + 3 = pc') (hR : Nat.ble 1 R.frames = true) (hRl : Nat.ble (8 + (nativeFrameWords "java/lang/System" "arraycopy" 5 + 11)) R.locals = true) (h8 : gw_cat st = true) (kk : gw_W E pc' lv st (gw_st (wX D a (gw_ua σ 3 (va_cpy (σ.1 12) (σ.1 3) 0 0 8))) Wr) k n) : gw_W E pc lv (.int 8 :: .int 0 :: .ref (a 3) :: .int 0 :: .ref (a 12) :: st) (gw_st (wX D a σ) Wr) k n := by
  intro ws hw
  obtain ⟨w2, h2, rfl⟩ := hw
  exact gw_cpy (q0 := 12) (q1 := 3) (t0 := 0) (ws' := wX D a (gw_ua σ 3 (va_cpy (σ.1 12) (σ.1 3) 0 0 8)) ++ w2) X pc' hlk q653 q652 q154 rfl rfl rfl rfl (by decide) (by decide) (by decide) (by decide) (by decide) (fun _ _ => rfl) hR hRl h8 rfl d hp (kk _ ⟨w2, h2, rfl⟩)
end GWD
