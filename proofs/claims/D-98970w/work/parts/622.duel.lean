/-! PURE SIDE: duels, what is won, peace, ransoms -/
set_option maxRecDepth 100000
/-- a small whole number -/
def zI (z : Int) : Int32 := Int32.ofInt z
theorem zI_toInt {z : Int} (h1 : -2 ^ 31 ≤ z) (h2 : z < 2 ^ 31) : (zI z).toInt = z := Int32.toInt_ofInt_of_le h1 h2
theorem zI_le {x y : Int} (h1 : -2 ^ 31 ≤ x) (h2 : x < 2 ^ 31) (h3 : -2 ^ 31 ≤ y) (h4 : y < 2 ^ 31) : zI x ≤ zI y ↔ x ≤ y := by
  rw [Int32.le_iff_toInt_le, zI_toInt h1 h2, zI_toInt h3 h4]
theorem zI_lt {x y : Int} (h1 : -2 ^ 31 ≤ x) (h2 : x < 2 ^ 31) (h3 : -2 ^ 31 ≤ y) (h4 : y < 2 ^ 31) : zI x < zI y ↔ x < y := by
  rw [Int32.lt_iff_toInt_lt, zI_toInt h1 h2, zI_toInt h3 h4]
theorem zI_nI (k : Nat) : nI k = zI k := Int32.ofInt_eq_ofNat.symm
theorem zI_neg (k : Nat) : -nI k = zI (-(k : Int)) := by
  unfold zI
  rw [Int32.ofInt_neg]
  rfl
theorem zI_sub (x y : Nat) : nI x - nI y = zI ((x : Int) - y) := by
  unfold zI
  rw [Int32.ofInt_sub, zI_nI, zI_nI]
  rfl
section
variable {N : Nat} {h : Nat → Option Nat} {w d s : Nat → Nat} {f a : Nat} {σ τ : gw_S}
def sp_won (w : Nat → Nat) (x y : Nat) : Int := if w x ≤ w y then (if w y ≤ w x then 0 else -(w x : Int)) else (w y : Int)
theorem sp_won_b (V : vw N h w d s f a) {x y : Nat} (hx : x < N) (hy : y < N) : -1000 < sp_won w x y ∧ sp_won w x y < 1000 := by
  have h1 := V.wb hx
  have h2 := V.wb hy
  unfold sp_won
  split
  · split <;> omega
  · omega
theorem xe_won (V : vw N h w d s f a) (X : vX N h w d s f a σ) {x y : Nat} (hx : x < N) (hy : y < N) : fx_X0_won σ (nI x) (nI y) = some (zI (sp_won w x y)) := by
  have h8 := V.1
  have h1 := V.wb hx
  have h2 := V.wb hy
  unfold fx_X0_won sp_won
  rw [pq_ck (by omega) (by omega), pq_ck (by omega) (by omega), pq_ck (by omega) (by omega), pq_ck (by omega) (by omega), pq_ck (by omega) (by omega), pq_ck (by omega) (by omega), nI_clamp (by omega), nI_clamp (by omega), X.ww hx, X.ww hy]
  by_cases l : w x ≤ w y
  · rw [if_pos (nI_le l (by omega)), if_pos l]
    by_cases l2 : w y ≤ w x
    · rw [if_pos (nI_le l2 (by omega)), if_pos l2]; rfl
    · rw [if_neg (nI_ge (by omega) (by omega)), if_neg l2, zI_neg]
  · rw [if_neg (nI_ge (by omega) (by omega)), if_neg l, zI_nI]
theorem me_won (V : vw N h w d s f a) (M : vM N h w d s f a τ) {x y : Nat} (hx : x < N) (hy : y < N) : fx_X3_wonBy τ (nI x) (nI y) = some (zI (sp_won w x y)) := by
  have h8 := V.1
  have h1 := V.wb hx
  have h2 := V.wb hy
  unfold fx_X3_wonBy sp_won
  rw [M.o0 V hx, M.o0 V hy]
  simp only [gw_b1_s]
  by_cases l : w x ≤ w y
  · rw [if_pos (nI_le l (by omega)), if_pos l]
    by_cases l2 : w y ≤ w x
    · rw [if_pos (nI_le l2 (by omega)), if_pos l2]; rfl
    · rw [if_neg (nI_ge (by omega) (by omega)), if_neg l2, zI_neg]
  · rw [if_neg (nI_ge (by omega) (by omega)), if_neg l, zI_nI]
/-- the least card of y's against x -/
def st_rep (h : Nat → Option Nat) (w : Nat → Nat) (y x q : Nat) (b : Option Nat) : Option Nat :=
  if h q = some y then (match b with
    | none => some q
    | some z => if sp_won w x z ≤ sp_won w x q then some z else some q) else b
def sp_rep (h : Nat → Option Nat) (w : Nat → Nat) (N y x : Nat) : Option Nat := sp_f (st_rep h w y x) none N
theorem st_rep_lt {y x q : Nat} {b : Option Nat} (hq : q < N) (hb : ∀ z, b = some z → z < N) : ∀ z, st_rep h w y x q b = some z → z < N := by
  intro z e
  unfold st_rep at e
  split at e
  · cases b with
    | none => cases (show some q = some z from e); exact hq
    | some t =>
      have e : (if sp_won w x t ≤ sp_won w x q then some t else some q) = some z := e
      split at e
      · exact hb z e
      · cases e; exact hq
  · exact hb z e
theorem sp_rep_lt {y x : Nat} : ∀ z, sp_rep h w N y x = some z → z < N := by
  have key : ∀ n, n ≤ N → ∀ z, sp_f (st_rep h w y x) none n = some z → z < N := by
    intro n
    induction n with
    | zero => intro _ z e; cases e
    | succ n ih => intro hn; exact st_rep_lt (by omega) (ih (by omega))
  exact key N (Nat.le_refl _)
theorem sp_rep_some {y x c : Nat} (hc : c < N) (e : h c = some y) : ∃ z, sp_rep h w N y x = some z := by
  have st : ∀ q b, b.isSome = true → (st_rep h w y x q b).isSome = true := by
    intro q b hb
    unfold st_rep
    split
    · cases b with
      | none => cases hb
      | some t =>
        show (if sp_won w x t ≤ sp_won w x q then some t else some q).isSome = true
        split <;> rfl
    · exact hb
  have key : ∀ n, c < n → (sp_f (st_rep h w y x) none n).isSome = true := by
    intro n
    induction n with
    | zero => intro q; omega
    | succ n ih =>
      intro hn
      show (st_rep h w y x n (sp_f (st_rep h w y x) none n)).isSome = true
      by_cases q : c = n
      · subst q
        generalize sp_f (st_rep h w y x) none c = b0
        unfold st_rep
        rw [if_pos e]
        cases b0 with
        | none => rfl
        | some t =>
          show (if sp_won w x t ≤ sp_won w x c then some t else some c).isSome = true
          split <;> rfl
      · exact st n _ (ih (by omega))
  exact Option.isSome_iff_exists.mp (key N hc)
/-- a loop for the reply: in the class with what follows, in the reference alone -/
theorem xe_repL (V : vw N h w d s f a) (X : vX N h w d s f a σ) {κ : Type} (k : Int32 → Option κ) {v1 : Int32} {y x : Nat} (hy : y < N) (hx : x < N) : fx_X0_laysOf_L39 k σ v1 (nI y) (nI x) 1000 (-1) 0 = k (oI (sp_rep h w N y x)) := by
  have h8 := V.1
  refine pq_fold (fun n (b : Option Nat) c => fx_X0_laysOf_L39 k σ v1 (nI y) (nI x) n (oI b) c) (fun b => k (oI b)) N (st_rep h w y x) none (fun i b => ∀ z, b = some z → z < N) (fun y e => by cases e) ?_ ?_ 1000 (by omega)
  · intro n b _
    show fx_X0_laysOf_L39 k σ v1 (nI y) (nI x) (n + 1) (oI b) (nI N) = _
    rw [fx_X0_laysOf_L39, X.1, if_pos (nI_le (Nat.le_refl _) (by omega))]
  · intro n i b hi hI
    refine ⟨st_rep_lt hi hI, ?_⟩
    show fx_X0_laysOf_L39 k σ v1 (nI y) (nI x) (n + 1) (oI b) (nI i) = fx_X0_laysOf_L39 k σ v1 (nI y) (nI x) n (oI (st_rep h w y x i b)) (nI i + 1)
    rw [fx_X0_laysOf_L39, X.1, if_neg (nI_ge hi (by omega)), pq_ck (by omega) (by omega), nI_clamp (by omega), X.hh hi]
    unfold st_rep
    by_cases e : h i = some y
    · rw [if_pos (by rw [e]; rfl), if_pos e]
      cases b with
      | none => rw [oI_none, if_pos rfl]; rfl
      | some z =>
        have hz := hI z rfl
        have b1 := sp_won_b V hx hz
        have b2 := sp_won_b V hx hi
        rw [oI_some, if_neg (nI_m1 (by omega)), xe_won V X hx hi, xe_won V X hx hz]
        simp only [gw_b1_s]
        show _ = fx_X0_laysOf_L39 k σ v1 (nI y) (nI x) n (oI (if sp_won w x z ≤ sp_won w x i then some z else some i)) (nI i + 1)
        have zz := zI_le (x := sp_won w x z) (y := sp_won w x i) (by omega) (by omega) (by omega) (by omega)
        by_cases l : sp_won w x z ≤ sp_won w x i
        · rw [if_pos (zz.mpr l), if_pos l]; rfl
        · rw [if_neg (fun q => l (zz.mp q)), if_neg l]; rfl
    · rw [if_neg (fun q => e ((oI_eqI (V.hb hi) (by omega)).mp q)), if_neg e]
theorem me_rep (V : vw N h w d s f a) (M : vM N h w d s f a τ) {y x : Nat} (hy : y < N) (hx : x < N) : fx_X3_replyTo τ (nI x) (nI y) = some (oI (sp_rep h w N y x)) := by
  have h8 := V.1
  unfold fx_X3_replyTo
  refine pq_fold (fun n (b : Option Nat) c => fx_X3_replyTo_L5 τ (nI x) (nI y) n (oI b) c) (fun b => some (oI b)) N (st_rep h w y x) none (fun i b => ∀ z, b = some z → z < N) (fun y e => by cases e) ?_ ?_ 1000 (by omega)
  · intro n b _
    show fx_X3_replyTo_L5 τ (nI x) (nI y) (n + 1) (oI b) (nI N) = _
    rw [fx_X3_replyTo_L5, M.1, if_pos (nI_le (Nat.le_refl _) (by omega))]
  · intro n i b hi hI
    refine ⟨st_rep_lt hi hI, ?_⟩
    show fx_X3_replyTo_L5 τ (nI x) (nI y) (n + 1) (oI b) (nI i) = fx_X3_replyTo_L5 τ (nI x) (nI y) n (oI (st_rep h w y x i b)) (nI i + 1)
    rw [fx_X3_replyTo_L5, M.1, if_neg (nI_ge hi (by omega)), pq_ck (by omega) (by omega), nI_clamp (by omega), M.hh hi]
    unfold st_rep
    by_cases e : h i = some y
    · rw [if_pos (by rw [e]; rfl), if_pos e]
      cases b with
      | none => rw [oI_none, if_pos rfl]; rfl
      | some z =>
        have hz := hI z rfl
        have b1 := sp_won_b V hx hz
        have b2 := sp_won_b V hx hi
        rw [oI_some, if_neg (nI_m1 (by omega)), me_won V M hx hi, me_won V M hx hz]
        simp only [gw_b1_s]
        show _ = fx_X3_replyTo_L5 τ (nI x) (nI y) n (oI (if sp_won w x z ≤ sp_won w x i then some z else some i)) (nI i + 1)
        have zz := zI_le (x := sp_won w x z) (y := sp_won w x i) (by omega) (by omega) (by omega) (by omega)
        by_cases l : sp_won w x z ≤ sp_won w x i
        · rw [if_pos (zz.mpr l), if_pos l]; rfl
        · rw [if_neg (fun q => l (zz.mp q)), if_neg l]; rfl
    · rw [if_neg (fun q => e ((oI_eqI (V.hb hi) (by omega)).mp q)), if_neg e]
/-- what a card is sure to win; the card that is sure to win most -/
def sp_sure (h : Nat → Option Nat) (w : Nat → Nat) (N y x : Nat) : Int := sp_won w x ((sp_rep h w N y x).getD 0)
def st_lay (h : Nat → Option Nat) (w : Nat → Nat) (N g y x : Nat) (b : Option Nat) : Option Nat :=
  if h x = some g then (match b with
    | none => some x
    | some z => if sp_sure h w N y x ≤ sp_sure h w N y z then some z else some x) else b
def sp_lay (h : Nat → Option Nat) (w : Nat → Nat) (N g y : Nat) : Option Nat := sp_f (st_lay h w N g y) none N
theorem st_lay_lt {g y x : Nat} {b : Option Nat} (hx : x < N) (hb : ∀ z, b = some z → z < N) : ∀ z, st_lay h w N g y x b = some z → z < N := by
  intro z e
  unfold st_lay at e
  split at e
  · cases b with
    | none => cases (show some x = some z from e); exact hx
    | some t =>
      have e : (if sp_sure h w N y x ≤ sp_sure h w N y t then some t else some x) = some z := e
      split at e
      · exact hb z e
      · cases e; exact hx
  · exact hb z e
theorem sp_lay_lt {g y : Nat} : ∀ z, sp_lay h w N g y = some z → z < N := by
  have key : ∀ n, n ≤ N → ∀ z, sp_f (st_lay h w N g y) none n = some z → z < N := by
    intro n
    induction n with
    | zero => intro _ z e; cases e
    | succ n ih => intro hn; exact st_lay_lt (by omega) (ih (by omega))
  exact key N (Nat.le_refl _)
theorem sp_lay_some {g y c : Nat} (hc : c < N) (e : h c = some g) : ∃ z, sp_lay h w N g y = some z := by
  have st : ∀ q b, b.isSome = true → (st_lay h w N g y q b).isSome = true := by
    intro q b hb
    unfold st_lay
    split
    · cases b with
      | none => cases hb
      | some t =>
        show (if sp_sure h w N y q ≤ sp_sure h w N y t then some t else some q).isSome = true
        split <;> rfl
    · exact hb
  have key : ∀ n, c < n → (sp_f (st_lay h w N g y) none n).isSome = true := by
    intro n
    induction n with
    | zero => intro q; omega
    | succ n ih =>
      intro hn
      show (st_lay h w N g y n (sp_f (st_lay h w N g y) none n)).isSome = true
      by_cases q : c = n
      · subst q
        generalize sp_f (st_lay h w N g y) none c = b0
        unfold st_lay
        rw [if_pos e]
        cases b0 with
        | none => rfl
        | some t =>
          show (if sp_sure h w N y c ≤ sp_sure h w N y t then some t else some c).isSome = true
          split <;> rfl
      · exact st n _ (ih (by omega))
  exact Option.isSome_iff_exists.mp (key N hc)
theorem me_lay (V : vw N h w d s f a) (M : vM N h w d s f a τ) {g y c : Nat} (hg : g < N) (hy : y < N) (hc : c < N) (ec : h c = some y) : fx_X3_laidBy τ (nI g) (nI y) = some (oI (sp_lay h w N g y)) := by
  have h8 := V.1
  unfold fx_X3_laidBy
  refine pq_fold (fun n (b : Option Nat) c => fx_X3_laidBy_L5 τ (nI g) (nI y) n (oI b) c) (fun b => some (oI b)) N (st_lay h w N g y) none (fun i b => ∀ z, b = some z → z < N) (fun y e => by cases e) ?_ ?_ 1000 (by omega)
  · intro n b _
    show fx_X3_laidBy_L5 τ (nI g) (nI y) (n + 1) (oI b) (nI N) = _
    rw [fx_X3_laidBy_L5, M.1, if_pos (nI_le (Nat.le_refl _) (by omega))]
  · intro n i b hi hI
    refine ⟨st_lay_lt hi hI, ?_⟩
    show fx_X3_laidBy_L5 τ (nI g) (nI y) (n + 1) (oI b) (nI i) = fx_X3_laidBy_L5 τ (nI g) (nI y) n (oI (st_lay h w N g y i b)) (nI i + 1)
    rw [fx_X3_laidBy_L5, M.1, if_neg (nI_ge hi (by omega)), pq_ck (by omega) (by omega), nI_clamp (by omega), M.hh hi]
    unfold st_lay
    by_cases e : h i = some g
    · rw [if_pos (by rw [e]; rfl), if_pos e]
      cases b with
      | none => rw [oI_none, if_pos rfl]; rfl
      | some z =>
        have hz := hI z rfl
        obtain ⟨r1, e1⟩ := sp_rep_some (w := w) (x := i) hc ec
        obtain ⟨r2, e2⟩ := sp_rep_some (w := w) (x := z) hc ec
        have l1 := sp_rep_lt r1 e1
        have l2 := sp_rep_lt r2 e2
        have b1 := sp_won_b V hi l1
        have b2 := sp_won_b V hz l2
        rw [oI_some, if_neg (nI_m1 (by omega)), me_rep V M hy hi, me_rep V M hy hz, e1, e2]
        simp only [gw_b1_s, oI_some]
        rw [me_won V M hi l1, me_won V M hz l2]
        simp only [gw_b1_s]
        show _ = fx_X3_laidBy_L5 τ (nI g) (nI y) n (oI (if sp_won w i ((sp_rep h w N y i).getD 0) ≤ sp_won w z ((sp_rep h w N y z).getD 0) then some z else some i)) (nI i + 1)
        rw [e1, e2]
        have zz := zI_le (x := sp_won w i r1) (y := sp_won w z r2) (by omega) (by omega) (by omega) (by omega)
        by_cases l : sp_won w i r1 ≤ sp_won w z r2
        · rw [if_pos (zz.mpr l), if_pos (show sp_won w i ((some r1).getD 0) ≤ sp_won w z ((some r2).getD 0) from l)]; rfl
        · rw [if_neg (fun q => l (zz.mp q)), if_neg (show ¬ sp_won w i ((some r1).getD 0) ≤ sp_won w z ((some r2).getD 0) from l)]; rfl
    · rw [if_neg (fun q => e ((oI_eqI (V.hb hi) (by omega)).mp q)), if_neg e]
/-- the class' three words of it -/
def lay_ok (h : Nat → Option Nat) (w : Nat → Nat) (N y : Nat) (b : Option Nat) (σ : gw_S) : Prop := match b with
  | none => σ.1 0 17 = -1000000000
  | some z => z < N ∧ σ.1 0 17 = zI (sp_sure h w N y z) ∧ σ.1 0 18 = nI z ∧ σ.1 0 19 = oI (sp_rep h w N y z)
theorem xe_lay (V : vw N h w d s f a) (X : vX N h w d s f a σ) {g y c : Nat} (hg : g < N) (hy : y < N) (hc : c < N) (ec : h c = some y) : ∃ σ', fx_X0_laysOf σ (nI g) (nI y) = some σ' ∧ jk σ σ' ∧ lay_ok h w N y (sp_lay h w N g y) σ' := by
  have h8 := V.1
  unfold fx_X0_laysOf
  have key := pq_loop (fun n (ς : gw_S) c => fx_X0_laysOf_L9 (nI g) (nI y) n c ς) (fun o => ∃ σ', o = some σ' ∧ jk σ σ' ∧ lay_ok h w N y (sp_lay h w N g y) σ') N
    (fun i ς => jk σ ς ∧ vX N h w d s f a ς ∧ lay_ok h w N y (sp_f (st_lay h w N g y) none i) ς) ?_ ?_ 1000 0 (gw_u σ 0 17 (-1000000000)) (by omega) (by omega) ⟨⟨rfl, rfl, rfl, rfl, rfl, rfl, rfl, rfl, rfl, rfl⟩, X, rfl⟩
  · exact key
  · intro n ς I
    refine ⟨ς, ?_, I.1, I.2.2⟩
    show fx_X0_laysOf_L9 (nI g) (nI y) (n + 1) (nI N) ς = _
    rw [fx_X0_laysOf_L9, I.2.1.1, if_pos (nI_le (Nat.le_refl _) (by omega))]
  · intro n i ς hi I ih
    obtain ⟨J, X, L⟩ := I
    show ∃ σ', fx_X0_laysOf_L9 (nI g) (nI y) (n + 1) (nI i) ς = some σ' ∧ _
    rw [fx_X0_laysOf_L9, X.1, if_neg (nI_ge hi (by omega)), pq_ck (by omega) (by omega), nI_clamp (by omega), X.hh hi]
    by_cases e : h i = some g
    · rw [if_pos (by rw [e]; rfl), xe_repL V X _ hy hi]
      obtain ⟨r1, e1⟩ := sp_rep_some (w := w) (x := i) hc ec
      have l1 := sp_rep_lt r1 e1
      have b1 := sp_won_b V hi l1
      have es : sp_sure h w N y i = sp_won w i r1 := by unfold sp_sure; rw [e1]; rfl
      rw [e1, oI_some]
      show ∃ σ', gw_b1 (fx_X0_won ς (nI i) (nI r1)) _ = some σ' ∧ _
      rw [xe_won V X hi l1]
      simp only [gw_b1_s]
      have new : (ς.1 0 17 < zI (sp_won w i r1)) → sp_f (st_lay h w N g y) none (i + 1) = some i → ∃ σ', fx_X0_laysOf_L9 (nI g) (nI y) n (nI i + 1) (gw_u (gw_u (gw_u ς 0 17 (zI (sp_won w i r1))) 0 18 (nI i)) 0 19 (nI r1)) = some σ' ∧ jk σ σ' ∧ lay_ok h w N y (sp_lay h w N g y) σ' := by
        intro _ e2
        refine ih _ ⟨J.tr ⟨rfl, rfl, rfl, rfl, rfl, rfl, rfl, rfl, rfl, rfl⟩, X, ?_⟩
        rw [e2]
        refine ⟨hi, ?_, rfl, ?_⟩
        · show zI (sp_won w i r1) = _
          rw [es]
        · show nI r1 = _
          rw [e1]; rfl
      have st : sp_f (st_lay h w N g y) none (i + 1) = (match sp_f (st_lay h w N g y) none i with
        | none => some i
        | some z => if sp_sure h w N y i ≤ sp_sure h w N y z then some z else some i) := by
        show st_lay h w N g y i (sp_f (st_lay h w N g y) none i) = _
        generalize sp_f (st_lay h w N g y) none i = b0
        unfold st_lay
        rw [if_pos e]
      cases eb : sp_f (st_lay h w N g y) none i with
      | none =>
        rw [eb] at L st
        have L : ς.1 0 17 = -1000000000 := L
        have lt : ς.1 0 17 < zI (sp_won w i r1) := by
          rw [L, show (-1000000000 : Int32) = zI (-1000000000) from rfl]
          exact (zI_lt (by omega) (by omega) (by omega) (by omega)).mpr (by omega)
        rw [if_pos lt]
        exact new lt st
      | some z =>
        rw [eb] at L st
        obtain ⟨hz, L1, L2, L3⟩ := L
        have st : sp_f (st_lay h w N g y) none (i + 1) = if sp_sure h w N y i ≤ sp_sure h w N y z then some z else some i := st
        obtain ⟨r2, e2⟩ := sp_rep_some (w := w) (x := z) hc ec
        have l2 := sp_rep_lt r2 e2
        have b2 := sp_won_b V hz l2
        have es2 : sp_sure h w N y z = sp_won w z r2 := by unfold sp_sure; rw [e2]; rfl
        have zz := zI_lt (x := sp_won w z r2) (y := sp_won w i r1) (by omega) (by omega) (by omega) (by omega)
        by_cases l : sp_won w i r1 ≤ sp_won w z r2
        · rw [if_neg (fun q => by rw [L1, es2] at q; have := zz.mp q; omega)]
          refine ih ς ⟨J, X, ?_⟩
          rw [st, es, es2, if_pos l]
          exact ⟨hz, L1, L2, L3⟩
        · have lt : ς.1 0 17 < zI (sp_won w i r1) := by
            rw [L1, es2]; exact zz.mpr (by omega)
          rw [if_pos lt]
          exact new lt (by rw [st, es, es2, if_neg l])
    · rw [if_neg (fun q => e ((oI_eqI (V.hb hi) (by omega)).mp q))]
      refine ih ς ⟨J, X, ?_⟩
      show lay_ok h w N y (st_lay h w N g y i (sp_f (st_lay h w N g y) none i)) ς
      revert L
      generalize sp_f (st_lay h w N g y) none i = b0
      intro L
      unfold st_lay
      rw [if_neg e]
      exact L
end
