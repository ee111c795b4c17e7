/-! THE SLOTS OF THE CLASS: an array of four slots; one of them in front of all else, and back -/
set_option maxRecDepth 100000
def gS_f (a : Nat → Nat) : Nat → Option Nat := va_up (va_up (va_up (va_up (fun _ => none) 0 (some (a 17))) 1 (some (a 18))) 2 (some (a 19))) 3 (some (a 20))
theorem gS_fat {a : Nat → Nat} {j : Nat} (h : j < 4) : va_rf (gS_f a j) = .ref (a (17 + j)) := by
  obtain rfl | rfl | rfl | rfl : j = 0 ∨ j = 1 ∨ j = 2 ∨ j = 3 := by omega
  · rfl
  · rfl
  · rfl
  · rfl
def gS_a (D : gw_D) (a : Nat → Nat) : Nat × va_E := (a 15, .inl (D.2 5, 4, .inr (.inr (.inr (.inr (gS_f a))))))
def gS (D : gw_D) (a : Nat → Nat) (ρ : gw_R) : va_W → Prop := fun ws => ∃ w : Nat → va_W, (∀ i, i < 4 → gS1 D (a (17 + i)) (ρ i) (w i)) ∧ ws = [gS_a D a] ++ (w 0 ++ (w 1 ++ (w 2 ++ w 3)))
def gSh (D : gw_D) (a : Nat → Nat) (ρ : gw_R) (j : Nat) : va_W → Prop := fun ws => ∃ w : Nat → va_W, (∀ i, i < 4 → i ≠ j → gS1 D (a (17 + i)) (ρ i) (w i)) ∧ w j = [] ∧ ws = [gS_a D a] ++ (w 0 ++ (w 1 ++ (w 2 ++ w 3)))
def gw_upR (ρ : gw_R) (j : Nat) (r : gw_R1) : gw_R := fun i => if i = j then r else ρ i
abbrev gXS (D : gw_D) (a : Nat → Nat) (KP : va_W → Prop) (σ : gw_S) (ρ : gw_R) (Wr : va_W → Prop) : va_W → Prop := gw_st (wX D a σ) (gw_sp KP (gw_sp (gS D a ρ) Wr))
abbrev gXH (D : gw_D) (a : Nat → Nat) (KP : va_W → Prop) (σ : gw_S) (ρ : gw_R) (j : Nat) (Wr : va_W → Prop) : va_W → Prop := gw_st (wX D a σ) (gw_sp KP (gw_sp (gSh D a ρ j) Wr))
theorem gS_mv {α : Type} {a b l t : List α} (h : l.Perm (b ++ t)) : (a ++ l).Perm (b ++ (a ++ t)) := (h.append_left a).trans (List.perm_append_comm_assoc _ _ _)
theorem gS_perm {x kk : va_W} {w : Nat → va_W} {e : va_W} {r : va_W} {j : Nat} (hj : j < 4) : (x ++ (kk ++ ((e ++ (w 0 ++ (w 1 ++ (w 2 ++ w 3)))) ++ r))).Perm (w j ++ (x ++ (kk ++ ((e ++ ((fun i => if i = j then [] else w i) 0 ++ ((fun i => if i = j then [] else w i) 1 ++ ((fun i => if i = j then [] else w i) 2 ++ (fun i => if i = j then [] else w i) 3)))) ++ r)))) := by
  obtain rfl | rfl | rfl | rfl : j = 0 ∨ j = 1 ∨ j = 2 ∨ j = 3 := by omega
  · simp only [List.append_assoc, if_true, List.nil_append, show ¬ (1 : Nat) = 0 by decide, show ¬ (2 : Nat) = 0 by decide, show ¬ (3 : Nat) = 0 by decide, if_false]
    exact gS_mv (gS_mv (gS_mv (List.Perm.refl _)))
  · simp only [List.append_assoc, if_true, List.nil_append, show ¬ (0 : Nat) = 1 by decide, show ¬ (2 : Nat) = 1 by decide, show ¬ (3 : Nat) = 1 by decide, if_false]
    exact gS_mv (gS_mv (gS_mv (gS_mv (List.Perm.refl _))))
  · simp only [List.append_assoc, if_true, List.nil_append, show ¬ (0 : Nat) = 2 by decide, show ¬ (1 : Nat) = 2 by decide, show ¬ (3 : Nat) = 2 by decide, if_false]
    exact gS_mv (gS_mv (gS_mv (gS_mv (gS_mv (List.Perm.refl _)))))
  · simp only [List.append_assoc, if_true, List.nil_append, show ¬ (0 : Nat) = 3 by decide, show ¬ (1 : Nat) = 3 by decide, show ¬ (2 : Nat) = 3 by decide, if_false]
    exact gS_mv (gS_mv (gS_mv (gS_mv (gS_mv (gS_mv (List.Perm.refl _))))))
section GSW
variable {D : gw_D} {a : Nat → Nat} {σ : gw_S} {ρ : gw_R} {KP Wr : va_W → Prop} {j : Nat}
theorem gS_take (hj : j < 4) : ∀ ws, gXS D a KP σ ρ Wr ws → ∃ ws', gw_sp (gS1 D (a (17 + j)) (ρ j)) (gXH D a KP σ ρ j Wr) ws' ∧ ws.Perm ws' := by
  rintro ws ⟨_, ⟨kk, _, hk, ⟨_, r, ⟨w, hw, rfl⟩, hr, rfl⟩, rfl⟩, rfl⟩
  exact ⟨_, ⟨w j, _, hw j hj, ⟨_, ⟨kk, _, hk, ⟨_, r, ⟨fun i => if i = j then [] else w i, fun i hi hij => by simp only [if_neg hij]; exact hw i hi, if_pos rfl, rfl⟩, hr, rfl⟩, rfl⟩, rfl⟩, rfl⟩, gS_perm hj⟩
theorem gS_give (hj : j < 4) {x : gw_R1} : ∀ ws, gw_sp (gS1 D (a (17 + j)) x) (gXH D a KP σ ρ j Wr) ws → ∃ ws', gXS D a KP σ (gw_upR ρ j x) Wr ws' ∧ ws.Perm ws' := by
  rintro ws ⟨wj, _, hwj, ⟨_, ⟨kk, _, hk, ⟨_, r, ⟨w, hw, he, rfl⟩, hr, rfl⟩, rfl⟩, rfl⟩, rfl⟩
  have e : (fun i => if i = j then ([] : va_W) else (fun i => if i = j then wj else w i) i) = w := by
    funext i
    by_cases h : i = j
    · subst h; simp only [if_true]; exact he.symm
    · simp only [if_neg h]
  refine ⟨_, ⟨_, ⟨kk, _, hk, ⟨_, r, ⟨fun i => if i = j then wj else w i, fun i hi => ?_, rfl⟩, hr, rfl⟩, rfl⟩, rfl⟩, ?_⟩
  · unfold gw_upR
    by_cases h : i = j
    · subst h; simp only [if_true]; exact hwj
    · simp only [if_neg h]; exact hw i hi h
  · have h := gS_perm (x := wX D a σ) (kk := kk) (w := fun i => if i = j then wj else w i) (e := [gS_a D a]) (r := r) hj
    rw [e] at h
    simp only [if_true] at h
    exact h.symm
theorem gw_upR_self : gw_upR ρ j (ρ j) = ρ := by
  funext i
  unfold gw_upR
  split
  · rename_i h; rw [h]
  · rfl
theorem gS_back (hj : j < 4) : ∀ ws, gw_sp (gS1 D (a (17 + j)) (ρ j)) (gXH D a KP σ ρ j Wr) ws → ∃ ws', gXS D a KP σ ρ Wr ws' ∧ ws.Perm ws' := by
  have h := gS_give (D := D) (a := a) (KP := KP) (σ := σ) (ρ := ρ) (Wr := Wr) hj (x := ρ j)
  rw [gw_upR_self] at h
  exact h
/-- the array in front -/
def gS_F (D : gw_D) (a : Nat → Nat) (KP : va_W → Prop) (σ : gw_S) (ρ : gw_R) (Wr : va_W → Prop) : va_W → Prop := fun ws => (∃ w2, ws = [gS_a D a] ++ w2) ∧ ∃ w0, gXS D a KP σ ρ Wr w0 ∧ ws.Perm w0
theorem gS_arr : ∀ ws, gXS D a KP σ ρ Wr ws → ∃ ws', gS_F D a KP σ ρ Wr ws' ∧ ws.Perm ws' := by
  rintro ws h
  obtain ⟨_, ⟨kk, _, hk, ⟨_, r, ⟨w, hw, rfl⟩, hr, rfl⟩, rfl⟩, rfl⟩ := id h
  have hp : (wX D a σ ++ (kk ++ (([gS_a D a] ++ (w 0 ++ (w 1 ++ (w 2 ++ w 3)))) ++ r))).Perm ([gS_a D a] ++ (wX D a σ ++ (kk ++ ((w 0 ++ (w 1 ++ (w 2 ++ w 3))) ++ r)))) := by
    simp only [List.append_assoc]
    exact gS_mv (gS_mv (List.Perm.refl _))
  exact ⟨_, ⟨⟨_, rfl⟩, _, h, hp.symm⟩, hp⟩
theorem gS_arrB : ∀ ws, gS_F D a KP σ ρ Wr ws → ∃ ws', gXS D a KP σ ρ Wr ws' ∧ ws.Perm ws' := fun _ h => h.2
theorem gS_in4 {i : Int32} (h : vp_in i 4) : i.toNatClampNeg < 4 := by
  have h : ¬ (i < 0 ∨ 4 ≤ i.toNatClampNeg) := h
  omega
end GSW
theorem gS_yd_size : yX2_size.cls = RX2 ∧ yX2_size.cls ≠ "java/lang/invoke/MethodHandle" ∧ yX2_size.cls ≠ "java/lang/invoke/VarHandle" ∧ (parseMethodDescriptor yX2_size.desc).map (fun d => d.parameters.length) = some 0 := by decide +kernel
theorem gS_yd_at : yX2_at.cls = RX2 ∧ yX2_at.cls ≠ "java/lang/invoke/MethodHandle" ∧ yX2_at.cls ≠ "java/lang/invoke/VarHandle" ∧ (parseMethodDescriptor yX2_at.desc).map (fun d => d.parameters.length) = some 1 := by decide +kernel
theorem gS_yd_make : yX2_make.cls = RX2 ∧ yX2_make.cls ≠ "java/lang/invoke/MethodHandle" ∧ yX2_make.cls ≠ "java/lang/invoke/VarHandle" ∧ (parseMethodDescriptor yX2_make.desc).map (fun d => d.parameters.length) = some 2 := by decide +kernel
theorem gS_yd_put : yX2_put.cls = RX2 ∧ yX2_put.cls ≠ "java/lang/invoke/MethodHandle" ∧ yX2_put.cls ≠ "java/lang/invoke/VarHandle" ∧ (parseMethodDescriptor yX2_put.desc).map (fun d => d.parameters.length) = some 2 := by decide +kernel
section GSR
variable {E : gw_E} {cc : ByteArray} {nL : Nat} {own : String} {ret : Option FieldType} {l : Launch} {D : gw_D} {R : Room} {post : Option (Option Value → va_W → Prop)} {pc : Nat} {lv : List (Nat × Value)} {st : List Value} {KP Wr : va_W → Prop} {k n : Nat} {a : Nat → Nat} {σ : gw_S} {ρ : gw_R} {j : Nat}
theorem gS_ald (X : gw_X E cc nL own ret l D R post) (pc' : Nat) {i : Int32} (hin : vp_in i 4) (d : decode cc pc = .ok (.aaload, 1)) (hp : pc + 1 = pc') (kk : gw_W E pc' lv (.ref (a (17 + i.toNatClampNeg)) :: st) (gXS D a KP σ ρ Wr) k n) : gw_W E pc lv (.int i :: .ref (a 15) :: st) (gXS D a KP σ ρ Wr) k n := by
  refine gl_perm gS_arr ?_
  refine gl_aald (q0 := 0) (t0 := 5) X pc' (f := gS_f a) ?_ rfl hin (gS_fat (gS_in4 hin)) d hp (gl_perm gS_arrB kk)
  rintro ws ⟨⟨w2, rfl⟩, -⟩
  rfl
theorem gS_size (X : gw_X E cc nL own ret l D R post) (pc' : Nat) {x : Nat × Nat × (Nat → Int32) × (Nat → Int64)} {idx : Nat} (hj : j < 4) (hr : ρ j = some x) (hg : GoodIn lw_all (wsV own idx RX2 yX2_size (ws_ yX2_size cX2_size 1 (some .int)))) (hR : gw_fit rm_X2_size0 R 1 k n = true) (h8 : gw_cat st = true) (d : decode cc pc = .ok (.invokevirtual idx, 3)) (hp : pc + 3 = pc') (kk : gw_W E pc' lv (.int (Int32.ofNat x.2.1) :: st) (gXS D a KP σ ρ Wr) k n) : gw_W E pc lv (.ref (a (17 + j)) :: st) (gXS D a KP σ ρ Wr) k n := by
  refine gl_perm (gS_take hj) ?_
  rw [hr]
  refine gw_callVi X pc' [] mt_X2_size hg gS_yd_size gl_cl2 gS_first hR rfl h8 d hp rfl rfl ?_
  rw [← hr]
  exact gl_perm (gS_back hj) kk
theorem gS_at (X : gw_X E cc nL own ret l D R post) (pc' : Nat) {x : Nat × Nat × (Nat → Int32) × (Nat → Int64)} {i : Int32} {idx : Nat} (hj : j < 4) (hr : ρ j = some x) (hin : vp_in i x.2.1) (hg : GoodIn lw_all (wsV own idx RX2 yX2_at (ws_ yX2_at cX2_at 2 (some .long)))) (hR : gw_fit rm_X2_at R 2 k n = true) (h8 : gw_cat st = true) (d : decode cc pc = .ok (.invokevirtual idx, 3)) (hp : pc + 3 = pc') (kk : gw_W E pc' lv (.long (gv_at x i.toNatClampNeg) :: st) (gXS D a KP σ ρ Wr) k n) : gw_W E pc lv (.int i :: .ref (a (17 + j)) :: st) (gXS D a KP σ ρ Wr) k n := by
  refine gl_perm (gS_take hj) ?_
  rw [hr]
  refine gw_callVl X pc' [.int i] (mt_X2_at hin) hg gS_yd_at gl_cl2 gS_first hR rfl h8 d hp rfl rfl ?_
  rw [← hr]
  exact gl_perm (gS_back hj) kk
/-- a null row: NullPointerException out of size() -/
theorem gS_sizeN (X : gw_X E cc nL own ret l D R post) {idx : Nat} (hj : j < 4) (hr : ρ j = none) (hg : GoodIn lw_all (wsV own idx RX2 yX2_size (ws_ yX2_size cX2_size 1 (some .int)))) (hR : gw_fit rm_X2_size R 1 k n = true) (h8 : gw_cat st = true) (d : decode cc pc = .ok (.invokevirtual idx, 3)) (kx : ∀ q : Nat, gx_W E pc lv (gw_sp (gS1 D (a (17 + j)) (ρ j)) (gXH D a KP σ ρ j Wr)) (k + 1) (n + 8) q gx_NP) : gw_W E pc lv (.ref (a (17 + j)) :: st) (gXS D a KP σ ρ Wr) k n := by
  refine gl_perm (gS_take hj) ?_
  rw [hr] at kx ⊢
  exact gx_callV X _ [] mx_X2_size hg gS_yd_size gl_cl2 gS_first hR rfl h8 d rfl (fun _ _ h => h.elim) (fun q C => gx_cls (kx q))
theorem gS_make (X : gw_X E cc nL own ret l D R post) (pc' : Nat) {x1 x2 : Int32} {kd idx : Nat} (hj : j < 4) (hw : (x1 = 0 ∧ kd = 0) ∨ (x1 = 1 ∧ kd = 1) ∨ (x1 = 2 ∧ kd = 2) ∨ (¬ x1 = 0 ∧ ¬ x1 = 1 ∧ ¬ x1 = 2 ∧ kd = 3)) (hz : ¬ x2 < 0) (hN : x2.toNatClampNeg ≤ 60) (hg : GoodIn lw_all (wsV own idx RX2 yX2_make (ws_ yX2_make cX2_make 3 none))) (hR : gw_fit { rm_X2_make with cells := 1 } R 3 k n = true) (h8 : gw_cat st = true) (d : decode cc pc = .ok (.invokevirtual idx, 3)) (hp : pc + 3 = pc') (kk : gw_W E pc' lv st (gXS D a KP σ (gw_upR ρ j (some (gv_new kd x2))) Wr) (k + 1) (n + 60)) : gw_W E pc lv (.int x2 :: .int x1 :: .ref (a (17 + j)) :: st) (gXS D a KP σ ρ Wr) k n := by
  refine gl_perm (gS_take hj) ?_
  refine gw_callVv X pc' [.int x1, .int x2] (mt_X2_make hw hz hN) hg gS_yd_make gl_cl2 gS_first hR rfl h8 d hp rfl rfl ?_
  exact gl_perm (gS_give hj) kk
theorem gS_makeN (X : gw_X E cc nL own ret l D R post) {x1 x2 : Int32} {kd idx : Nat} (hj : j < 4) (hw : (x1 = 0 ∧ kd = 0) ∨ (x1 = 1 ∧ kd = 1) ∨ (x1 = 2 ∧ kd = 2) ∨ (¬ x1 = 0 ∧ ¬ x1 = 1 ∧ ¬ x1 = 2 ∧ kd = 3)) (hz : x2 < 0) (hg : GoodIn lw_all (wsV own idx RX2 yX2_make (ws_ yX2_make cX2_make 3 none))) (hR : gw_fit rm_X2_make R 3 k n = true) (h8 : gw_cat st = true) (d : decode cc pc = .ok (.invokevirtual idx, 3)) (kx : ∀ q : Nat, gx_W E pc lv (gw_sp (gS1 D (a (17 + j)) (ρ j)) (gXH D a KP σ ρ j Wr)) (k + 3) (n + 60) q gx_NS) : gw_W E pc lv (.int x2 :: .int x1 :: .ref (a (17 + j)) :: st) (gXS D a KP σ ρ Wr) k n := by
  refine gl_perm (gS_take hj) ?_
  exact gx_callV X _ [.int x1, .int x2] (mx_X2_make (Wr := Wr) hw hz) hg gS_yd_make gl_cl2 gS_first hR rfl h8 d rfl (fun _ _ h => h.elim) (fun q C => gx_cls (kx q))
theorem gS_put (X : gw_X E cc nL own ret l D R post) (pc' : Nat) {x : Nat × Nat × (Nat → Int32) × (Nat → Int64)} {i : Int32} {v : Int64} {idx : Nat} (hj : j < 4) (hr : ρ j = some x) (hin : vp_in i x.2.1) (hg : GoodIn lw_all (wsV own idx RX2 yX2_put (ws_ yX2_put cX2_put 4 none))) (hR : gw_fit rm_X2_put0 R 4 k n = true) (h8 : gw_cat st = true) (d : decode cc pc = .ok (.invokevirtual idx, 3)) (hp : pc + 3 = pc') (kk : gw_W E pc' lv st (gXS D a KP σ (gw_upR ρ j (some (gv_put x i.toNatClampNeg v))) Wr) k n) : gw_W E pc lv (.long v :: .int i :: .ref (a (17 + j)) :: st) (gXS D a KP σ ρ Wr) k n := by
  refine gl_perm (gS_take hj) ?_
  rw [hr]
  refine gw_callVv X pc' [.int i, .long v] (mt_X2_put hin) hg gS_yd_put gl_cl2 gS_first hR rfl h8 d hp rfl rfl ?_
  exact gl_perm (gS_give hj) kk
theorem gS_putI (X : gw_X E cc nL own ret l D R post) {x : Nat × Nat × (Nat → Int32) × (Nat → Int64)} {i : Int32} {v : Int64} {idx : Nat} (hj : j < 4) (hr : ρ j = some x) (hin : ¬ vp_in i x.2.1) (hg : GoodIn lw_all (wsV own idx RX2 yX2_put (ws_ yX2_put cX2_put 4 none))) (hR : gw_fit rm_X2_put R 4 k n = true) (h8 : gw_cat st = true) (d : decode cc pc = .ok (.invokevirtual idx, 3)) (kx : ∀ q : Nat, gx_W E pc lv (gw_sp (gS1 D (a (17 + j)) (ρ j)) (gXH D a KP σ ρ j Wr)) (k + 3) (n + 222) q gx_I) : gw_W E pc lv (.long v :: .int i :: .ref (a (17 + j)) :: st) (gXS D a KP σ ρ Wr) k n := by
  refine gl_perm (gS_take hj) ?_
  rw [hr] at kx ⊢
  exact gx_callV X _ [.int i, .long v] (mx_X2_put hin) hg gS_yd_put gl_cl2 gS_first hR rfl h8 d rfl (fun _ _ h => h.elim) (fun q C => gx_cls (kx q))
theorem gS_putN (X : gw_X E cc nL own ret l D R post) {i : Int32} {v : Int64} {idx : Nat} (hj : j < 4) (hr : ρ j = none) (hg : GoodIn lw_all (wsV own idx RX2 yX2_put (ws_ yX2_put cX2_put 4 none))) (hR : gw_fit rm_X2_put R 4 k n = true) (h8 : gw_cat st = true) (d : decode cc pc = .ok (.invokevirtual idx, 3)) (kx : ∀ q : Nat, gx_W E pc lv (gw_sp (gS1 D (a (17 + j)) (ρ j)) (gXH D a KP σ ρ j Wr)) (k + 3) (n + 222) q gx_NP) : gw_W E pc lv (.long v :: .int i :: .ref (a (17 + j)) :: st) (gXS D a KP σ ρ Wr) k n := by
  refine gl_perm (gS_take hj) ?_
  rw [hr] at kx ⊢
  exact gx_callV X _ [.int i, .long v] mx_X2_put0 hg gS_yd_put gl_cl2 gS_first hR rfl h8 d rfl (fun _ _ h => h.elim) (fun q C => gx_cls (kx q))
end GSR
/-- a row that may be null -/
def gw_m {α β : Type} (o : Option α) (z : Option β) (f : α → Option β) : Option β := match o with
  | none => z
  | some x => f x
theorem gw_m_none {α β : Type} {o : Option α} {z : Option β} {f : α → Option β} {r : β} (h : o = none) (hp : gw_m o z f = some r) : z = some r := by subst h; exact hp
theorem gw_m_some {α β : Type} {o : Option α} {z : Option β} {f : α → Option β} {r : β} {x : α} (h : o = some x) (hp : gw_m o z f = some r) : f x = some r := by subst h; exact hp
/-- the kinds, made and named -/
def gKb (D : gw_D) (a b : Nat → Nat) : va_W → Prop := fun w => w = wK D a b
theorem gK_in {D : gw_D} {a b : Nat → Nat} {w : va_W} {W : va_W → Prop} {ws : va_W} (h : gw_st w (gw_st (wK D a b) W) ws) : gw_st w (gw_sp (gKb D a b) W) ws := by
  obtain ⟨_, ⟨y, hy, rfl⟩, rfl⟩ := h
  exact ⟨_, ⟨_, y, rfl, hy, rfl⟩, rfl⟩
theorem gK_out {D : gw_D} {a b : Nat → Nat} {w : va_W} {W : va_W → Prop} {ws : va_W} (h : gw_st w (gw_sp (gKb D a b) W) ws) : gw_st w (gw_st (wK D a b) W) ws := by
  obtain ⟨_, ⟨_, y, rfl, hy, rfl⟩, rfl⟩ := h
  exact ⟨_, ⟨y, hy, rfl⟩, rfl⟩
theorem gK_close {D : gw_D} {a b : Nat → Nat} {w : va_W} {W : va_W → Prop} {ws : va_W} (h : gw_st w (gw_st (wK D a b) W) ws) : gw_st w (gw_sp (gK D a) W) ws := by
  obtain ⟨_, ⟨y, hy, rfl⟩, rfl⟩ := h
  exact ⟨_, ⟨_, y, Or.inr ⟨b, rfl⟩, hy, rfl⟩, rfl⟩
def gw_i {β : Type} (i : Int32) (N : Nat) (x y : Option β) : Option β := if ¬ (i < 0 ∨ N ≤ i.toNatClampNeg) then x else y
theorem gw_i_t {β : Type} {i : Int32} {N : Nat} {x y : Option β} {r : β} (h : vp_in i N) (hp : gw_i i N x y = some r) : x = some r := by
  unfold gw_i at hp
  rw [if_pos (show ¬ (i < 0 ∨ N ≤ i.toNatClampNeg) from h)] at hp
  exact hp
theorem gw_i_f {β : Type} {i : Int32} {N : Nat} {x y : Option β} {r : β} (h : ¬ vp_in i N) (hp : gw_i i N x y = some r) : y = some r := by
  unfold gw_i at hp
  rw [if_neg (show ¬ ¬ (i < 0 ∨ N ≤ i.toNatClampNeg) from h)] at hp
  exact hp
def gv_k (w : Int32) : Nat := if w = 0 then 0 else if w = 1 then 1 else if w = 2 then 2 else 3
theorem gv_kd (w : Int32) : (w = 0 ∧ gv_k w = 0) ∨ (w = 1 ∧ gv_k w = 1) ∨ (w = 2 ∧ gv_k w = 2) ∨ (¬ w = 0 ∧ ¬ w = 1 ∧ ¬ w = 2 ∧ gv_k w = 3) := by
  unfold gv_k
  by_cases h0 : w = 0
  · rw [if_pos h0]; exact Or.inl ⟨h0, rfl⟩
  · rw [if_neg h0]
    by_cases h1 : w = 1
    · rw [if_pos h1]; exact Or.inr (Or.inl ⟨h1, rfl⟩)
    · rw [if_neg h1]
      by_cases h2 : w = 2
      · rw [if_pos h2]; exact Or.inr (Or.inr (Or.inl ⟨h2, rfl⟩))
      · rw [if_neg h2]; exact Or.inr (Or.inr (Or.inr ⟨h0, h1, h2, rfl⟩))
theorem gv_in61 {i : Int32} (h : vp_in i 61) : i.toNatClampNeg ≤ 60 := by
  have h : ¬ (i < 0 ∨ 61 ≤ i.toNatClampNeg) := h
  omega
