/-! is a slot's row null? (getfield row; ifnonnull) -/
set_option maxRecDepth 100000
section GRI
variable {E : gw_E} {cc : ByteArray} {nL : Nat} {own : String} {ret : Option FieldType} {l : Launch} {D : gw_D} {R : Room} {post : Option (Option Value → va_W → Prop)} {pc : Nat} {lv : List (Nat × Value)} {st : List Value} {Ws KP Wr : va_W → Prop} {k n : Nat} {a : Nat → Nat} {σ : gw_S} {ρ : gw_R} {j : Nat}
theorem gl_ifnnR (X : gw_X E cc nL own ret l D R post) (pt : Nat) {x : Nat} {off : Int} (d : decode cc pc = .ok (.ifnonnull off, 3)) (ht : (pc : Int) + off = (pt : Int)) (kk : gw_W E pt lv st Ws k n) : gw_W E pc lv (.ref x :: st) Ws k n := by
  obtain ⟨p, e, s, m, args, below, meth, c, A, l1, D1, R1, Q1⟩ := E
  obtain ⟨rfl, rfl, rfl, hQ, hx, hb, hml, hr, hlk, hown, hts, hK, hA, hST, hfl⟩ := X
  intro ws hw0 H locs ls hP hD hS hl
  exact lv_ifnonnull hx hb d ht (kk ws hw0 H locs ls hP hD hS hl)
theorem gl_ifnnN (X : gw_X E cc nL own ret l D R post) (pf : Nat) {off : Int} (d : decode cc pc = .ok (.ifnonnull off, 3)) (hp : pc + 3 = pf) (kk : gw_W E pf lv st Ws k n) : gw_W E pc lv (.null :: st) Ws k n := by
  subst hp
  obtain ⟨p, e, s, m, args, below, meth, c, A, l1, D1, R1, Q1⟩ := E
  obtain ⟨rfl, rfl, rfl, hQ, hx, hb, hml, hr, hlk, hown, hts, hK, hA, hST, hfl⟩ := X
  intro ws hw0 H locs ls hP hD hS hl
  exact lv_ifnonnullN hx hb d (kk ws hw0 H locs ls hP hD hS hl)
theorem gS_rowif (X : gw_X E cc nL own ret l D R post) (p1 pt pf : Nat) {idx : Nat} {host : String} {off : Int} (hj : j < 4) (hlk : Cond.fieldLinkNest own idx "CardHolder$Slot" "row" "Ljava/lang/Object;" host ∈ lw_tbl) (d1 : decode cc pc = .ok (.getfield idx, 3)) (hp1 : pc + 3 = p1) (d2 : decode cc p1 = .ok (.ifnonnull off, 3)) (ht : (p1 : Int) + off = (pt : Int)) (hp : p1 + 3 = pf) (kt : (ρ j).isSome = true → gw_W E pt lv st (gXS D a KP σ ρ Wr) k n) (kf : ¬ (ρ j).isSome = true → gw_W E pf lv st (gXS D a KP σ ρ Wr) k n) : gw_W E pc lv (.ref (a (17 + j)) :: st) (gXS D a KP σ ρ Wr) k n := by
  refine gl_perm (gS_take hj) ?_
  have hb := gS_back (D := D) (a := a) (KP := KP) (σ := σ) (ρ := ρ) (Wr := Wr) hj
  rcases h : ρ j with _ | x
  · rw [h] at hb kf
    refine gS_openN ?_
    refine gl_getN (q0 := 0) (fs := [.null]) X p1 in_X2 gl_cl2 (gl_at rfl) 0 (by decide) hlk rfl rfl d1 hp1 ?_
    refine gl_ifnnN X pf d2 hp ?_
    refine gw_ww (fun _ => gS_closeN (D := D)) ?_
    exact gl_perm hb (kf (by decide))
  · rw [h] at hb kt
    refine gS_open (fun h1 h2 q => ?_)
    refine gl_getN (q0 := 0) (fs := [.ref q]) X p1 in_X2 gl_cl2 (gl_at rfl) 0 (by decide) hlk rfl rfl d1 hp1 ?_
    refine gl_ifnnR X pt d2 ht ?_
    refine gw_ww (fun _ hw => gS_close h1 h2 hw) ?_
    exact gl_perm hb (kt rfl)
end GRI
