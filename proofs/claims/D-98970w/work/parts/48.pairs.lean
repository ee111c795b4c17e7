/-! CardHolder.pairs: by recursion; at most 1000 deep -/
def fx_X0_pairs_n : Nat → gw_S → Int32 → Int32 → Option (Bool × gw_S)
  | 0, _, _, _ => none
  | n + 1, σ, x1, x2 => fx_X0_pairs_b (fx_X0_pairs_n n) σ x1 x2
def fx_X0_pairs (σ : gw_S) (x1 x2 : Int32) : Option (Bool × gw_S) := fx_X0_pairs_n 100 σ x1 x2
abbrev rm_X0_pairs : Room := { frames := 105, cells := 0, slots := 0, locals := 4200 }
theorem mt_X0_pairs_n {l : Launch} {D : gw_D} {a : Nat → Nat} {Wr : va_W → Prop} : ∀ (n : Nat) {σ : gw_S} {x1 x2 : Int32} {res : Bool × gw_S}, fx_X0_pairs_n n σ x1 x2 = some res → gw_Ct D l yX0_pairs cX0_pairs 5 (some .boolean) (rmp_X0_pairs n) [.ref (a 0), .int x1, .int x2] (gw_st (wX D a σ) Wr) (gw_pI (gw_b res.1) (gw_st (wX D a res.2) Wr)) := by
  intro n
  induction n with
  | zero =>
    intro σ x1 x2 res hp
    cases (show none = some res from hp)
  | succ n ih =>
    intro σ x1 x2 res hp
    rw [fx_X0_pairs_n] at hp
    exact mtb_X0_pairs hp (rmp_X0_pairs_fit n) ih
theorem mt_X0_pairs {l : Launch} {D : gw_D} {a : Nat → Nat} {Wr : va_W → Prop} {σ : gw_S} {x1 x2 : Int32} {res : Bool × gw_S} (hp : fx_X0_pairs σ x1 x2 = some res) : gw_Ct D l yX0_pairs cX0_pairs 5 (some .boolean) rm_X0_pairs [.ref (a 0), .int x1, .int x2] (gw_st (wX D a σ) Wr) (gw_pI (gw_b res.1) (gw_st (wX D a res.2) Wr)) := mt_X0_pairs_n 100 hp
