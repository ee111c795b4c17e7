/-- the room of CardHolder.pairs at depth n -/
def rmp_X0_pairs (n : Nat) : Room := { frames := n + 5, cells := 0, slots := 0, locals := 40 * n + 200 }
theorem rmp_X0_pairs_fit (n : Nat) : gw_fit (rmp_X0_pairs n) (rmp_X0_pairs (n + 1)) 5 0 0 = true := by
  unfold gw_fit rmp_X0_pairs
  simp only [Bool.and_eq_true, Nat.ble_eq]
  omega
