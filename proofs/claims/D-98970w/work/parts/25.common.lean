/-! CardHolderModel.common: the greatest common divisor, by recursion -/
set_option maxRecDepth 100000
def fx_X3_common_n : Nat → Int32 → Int32 → Option Int32
  | 0, _, _ => none
  | n + 1, x0, x1 => if x1 = 0 then some x0 else gw_cz x1 (fx_X3_common_n n x1 (x0 - x0 / x1 * x1))
def fx_X3_common (x0 x1 : Int32) : Option Int32 := fx_X3_common_n 1000 x0 x1
def rm_X3_common_n (n : Nat) : Room := { frames := n, cells := 0, slots := 0, locals := 40 * n }
abbrev rm_X3_common : Room := { frames := 1000, cells := 0, slots := 0, locals := 40000 }
theorem rm_X3_common_fit (n : Nat) : gw_fit (rm_X3_common_n n) (rm_X3_common_n (n + 1)) 2 0 0 = true := by
  unfold gw_fit rm_X3_common_n
  simp only [Bool.and_eq_true, Nat.ble_eq]
  omega
theorem lkc_X3_352 : GoodIn lw_all (va_wsS RX3 352 yX3_common (ws_ yX3_common cX3_common 2 (some .int))) := lw_S q1929 q1930 q142 q1931
theorem ydc_X3_common : yX3_common.cls ≠ "java/lang/invoke/MethodHandle" ∧ yX3_common.cls ≠ "java/lang/invoke/VarHandle" ∧ (parseMethodDescriptor yX3_common.desc).map (fun d => d.parameters.length) = some 2 := by decide +kernel
set_option maxHeartbeats 4000000 in
theorem mt_X3_common_n {l : Launch} {D : gw_D} {Ws : va_W → Prop} : ∀ (n : Nat) {x0 x1 res : Int32}, fx_X3_common_n n x0 x1 = some res → gw_Ct D l yX3_common cX3_common 2 (some .int) (rm_X3_common_n n) [.int x0, .int x1] Ws (gw_pI res Ws) := by
  intro n
  induction n with
  | zero =>
    intro x0 x1 res hp
    cases (show none = some res from hp)
  | succ n ih =>
    intro x0 x1 res hp
    refine gw_ct (own := RX3) [(0, .int x0), (1, .int x1)] (by decide) rfl (Nat.le_of_ble_eq_true rfl) rfl ?_
    intro E X
    rw [fx_X3_common_n] at hp
    refine gw_iload_n X 1 1 dX3_common_0 rfl rfl rfl ?_
    refine gw_if_ne X 8 4 dX3_common_1 rfl rfl (fun z => ?_) (fun z => ?_)
    · replace hp := gw_f z hp
      refine gw_iload_n X 9 1 dX3_common_8 rfl rfl rfl ?_
      refine gw_iload_n X 10 0 dX3_common_9 rfl rfl rfl ?_
      refine gw_iload_n X 11 1 dX3_common_10 rfl rfl rfl ?_
      obtain ⟨hz, hp⟩ := gw_cz_some hp
      refine gw_irem X 12 dX3_common_11 rfl hz ?_
      refine gw_callSi X 15 [.int x1, .int (x0 - x0 / x1 * x1)] (ih hp) lkc_X3_352 ydc_X3_common (rm_X3_common_fit n) rfl rfl dX3_common_12 rfl rfl rfl ?_
      exact gw_iret X dX3_common_15 (fun _ h => ⟨rfl, h⟩) (Nat.zero_le _) (Nat.zero_le _)
    · replace hp := gw_t z hp
      refine gw_iload_n X 5 0 dX3_common_4 rfl rfl rfl ?_
      refine gw_goto X 15 dX3_common_5 rfl ?_
      cases hp
      exact gw_iret X dX3_common_15 (fun _ h => ⟨rfl, h⟩) (Nat.zero_le _) (Nat.zero_le _)
theorem mt_X3_common {l : Launch} {D : gw_D} {Ws : va_W → Prop} {x0 x1 res : Int32} (hp : fx_X3_common x0 x1 = some res) : gw_Ct D l yX3_common cX3_common 2 (some .int) rm_X3_common [.int x0, .int x1] Ws (gw_pI res Ws) := mt_X3_common_n 1000 hp
