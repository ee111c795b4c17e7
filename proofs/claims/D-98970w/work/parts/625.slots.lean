/-! PURE SIDE: rows in slots: deeds in them, rows that are judged -/
set_option maxRecDepth 100000
/-- the rows in both -/
def slR (ρ : gw_R) (τ : gw_S) : Prop := ∀ k, k < 4 → match ρ k with
  | none => τ.1 1 k = -1
  | some x => x.1 < 4 ∧ x.2.1 ≤ 60 ∧ τ.1 1 k = nI x.1 ∧ τ.1 2 k = nI x.2.1 ∧ ∀ j, j < x.2.1 → gv_at x j = τ.2 3 (60 * k + j)
theorem slR.move {ρ : gw_R} {τ τ' : gw_S} (S : slR ρ τ) (y : jm τ τ') : slR ρ τ' := by
  intro k hk
  have q := S k hk
  obtain ⟨y1, y2, y3, _⟩ := y
  rw [y1, y2, y3]
  exact q
theorem slR.no {ρ : gw_R} {τ : gw_S} (S : slR ρ τ) {k : Nat} (hk : k < 4) (e : ρ k = none) : τ.1 1 k = -1 := by
  have q := S k hk
  rw [e] at q
  exact q
theorem slR.ok {ρ : gw_R} {τ : gw_S} (S : slR ρ τ) {k : Nat} (hk : k < 4) {x : Nat × Nat × (Nat → Int32) × (Nat → Int64)} (e : ρ k = some x) : x.1 < 4 ∧ x.2.1 ≤ 60 ∧ τ.1 1 k = nI x.1 ∧ τ.1 2 k = nI x.2.1 ∧ ∀ j, j < x.2.1 → gv_at x j = τ.2 3 (60 * k + j) := by
  have q := S k hk
  rw [e] at q
  exact q
theorem dd_X (v : Int64) : fx_X0_isDeed v = decide (0 ≤ v.toInt ∧ v.toInt ≤ 5) := by
  unfold fx_X0_isDeed fx_X0_isOneOf
  rw [pq_isIn]
  rfl
theorem dd_M (v : Int64) : fx_X3_isDeed v = decide (0 ≤ v.toInt ∧ v.toInt ≤ 5) := by
  unfold fx_X3_isDeed
  rw [pq_in_eq, pq_isIn]
  rfl
theorem lN_of {v : Int64} (h0 : 0 ≤ v.toInt) : v = lN v.toInt.toNat := by
  apply Int64.toInt_inj.mp
  have := v.toInt_lt
  rw [pk_lT (by omega)]
  omega
theorem ps_X {N : Nat} {σ : gw_S} (e : σ.1 1 2 = nI N) (h8 : N ≤ 8) (v : Int64) : fx_X0_isPerson σ v = decide (0 ≤ v.toInt ∧ v.toInt < N) := by
  unfold fx_X0_isPerson
  have q : ∀ N, N ≤ 8 → (Int32.toInt64 (nI N - 1)).toInt = (N : Int) - 1 := by decide +kernel
  rw [pq_isIn, e, q N h8, Int64.toInt_zero]
  apply decide_eq_decide.mpr
  omega
theorem ps_M {N : Nat} {τ : gw_S} (e : τ.1 7 1 = nI N) (h8 : N ≤ 8) (v : Int64) : fx_X3_isPerson τ v = decide (0 ≤ v.toInt ∧ v.toInt < N) := by
  unfold fx_X3_isPerson
  have q : ∀ N, N ≤ 8 → (Int32.toInt64 (nI N) - 1).toInt = (N : Int) - 1 := by decide +kernel
  rw [pq_in_eq, pq_isIn, e, q N h8, Int64.toInt_zero]
  apply decide_eq_decide.mpr
  omega
theorem ix60 {k j : Nat} : ((60 : Int32) * nI k) + nI j = nI (60 * k + j) := by
  rw [show (60 : Int32) = nI 60 from rfl, pk_mul, nI_add]
section
variable {N : Nat} {h : Nat → Option Nat} {w d s : Nat → Nat} {f a : Nat} {σ τ : gw_S} {ρ : gw_R}
/-- deeds in a row, or not all -/
theorem sl_deeds (S : slR ρ τ) {k : Nat} (hk : k < 4) {x : Nat × Nat × (Nat → Int32) × (Nat → Int64)} (e : ρ k = some x) : (∃ g : Nat → Nat, (∀ i, i < x.2.1 → g i < 6 ∧ gv_at x i = lN (g i)) ∧ fx_X0_asksDeeds_L29 ρ σ (nI k) (nI x.2.1) 1000 0 = some 0 ∧ fx_X3_whyNot_L32 τ (nI k) 1000 0 = some 0) ∨ (fx_X0_asksDeeds_L29 ρ σ (nI k) (nI x.2.1) 1000 0 = some (-2) ∧ fx_X3_whyNot_L32 τ (nI k) 1000 0 = some (-2)) := by
  obtain ⟨s1, s2, s3, s4, s5⟩ := S.ok hk e
  refine pq_two (fun n (_ : Unit) c => fx_X0_asksDeeds_L29 ρ σ (nI k) (nI x.2.1) n c) (fun n (_ : Unit) c => fx_X3_whyNot_L32 τ (nI k) n c) (fun o p => (∃ g : Nat → Nat, (∀ i, i < x.2.1 → g i < 6 ∧ gv_at x i = lN (g i)) ∧ o = some 0 ∧ p = some 0) ∨ (o = some (-2) ∧ p = some (-2))) x.2.1 (fun i _ _ => ∀ j, j < i → 0 ≤ (gv_at x j).toInt ∧ (gv_at x j).toInt ≤ 5) ?_ ?_ 1000 1000 0 () () (by omega) (by omega) (by omega) (fun j hj => by omega)
  · intro n m _ _ I
    left
    refine ⟨fun i => (gv_at x i).toInt.toNat, fun i hi => ?_, ?_, ?_⟩
    · obtain ⟨i1, i2⟩ := I i hi
      exact ⟨by show (gv_at x i).toInt.toNat < 6; omega, lN_of i1⟩
    · show fx_X0_asksDeeds_L29 ρ σ (nI k) (nI x.2.1) (n + 1) (nI x.2.1) = _
      rw [fx_X0_asksDeeds_L29, if_pos (nI_le (Nat.le_refl _) (by omega))]
    · show fx_X3_whyNot_L32 τ (nI k) (m + 1) (nI x.2.1) = _
      rw [fx_X3_whyNot_L32, pq_ck hk (by omega), nI_clamp (by omega), s4, if_pos (nI_le (Nat.le_refl _) (by omega))]
  · intro n m i _ _ hi I ih
    show _ ∨ (fx_X0_asksDeeds_L29 ρ σ (nI k) (nI x.2.1) (n + 1) (nI i) = some (-2) ∧ fx_X3_whyNot_L32 τ (nI k) (m + 1) (nI i) = some (-2))
    show (∃ g : Nat → Nat, (∀ i, i < x.2.1 → g i < 6 ∧ gv_at x i = lN (g i)) ∧ fx_X0_asksDeeds_L29 ρ σ (nI k) (nI x.2.1) (n + 1) (nI i) = some 0 ∧ fx_X3_whyNot_L32 τ (nI k) (m + 1) (nI i) = some 0) ∨ _
    rw [fx_X0_asksDeeds_L29, fx_X3_whyNot_L32, if_neg (nI_ge hi (by omega)), pq_ck hk (by omega), pq_ck hk (by omega), nI_clamp (by omega), nI_clamp (by omega), e, s4, if_neg (nI_ge hi (by omega)), gw_b1_s, pq_ck hi (by omega), ix60, pq_ck (by omega) (by omega), nI_clamp (by omega), dd_X, dd_M, s5 i hi]
    by_cases z : 0 ≤ (τ.2 3 (60 * k + i)).toInt ∧ (τ.2 3 (60 * k + i)).toInt ≤ 5
    · rw [if_pos (decide_eq_true z), if_pos (decide_eq_true z)]
      refine ih () () (fun j hj => ?_)
      by_cases y : j = i
      · subst y; rw [s5 j hi]; exact z
      · exact I j (by omega)
    · rw [if_neg (fun q => z (of_decide_eq_true q)), if_neg (fun q => z (of_decide_eq_true q))]
      exact Or.inr ⟨rfl, rfl⟩
/-- which deeds -/
def sp_row (g : Nat → Nat) : Nat → Nat := sp_f (fun i b => b ||| 2 ^ g i) 0
theorem sp_row_lt {g : Nat → Nat} : ∀ n, (∀ i, i < n → g i < 6) → sp_row g n < 64 := by
  intro n
  induction n with
  | zero => intro _; show 0 < 64; decide
  | succ n ih =>
    intro q
    show sp_row g n ||| 2 ^ g n < 2 ^ 6
    exact Nat.or_lt_two_pow (ih (fun i hi => q i (by omega))) (Nat.pow_lt_pow_right (by decide) (q n (by omega)))
theorem xe_row {k : Nat} (hk : k < 4) {x : Nat × Nat × (Nat → Int32) × (Nat → Int64)} (h60 : x.2.1 ≤ 60) (e : ρ k = some x) {g : Nat → Nat} (hg : ∀ i, i < x.2.1 → g i < 6 ∧ gv_at x i = lN (g i)) : fx_X0_deedsIn σ ρ (nI k) = some (nI (sp_row g x.2.1)) := by
  unfold fx_X0_deedsIn
  refine pq_fold (fun n (b : Nat) c => fx_X0_deedsIn_L4 ρ σ (nI k) n (nI b) c) (fun b => some (nI b)) x.2.1 (fun i b => b ||| 2 ^ g i) 0 (fun _ _ => True) trivial ?_ ?_ 1000 (by omega)
  · intro n b _
    show fx_X0_deedsIn_L4 ρ σ (nI k) (n + 1) (nI b) (nI x.2.1) = _
    rw [fx_X0_deedsIn_L4, pq_ck hk (by omega), nI_clamp (by omega), e, gw_b1_s]
    exact if_pos (nI_le (Nat.le_refl _) (by omega))
  · intro n i b hi _
    refine ⟨trivial, ?_⟩
    obtain ⟨g1, g2⟩ := hg i hi
    show fx_X0_deedsIn_L4 ρ σ (nI k) (n + 1) (nI b) (nI i) = fx_X0_deedsIn_L4 ρ σ (nI k) n (nI (b ||| 2 ^ g i)) (nI i + 1)
    rw [fx_X0_deedsIn_L4, pq_ck hk (by omega), nI_clamp (by omega), e, gw_b1_s]
    rw [show Int32.ofNat x.2.1 = nI x.2.1 from rfl, if_neg (nI_ge hi (by omega))]
    unfold fx_X0_number
    rw [pq_ck hk (by omega), nI_clamp (by omega), e, gw_b1_s, pq_ck hi (by omega), gw_b1_s, nI_clamp (by omega), g2, lN_i, pq_shl1 (g i) (by omega), pq_or]
theorem me_row (S : slR ρ τ) {k : Nat} (hk : k < 4) {x : Nat × Nat × (Nat → Int32) × (Nat → Int64)} (e : ρ k = some x) {g : Nat → Nat} (hg : ∀ i, i < x.2.1 → g i < 6 ∧ gv_at x i = lN (g i)) : fx_X3_rowOf τ (nI k) = some (nI (sp_row g x.2.1)) := by
  obtain ⟨s1, s2, s3, s4, s5⟩ := S.ok hk e
  unfold fx_X3_rowOf
  refine pq_fold (fun n (b : Nat) c => fx_X3_rowOf_L4 τ (nI k) n (nI b) c) (fun b => some (nI b)) x.2.1 (fun i b => b ||| 2 ^ g i) 0 (fun _ _ => True) trivial ?_ ?_ 1000 (by omega)
  · intro n b _
    show fx_X3_rowOf_L4 τ (nI k) (n + 1) (nI b) (nI x.2.1) = _
    rw [fx_X3_rowOf_L4, pq_ck hk (by omega), nI_clamp (by omega), s4, if_pos (nI_le (Nat.le_refl _) (by omega))]
  · intro n i b hi _
    refine ⟨trivial, ?_⟩
    obtain ⟨g1, g2⟩ := hg i hi
    show fx_X3_rowOf_L4 τ (nI k) (n + 1) (nI b) (nI i) = fx_X3_rowOf_L4 τ (nI k) n (nI (b ||| 2 ^ g i)) (nI i + 1)
    rw [fx_X3_rowOf_L4, pq_ck hk (by omega), nI_clamp (by omega), s4, if_neg (nI_ge hi (by omega)), ix60, pq_ck (by omega) (by omega), nI_clamp (by omega), ← s5 i hi, g2, lN_i, pq_shl1 (g i) (by omega), pq_or]
/-! who is to be watched -/
theorem wish_and {b x : Nat} : ∀ n, sp_wish s b n &&& sp_wish s (2 ^ x) n = sp_wish s (b ||| 2 ^ x) n := by
  intro n
  unfold sp_wish
  apply Nat.eq_of_testBit_eq
  intro i
  rw [Nat.testBit_and, sp_set_bit, sp_set_bit, sp_set_bit]
  have key : ∀ u v c : Nat, (nd u c = 0 ∧ nd v c = 0) ↔ nd (u ||| v) c = 0 := by
    intro u v c
    constructor
    · rintro ⟨h1, h2⟩
      apply Nat.eq_of_testBit_eq
      intro j
      have a1 := congrArg (fun t => Nat.testBit t j) h1
      have a2 := congrArg (fun t => Nat.testBit t j) h2
      simp only [nd_bit, Nat.zero_testBit] at a1 a2 ⊢
      rw [Nat.testBit_or]
      revert a1 a2
      cases u.testBit j <;> cases v.testBit j <;> cases c.testBit j <;> simp
    · intro h1
      refine ⟨?_, ?_⟩
      · apply Nat.eq_of_testBit_eq
        intro j
        have a1 := congrArg (fun t => Nat.testBit t j) h1
        simp only [nd_bit, Nat.zero_testBit, Nat.testBit_or] at a1 ⊢
        revert a1
        cases u.testBit j <;> cases v.testBit j <;> cases c.testBit j <;> simp
      · apply Nat.eq_of_testBit_eq
        intro j
        have a1 := congrArg (fun t => Nat.testBit t j) h1
        simp only [nd_bit, Nat.zero_testBit, Nat.testBit_or] at a1 ⊢
        revert a1
        cases u.testBit j <;> cases v.testBit j <;> cases c.testBit j <;> simp
  have k := key b (2 ^ x) (s i)
  by_cases e1 : nd b (s i) = 0
  · by_cases e2 : nd (2 ^ x) (s i) = 0
    · simp [e1, e2, k.mp ⟨e1, e2⟩]
    · have e3 : ¬ nd (b ||| 2 ^ x) (s i) = 0 := fun q => e2 (k.mpr q).2
      simp [e2, e3]
  · have e3 : ¬ nd (b ||| 2 ^ x) (s i) = 0 := fun q => e1 (k.mpr q).1
    simp [e1, e3]
theorem sp_wish_lt (V : vw N h w d s f a) {b : Nat} : sp_wish s b N < 256 := pw8 V.1 (sp_set_lt _ _)
theorem and_bits : ∀ x, x < 256 → ∀ y, y < 256 → pc (x &&& y) ≤ pc x := by
  intro x hx y hy
  have key : ∀ n, sp_f (fun p n => n + (if (x &&& y).testBit p then 1 else 0)) 0 n ≤ sp_f (fun p n => n + (if x.testBit p then 1 else 0)) 0 n := by
    intro n
    induction n with
    | zero => exact Nat.le_refl _
    | succ n ih =>
      have e : (if (x &&& y).testBit n then 1 else 0) ≤ (if x.testBit n then 1 else 0) := by
        rw [Nat.testBit_and]
        cases x.testBit n <;> cases y.testBit n <;> simp
      exact Nat.add_le_add ih e
  exact key 8
/-- best deed, what it leaves at worst -/
def st_watch (s : Nat → Nat) (N b x : Nat) (q : Option Nat × Nat) : Option Nat × Nat :=
  if max (pc (sp_wish s (b ||| 2 ^ x) N)) (pc (sp_wish s b N) - pc (sp_wish s (b ||| 2 ^ x) N)) < q.2 then (some x, max (pc (sp_wish s (b ||| 2 ^ x) N)) (pc (sp_wish s b N) - pc (sp_wish s (b ||| 2 ^ x) N))) else q
theorem or6 {b x : Nat} (hb : b < 64) (hx : x < 6) : b ||| 2 ^ x < 64 := Nat.or_lt_two_pow (n := 6) hb (Nat.pow_lt_pow_right (by decide) hx)
theorem xe_watch (V : vw N h w d s f a) (X : vX N h w d s f a σ) {b : Nat} (hb : b < 64) : ∃ σ', fx_X0_watchOf_L23 ρ (nI (sp_wish s b N)) 1000 (-1) 0 (gw_u σ 0 16 (nI (pc (sp_wish s b N)))) = some (oI (sp_f (st_watch s N b) (none, pc (sp_wish s b N)) 6).1, σ') ∧ σ'.1 0 16 = nI (sp_f (st_watch s N b) (none, pc (sp_wish s b N)) 6).2 ∧ jk σ σ' := by
  have h8 := V.1
  have w0 := sp_wish_lt V (b := b)
  have p0 := pc_le _ w0
  refine pq_loop (fun n (q : Option Nat × gw_S) c => fx_X0_watchOf_L23 ρ (nI (sp_wish s b N)) n (oI q.1) c q.2) (fun o => ∃ σ', o = some (oI (sp_f (st_watch s N b) (none, pc (sp_wish s b N)) 6).1, σ') ∧ σ'.1 0 16 = nI (sp_f (st_watch s N b) (none, pc (sp_wish s b N)) 6).2 ∧ jk σ σ') 6
    (fun i q => q.1 = (sp_f (st_watch s N b) (none, pc (sp_wish s b N)) i).1 ∧ q.2.1 0 16 = nI (sp_f (st_watch s N b) (none, pc (sp_wish s b N)) i).2 ∧ jk σ q.2 ∧ vX N h w d s f a q.2 ∧ (sp_f (st_watch s N b) (none, pc (sp_wish s b N)) i).2 ≤ 8) ?_ ?_ 1000 0 (none, gw_u σ 0 16 (nI (pc (sp_wish s b N)))) (by omega) (by omega) ⟨rfl, rfl, ⟨rfl, rfl, rfl, rfl, rfl, rfl, rfl, rfl, rfl, rfl⟩, X, p0⟩
  · intro n q I
    obtain ⟨i1, i2, i3, i4, i5⟩ := I
    refine ⟨q.2, ?_, i2, i3⟩
    show fx_X0_watchOf_L23 ρ (nI (sp_wish s b N)) (n + 1) (oI q.1) (nI 6) q.2 = _
    rw [fx_X0_watchOf_L23, i1]
    exact if_pos (by decide)
  · intro n i q hi I ih
    obtain ⟨i1, i2, i3, i4, i5⟩ := I
    show ∃ σ', fx_X0_watchOf_L23 ρ (nI (sp_wish s b N)) (n + 1) (oI q.1) (nI i) q.2 = some _ ∧ _
    have w1 : sp_wish s (2 ^ i) N < 256 := sp_wish_lt V
    have w2 : sp_wish s (b ||| 2 ^ i) N < 256 := sp_wish_lt V
    have p2 := pc_le _ w2
    have le : pc (sp_wish s (b ||| 2 ^ i) N) ≤ pc (sp_wish s b N) := by
      rw [← wish_and]; exact and_bits _ w0 _ w1
    rw [fx_X0_watchOf_L23, show (6 : Int32) = nI 6 from rfl, if_neg (nI_ge hi (by omega)), pq_shl1 i (by omega), xe_wish V i4 (Nat.pow_lt_pow_right (n := 6) (by decide) hi), gw_b1_s, pq_and, wish_and, pc_X _ w2, pc_X _ w0, pk_sub le]
    have em : (if nI (pc (sp_wish s (b ||| 2 ^ i) N)) < nI (pc (sp_wish s b N) - pc (sp_wish s (b ||| 2 ^ i) N)) then nI (pc (sp_wish s b N) - pc (sp_wish s (b ||| 2 ^ i) N)) else nI (pc (sp_wish s (b ||| 2 ^ i) N))) = nI (max (pc (sp_wish s (b ||| 2 ^ i) N)) (pc (sp_wish s b N) - pc (sp_wish s (b ||| 2 ^ i) N))) := by
      by_cases l : pc (sp_wish s (b ||| 2 ^ i) N) < pc (sp_wish s b N) - pc (sp_wish s (b ||| 2 ^ i) N)
      · rw [if_pos (nI_lt l (by omega))]
        congr 1
        omega
      · rw [if_neg (nI_nlt (by omega) (by omega))]
        congr 1
        omega
    rw [em, i2]
    have st : sp_f (st_watch s N b) (none, pc (sp_wish s b N)) (i + 1) = st_watch s N b i (sp_f (st_watch s N b) (none, pc (sp_wish s b N)) i) := rfl
    by_cases l : max (pc (sp_wish s (b ||| 2 ^ i) N)) (pc (sp_wish s b N) - pc (sp_wish s (b ||| 2 ^ i) N)) < (sp_f (st_watch s N b) (none, pc (sp_wish s b N)) i).2
    · rw [if_pos (nI_lt l (by omega))]
      have e2 : sp_f (st_watch s N b) (none, pc (sp_wish s b N)) (i + 1) = (some i, max (pc (sp_wish s (b ||| 2 ^ i) N)) (pc (sp_wish s b N) - pc (sp_wish s (b ||| 2 ^ i) N))) := by
        rw [st]; exact if_pos l
      refine ih (some i, gw_u q.2 0 16 (nI (max (pc (sp_wish s (b ||| 2 ^ i) N)) (pc (sp_wish s b N) - pc (sp_wish s (b ||| 2 ^ i) N))))) ⟨?_, ?_, i3.tr ⟨rfl, rfl, rfl, rfl, rfl, rfl, rfl, rfl, rfl, rfl⟩, i4, ?_⟩
      · rw [e2]
      · rw [e2]; rfl
      · rw [e2]
        show max _ _ ≤ 8
        omega
    · rw [if_neg (nI_nlt (by omega) (by omega))]
      have e2 : sp_f (st_watch s N b) (none, pc (sp_wish s b N)) (i + 1) = sp_f (st_watch s N b) (none, pc (sp_wish s b N)) i := by
        rw [st]; exact if_neg l
      exact ih q ⟨by rw [e2]; exact i1, by rw [e2]; exact i2, i3, i4, by rw [e2]; exact i5⟩
theorem me_watch (V : vw N h w d s f a) (M : vM N h w d s f a τ) {b : Nat} (hb : b < 64) : ∃ τ', fx_X3_laysWatch_L28 (nI b) (nI (pc (sp_wish s b N))) 1000 0 (gw_u (gw_u τ 0 29 (-1)) 0 30 (nI (pc (sp_wish s b N)))) = some τ' ∧ τ'.1 0 29 = oI (sp_f (st_watch s N b) (none, pc (sp_wish s b N)) 6).1 ∧ τ'.1 0 30 = nI (sp_f (st_watch s N b) (none, pc (sp_wish s b N)) 6).2 ∧ jm τ τ' := by
  have h8 := V.1
  have w0 := sp_wish_lt V (b := b)
  have p0 := pc_le _ w0
  refine pq_loop (fun n (q : gw_S) c => fx_X3_laysWatch_L28 (nI b) (nI (pc (sp_wish s b N))) n c q) (fun o => ∃ τ', o = some τ' ∧ τ'.1 0 29 = oI (sp_f (st_watch s N b) (none, pc (sp_wish s b N)) 6).1 ∧ τ'.1 0 30 = nI (sp_f (st_watch s N b) (none, pc (sp_wish s b N)) 6).2 ∧ jm τ τ') 6
    (fun i q => q.1 0 29 = oI (sp_f (st_watch s N b) (none, pc (sp_wish s b N)) i).1 ∧ q.1 0 30 = nI (sp_f (st_watch s N b) (none, pc (sp_wish s b N)) i).2 ∧ jm τ q ∧ vM N h w d s f a q ∧ (sp_f (st_watch s N b) (none, pc (sp_wish s b N)) i).2 ≤ 8) ?_ ?_ 1000 0 (gw_u (gw_u τ 0 29 (-1)) 0 30 (nI (pc (sp_wish s b N)))) (by omega) (by omega) ⟨rfl, rfl, ⟨rfl, rfl, rfl, rfl, rfl, rfl, rfl, rfl, rfl, rfl, rfl, rfl⟩, M, p0⟩
  · intro n q I
    obtain ⟨i1, i2, i3, i4, i5⟩ := I
    refine ⟨q, ?_, i1, i2, i3⟩
    show fx_X3_laysWatch_L28 (nI b) (nI (pc (sp_wish s b N))) (n + 1) (nI 6) q = _
    rw [fx_X3_laysWatch_L28]
    exact if_pos (by decide)
  · intro n i q hi I ih
    obtain ⟨i1, i2, i3, i4, i5⟩ := I
    show ∃ τ', fx_X3_laysWatch_L28 (nI b) (nI (pc (sp_wish s b N))) (n + 1) (nI i) q = some τ' ∧ _
    have w1 : sp_wish s (2 ^ i) N < 256 := sp_wish_lt V
    have w2 : sp_wish s (b ||| 2 ^ i) N < 256 := sp_wish_lt V
    have p2 := pc_le _ w2
    have le : pc (sp_wish s (b ||| 2 ^ i) N) ≤ pc (sp_wish s b N) := by
      rw [← wish_and]; exact and_bits _ w0 _ w1
    rw [fx_X3_laysWatch_L28, show (6 : Int32) = nI 6 from rfl, if_neg (nI_ge hi (by omega)), pq_shl1 i (by omega), pq_or, me_wish V i4 (or6 hb hi), gw_b1_s, pc_M _ w2, gw_b1_s, pk_sub le]
    have em : (if nI (pc (sp_wish s (b ||| 2 ^ i) N)) ≤ nI (pc (sp_wish s b N) - pc (sp_wish s (b ||| 2 ^ i) N)) then some (nI (pc (sp_wish s b N) - pc (sp_wish s (b ||| 2 ^ i) N))) else some (nI (pc (sp_wish s (b ||| 2 ^ i) N)))) = some (nI (max (pc (sp_wish s (b ||| 2 ^ i) N)) (pc (sp_wish s b N) - pc (sp_wish s (b ||| 2 ^ i) N)))) := by
      by_cases l : pc (sp_wish s (b ||| 2 ^ i) N) ≤ pc (sp_wish s b N) - pc (sp_wish s (b ||| 2 ^ i) N)
      · rw [if_pos (nI_le l (by omega))]
        congr 2
        omega
      · rw [if_neg (nI_ge (by omega) (by omega))]
        congr 2
        omega
    rw [em, gw_b1_s, i2]
    simp only [gw_let]
    have st : sp_f (st_watch s N b) (none, pc (sp_wish s b N)) (i + 1) = st_watch s N b i (sp_f (st_watch s N b) (none, pc (sp_wish s b N)) i) := rfl
    by_cases l : max (pc (sp_wish s (b ||| 2 ^ i) N)) (pc (sp_wish s b N) - pc (sp_wish s (b ||| 2 ^ i) N)) < (sp_f (st_watch s N b) (none, pc (sp_wish s b N)) i).2
    · rw [if_pos (nI_lt l (by omega))]
      have e2 : sp_f (st_watch s N b) (none, pc (sp_wish s b N)) (i + 1) = (some i, max (pc (sp_wish s (b ||| 2 ^ i) N)) (pc (sp_wish s b N) - pc (sp_wish s (b ||| 2 ^ i) N))) := by
        rw [st]; exact if_pos l
      refine ih (gw_u (gw_u q 0 29 (nI i)) 0 30 (nI (max (pc (sp_wish s (b ||| 2 ^ i) N)) (pc (sp_wish s b N) - pc (sp_wish s (b ||| 2 ^ i) N))))) ⟨?_, ?_, i3.tr ⟨rfl, rfl, rfl, rfl, rfl, rfl, rfl, rfl, rfl, rfl, rfl, rfl⟩, i4, ?_⟩
      · rw [e2]; rfl
      · rw [e2]; rfl
      · rw [e2]
        show max _ _ ≤ 8
        omega
    · rw [if_neg (nI_nlt (by omega) (by omega))]
      have e2 : sp_f (st_watch s N b) (none, pc (sp_wish s b N)) (i + 1) = sp_f (st_watch s N b) (none, pc (sp_wish s b N)) i := by
        rw [st]; exact if_neg l
      exact ih q ⟨by rw [e2]; exact i1, by rw [e2]; exact i2, i3, i4, by rw [e2]; exact i5⟩
/-! the least proof -/
theorem nd_big {x y : Nat} (e : nd x y = 0) : x ≤ y := by
  have e2 : x &&& y = x := by
    apply Nat.eq_of_testBit_eq
    intro j
    have a1 := congrArg (fun t => Nat.testBit t j) e
    simp only [nd_bit, Nat.zero_testBit] at a1
    rw [Nat.testBit_and]
    revert a1
    cases x.testBit j <;> cases y.testBit j <;> simp
  rw [← e2]
  exact Nat.and_le_right
theorem nd_self (x : Nat) : nd x x = 0 := by
  apply Nat.eq_of_testBit_eq
  intro j
  rw [nd_bit]
  simp
/-- the parts that show as much -/
def prf (s : Nat → Nat) (N b t : Nat) : Bool := decide (nd t b = 0) && decide (sp_wish s t N = sp_wish s b N)
def st_prf (s : Nat → Nat) (N b t m : Nat) : Nat := if prf s N b t then min m (pc t) else m
theorem wish_eq (V : vw N h w d s f a) {b c : Nat} : (nI (sp_wish s b N) = nI (sp_wish s c N)) ↔ sp_wish s b N = sp_wish s c N := by
  have w1 := sp_wish_lt V (b := b)
  have w2 := sp_wish_lt V (b := c)
  exact nI_eq (by omega) (by omega)
theorem pc6 : ∀ t, t < 64 → pc t ≤ 6 := by decide +kernel
theorem xe_prf (V : vw N h w d s f a) (X : vX N h w d s f a σ) {b : Nat} (hb : b < 64) : fx_X0_proof_L25 ρ σ (nI b) 1000 6 0 = some (nI (sp_f (st_prf s N b) 6 (b + 1))) := by
  refine pq_fold (fun n (m : Nat) c => fx_X0_proof_L25 ρ σ (nI b) n (nI m) c) (fun m => some (nI m)) (b + 1) (st_prf s N b) 6 (fun i m => m ≤ 6) (Nat.le_refl _) ?_ ?_ 1000 (by omega)
  · intro n m _
    show fx_X0_proof_L25 ρ σ (nI b) (n + 1) (nI m) (nI (b + 1)) = _
    rw [fx_X0_proof_L25, if_pos (nI_lt (by omega) (by omega))]
  · intro n i m hi hI
    have z := nd_zero (x := i) (y := b) (n := 6) (by omega) (by omega)
    have p1 := pc6 i (by omega)
    refine ⟨?_, ?_⟩
    · show st_prf s N b i m ≤ 6
      unfold st_prf
      split <;> omega
    · show fx_X0_proof_L25 ρ σ (nI b) (n + 1) (nI m) (nI i) = fx_X0_proof_L25 ρ σ (nI b) n (nI (st_prf s N b i m)) (nI i + 1)
      rw [fx_X0_proof_L25, if_neg (nI_nlt (by omega) (by omega)), xe_wish V X (by omega), xe_wish V X hb, gw_b1_s, gw_b1_s, pc_X _ (by omega)]
      unfold st_prf prf
      by_cases e1 : nd i b = 0
      · rw [if_pos (z.mpr e1)]
        by_cases e2 : sp_wish s i N = sp_wish s b N
        · rw [if_pos ((wish_eq V).mpr e2), if_pos (show (decide (nd i b = 0) && decide (sp_wish s i N = sp_wish s b N)) = true by simp [e1, e2])]
          congr 1
          by_cases l : pc i < m
          · rw [if_pos (nI_lt l (by omega))]; congr 1; omega
          · rw [if_neg (nI_nlt (by omega) (by omega))]; congr 1; omega
        · rw [if_neg (fun q => e2 ((wish_eq V).mp q)), if_neg (show ¬ (decide (nd i b = 0) && decide (sp_wish s i N = sp_wish s b N)) = true by simp [e2])]
      · rw [if_neg (fun q => e1 (z.mp q)), if_neg (show ¬ (decide (nd i b = 0) && decide (sp_wish s i N = sp_wish s b N)) = true by simp [e1])]
theorem me_prf (V : vw N h w d s f a) (M : vM N h w d s f a τ) {b : Nat} (hb : b < 64) : fx_X3_proof_L32 τ (nI b) 1000 (nI (pc b)) 0 = some (nI (sp_f (st_prf s N b) (pc b) 64), τ) := by
  refine pq_fold (fun n (m : Nat) c => fx_X3_proof_L32 τ (nI b) n (nI m) c) (fun m => some (nI m, τ)) 64 (st_prf s N b) (pc b) (fun i m => m ≤ 6) (pc6 b hb) ?_ ?_ 1000 (by omega)
  · intro n m _
    show fx_X3_proof_L32 τ (nI b) (n + 1) (nI m) (nI 64) = _
    rw [fx_X3_proof_L32]
    exact if_pos (by decide)
  · intro n i m hi hI
    have z := nd_zero (x := i) (y := b) (n := 6) (by omega) (by omega)
    have p1 := pc6 i (by omega)
    refine ⟨?_, ?_⟩
    · show st_prf s N b i m ≤ 6
      unfold st_prf
      split <;> omega
    · show fx_X3_proof_L32 τ (nI b) (n + 1) (nI m) (nI i) = fx_X3_proof_L32 τ (nI b) n (nI (st_prf s N b i m)) (nI i + 1)
      rw [fx_X3_proof_L32, show (64 : Int32) = nI 64 from rfl, if_neg (nI_ge hi (by omega)), me_wish V M (by omega), me_wish V M hb, pc_M _ (by omega)]
      simp only [gw_b1_s]
      unfold st_prf prf
      by_cases e1 : nd i b = 0
      · rw [if_pos (z.mpr e1)]
        by_cases e2 : sp_wish s i N = sp_wish s b N
        · rw [if_pos ((wish_eq V).mpr e2), if_pos (show (decide (nd i b = 0) && decide (sp_wish s i N = sp_wish s b N)) = true by simp [e1, e2])]
          by_cases l : m ≤ pc i
          · rw [if_pos (nI_le l (by omega))]; congr 2; omega
          · rw [if_neg (nI_ge (by omega) (by omega))]; congr 2; omega
        · rw [if_neg (fun q => e2 ((wish_eq V).mp q)), if_neg (show ¬ (decide (nd i b = 0) && decide (sp_wish s i N = sp_wish s b N)) = true by simp [e2])]
      · rw [if_neg (fun q => e1 (z.mp q)), if_neg (show ¬ (decide (nd i b = 0) && decide (sp_wish s i N = sp_wish s b N)) = true by simp [e1])]
theorem prf_eq {b : Nat} (hb : b < 64) : sp_f (st_prf s N b) 6 (b + 1) = sp_f (st_prf s N b) (pc b) 64 := by
  have p0 := pc6 b hb
  have k1 : ∀ i, i ≤ b → sp_f (st_prf s N b) (pc b) i = min (pc b) (sp_f (st_prf s N b) 6 i) := by
    intro i
    induction i with
    | zero => intro _; show pc b = min (pc b) 6; omega
    | succ i ih =>
      intro hi
      show st_prf s N b i (sp_f (st_prf s N b) (pc b) i) = min (pc b) (st_prf s N b i (sp_f (st_prf s N b) 6 i))
      rw [ih (by omega)]
      unfold st_prf
      split <;> omega
  have k2 : sp_f (st_prf s N b) (pc b) (b + 1) = sp_f (st_prf s N b) 6 (b + 1) := by
    show st_prf s N b b (sp_f (st_prf s N b) (pc b) b) = st_prf s N b b (sp_f (st_prf s N b) 6 b)
    rw [k1 b (Nat.le_refl _)]
    have e : prf s N b b = true := by unfold prf; simp [nd_self]
    unfold st_prf
    rw [if_pos e, if_pos e]
    omega
  have k3 : ∀ i, sp_f (st_prf s N b) (pc b) (b + 1 + i) = sp_f (st_prf s N b) (pc b) (b + 1) := by
    intro i
    induction i with
    | zero => rfl
    | succ i ih =>
      show st_prf s N b (b + 1 + i) (sp_f (st_prf s N b) (pc b) (b + 1 + i)) = _
      rw [ih]
      unfold st_prf
      have e : ¬ prf s N b (b + 1 + i) = true := by
        unfold prf
        intro q
        rw [Bool.and_eq_true] at q
        have := nd_big (of_decide_eq_true q.1)
        omega
      exact if_neg e
  rw [← k2, ← k3 (63 - b), show b + 1 + (63 - b) = 64 from by omega]
end
