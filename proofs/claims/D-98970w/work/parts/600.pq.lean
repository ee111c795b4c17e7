/-! PURE SIDE: words, folds, numbers -/
set_option maxRecDepth 100000
/-- a number or none, as Java has it (none is -1) -/
def oI (o : Option Nat) : Int32 := match o with
  | none => -1
  | some k => nI k
theorem oI_some (k : Nat) : oI (some k) = nI k := rfl
theorem oI_none : oI none = -1 := rfl
theorem nI_m1 {k : Nat} (h : k < 2 ^ 31) : ¬ nI k = -1 := by
  intro e
  have a := nI_toInt h
  rw [e] at a
  have b : (-1 : Int32).toInt = -1 := rfl
  omega
theorem nI_m1' {k : Nat} (h : k < 2 ^ 31) : ¬ (-1 : Int32) = nI k := fun e => nI_m1 h e.symm
theorem oI_m1 {o : Option Nat} (h : ∀ k, o = some k → k < 2 ^ 31) : oI o = -1 ↔ o = none := by
  cases o with
  | none => simp [oI]
  | some k => simp only [oI_some, reduceCtorEq, iff_false]; exact nI_m1 (h k rfl)
theorem oI_inj {a b : Option Nat} (ha : ∀ k, a = some k → k < 2 ^ 31) (hb : ∀ k, b = some k → k < 2 ^ 31) : oI a = oI b ↔ a = b := by
  cases a with
  | none => cases b with
    | none => simp
    | some k => simp only [oI_some, oI_none, reduceCtorEq, iff_false]; exact nI_m1' (hb k rfl)
  | some j => cases b with
    | none => simp only [oI_some, oI_none, reduceCtorEq, iff_false]; exact nI_m1 (ha j rfl)
    | some k => rw [oI_some, oI_some, nI_eq (ha j rfl) (hb k rfl), Option.some.injEq]
theorem oI_eqI {a : Option Nat} {k : Nat} (ha : ∀ k, a = some k → k < 2 ^ 31) (hk : k < 2 ^ 31) : oI a = nI k ↔ a = some k := oI_inj (b := some k) ha (fun j e => by cases e; exact hk)
/-- a bounds check that holds -/
theorem pq_ck {α : Type} {i N : Nat} {x : Option α} (h : i < N) (hN : N < 2 ^ 31) : gw_ck (nI i) N x = x := by
  unfold gw_ck
  exact if_pos (nI_in h hN)
/-- folds over places, from below -/
def sp_f {α : Type} (f : Nat → α → α) (a : α) : Nat → α
  | 0 => a
  | n + 1 => f n (sp_f f a n)
theorem sp_f_congr {α : Type} {f g : Nat → α → α} {a : α} : ∀ {n : Nat}, (∀ i b, i < n → f i b = g i b) → sp_f f a n = sp_f g a n := by
  intro n
  induction n with
  | zero => intro _; rfl
  | succ n ih =>
    intro h
    show f n (sp_f f a n) = g n (sp_f g a n)
    rw [ih (fun i b hi => h i b (by omega)), h n _ (by omega)]
/-- a loop up to N that changes a by f: its end is r -/
theorem pq_fold {α R : Type} (L : Nat → α → Int32 → Option R) (r : α → Option R) (N : Nat) (f : Nat → α → α) (a0 : α) (I : Nat → α → Prop) (h0 : I 0 a0)
    (hend : ∀ n a, I N a → L (n + 1) a (nI N) = r a)
    (hstep : ∀ n i a, i < N → I i a → I (i + 1) (f i a) ∧ L (n + 1) a (nI i) = L n (f i a) (nI i + 1)) :
    ∀ n, N < n → L n a0 0 = r (sp_f f a0 N) := by
  have key : ∀ k n, k ≤ N → N - k < n → I k (sp_f f a0 k) ∧ L (n + k) a0 0 = L n (sp_f f a0 k) (nI k) := by
    intro k
    induction k with
    | zero => intro n _ _; exact ⟨h0, rfl⟩
    | succ k ih =>
      intro n hk hn
      obtain ⟨i1, i2⟩ := ih (n + 1) (by omega) (by omega)
      obtain ⟨s1, s2⟩ := hstep n k (sp_f f a0 k) (by omega) i1
      refine ⟨s1, ?_⟩
      rw [show n + (k + 1) = n + 1 + k from by omega, i2, s2, nI_1]
      rfl
  intro n hn
  obtain ⟨i1, i2⟩ := key N (n - N) (Nat.le_refl _) (by omega)
  rw [show n - N + N = n from by omega] at i2
  rw [i2]
  obtain ⟨m, hm⟩ : ∃ m, n - N = m + 1 := ⟨n - N - 1, by omega⟩
  rw [hm]
  exact hend m _ i1
/-- the same, from any place on, of any kind of end -/
theorem pq_loop {α R : Type} (L : Nat → α → Int32 → Option R) (Q : Option R → Prop) (N : Nat) (I : Nat → α → Prop)
    (hend : ∀ n a, I N a → Q (L (n + 1) a (nI N)))
    (hstep : ∀ n i a, i < N → I i a → (∀ b, I (i + 1) b → Q (L n b (nI i + 1))) → Q (L (n + 1) a (nI i))) :
    ∀ n i a, i ≤ N → N - i < n → I i a → Q (L n a (nI i)) := by
  intro n
  induction n with
  | zero => intro i a _ h _; omega
  | succ n ih =>
    intro i a hi hn hI
    by_cases e : i < N
    · refine hstep n i a e hI (fun b hb => ?_)
      rw [nI_1]
      exact ih (i + 1) b (by omega) (by omega) hb
    · have e2 : i = N := by omega
      subst e2
      exact hend n a hI
/-! bits -/
theorem pq_or (a b : Nat) : nI a ||| nI b = nI (a ||| b) := by
  apply Int32.toBitVec_inj.mp
  show BitVec.ofNat 32 a ||| BitVec.ofNat 32 b = BitVec.ofNat 32 (a ||| b)
  apply BitVec.eq_of_getLsbD_eq
  intro i hi
  simp [BitVec.getLsbD_or, BitVec.getLsbD_ofNat, hi]
theorem pq_and (a b : Nat) : nI a &&& nI b = nI (a &&& b) := by
  apply Int32.toBitVec_inj.mp
  show BitVec.ofNat 32 a &&& BitVec.ofNat 32 b = BitVec.ofNat 32 (a &&& b)
  apply BitVec.eq_of_getLsbD_eq
  intro i hi
  simp [BitVec.getLsbD_and, BitVec.getLsbD_ofNat, hi]
/-- what is in a and not in b -/
def nd (a b : Nat) : Nat := a ^^^ (a &&& b)
theorem nd_bit (a b i : Nat) : (nd a b).testBit i = (a.testBit i && !b.testBit i) := by
  unfold nd
  rw [Nat.testBit_xor, Nat.testBit_and]
  cases a.testBit i <;> cases b.testBit i <;> rfl
theorem pq_andn (a b : Nat) : nI a &&& (nI b ^^^ (-1)) = nI (nd a b) := by
  apply Int32.toBitVec_inj.mp
  show BitVec.ofNat 32 a &&& (BitVec.ofNat 32 b ^^^ (-1 : Int32).toBitVec) = BitVec.ofNat 32 (nd a b)
  have e : (-1 : Int32).toBitVec = BitVec.allOnes 32 := by decide
  rw [e]
  apply BitVec.eq_of_getLsbD_eq
  intro i hi
  rw [BitVec.getLsbD_and, BitVec.getLsbD_xor, BitVec.getLsbD_ofNat, BitVec.getLsbD_ofNat, BitVec.getLsbD_ofNat, BitVec.getLsbD_allOnes, nd_bit]
  simp [hi]
theorem pq_or0 (x : Int32) : x ||| 0 = x := by
  apply Int32.toBitVec_inj.mp
  show x.toBitVec ||| (0 : Int32).toBitVec = x.toBitVec
  have e : (0 : Int32).toBitVec = 0#32 := by decide
  rw [e]
  simp
theorem pq_add0 (x : Int32) : x + 0 = x := by simp
theorem pq_shl1 : ∀ p, p < 31 → (1 : Int32) <<< (nI p &&& 31) = nI (2 ^ p) := by decide +kernel
theorem pq_sc : ∀ p, p < 32 → ((nI p &&& 31).toBitVec.smod 32).toNat = p := by decide +kernel
theorem pq_shr {s p : Nat} (hs : s < 2 ^ 31) (hp : p < 32) : (nI s >>> (nI p &&& 31)) &&& 1 = nI (s / 2 ^ p % 2) := by
  rw [pk_shrN hs (nI p &&& 31) p (pq_sc p hp)]
  have h : s / 2 ^ p < 2 ^ 32 := by
    have := Nat.div_le_self s (2 ^ p)
    omega
  exact pk_andN h (m := 1) 1 (by decide)
theorem pq_bit {s p : Nat} (hs : s < 2 ^ 31) (hp : p < 32) : fx_X0_isOf (nI s) (nI p) = s.testBit p := by
  unfold fx_X0_isOf
  rw [pq_shr hs hp, Nat.testBit_eq_decide_div_mod_eq]
  have h1 : s / 2 ^ p % 2 < 2 := Nat.mod_lt _ (by decide)
  have e : (nI (s / 2 ^ p % 2) = 1) ↔ (s / 2 ^ p % 2 = 1) := nI_eq (b := 1) (by omega) (by omega)
  by_cases h : s / 2 ^ p % 2 = 1
  · rw [if_pos (e.mpr h)]; simp [h]
  · rw [if_neg (fun q => h (e.mp q))]; simp [h]
theorem pq_bitM {s p : Nat} (hs : s < 2 ^ 31) (hp : p < 32) : fx_X3_isBit (nI s) (nI p) = s.testBit p := pq_bit hs hp
/-- the set of those below n that P takes -/
def sp_set (P : Nat → Bool) : Nat → Nat := sp_f (fun p s => s ||| (if P p then 2 ^ p else 0)) 0
theorem sp_set_s (P : Nat → Bool) (n : Nat) : sp_set P (n + 1) = sp_set P n ||| (if P n then 2 ^ n else 0) := rfl
theorem sp_set_bit (P : Nat → Bool) : ∀ (n i : Nat), (sp_set P n).testBit i = (decide (i < n) && P i) := by
  intro n
  induction n with
  | zero => intro i; show Nat.testBit 0 i = _; simp
  | succ n ih =>
    intro i
    rw [sp_set_s, Nat.testBit_or, ih]
    by_cases hP : P n = true
    · rw [if_pos hP, Nat.testBit_two_pow]
      by_cases e : n = i
      · subst e; simp [hP]
      · have : (decide (i < n + 1)) = decide (i < n) := by
          apply decide_eq_decide.mpr; omega
        rw [this]; simp [e]
    · rw [if_neg hP]
      by_cases e : n = i
      · subst e; simp [hP]
      · have : (decide (i < n + 1)) = decide (i < n) := by
          apply decide_eq_decide.mpr; omega
        rw [this]; simp
theorem sp_set_lt (P : Nat → Bool) (n : Nat) : sp_set P n < 2 ^ n := by
  apply Nat.lt_pow_two_of_testBit
  intro i hi
  rw [sp_set_bit]
  have : ¬ i < n := by omega
  simp [this]
theorem sp_set_congr {P Q : Nat → Bool} {n : Nat} (h : ∀ i, i < n → P i = Q i) : sp_set P n = sp_set Q n := by
  apply Nat.eq_of_testBit_eq
  intro i
  rw [sp_set_bit, sp_set_bit]
  by_cases e : i < n
  · rw [h i e]
  · simp [e]
theorem pq_ext {a b n : Nat} (ha : a < 2 ^ n) (hb : b < 2 ^ n) (h : ∀ i, i < n → a.testBit i = b.testBit i) : a = b := by
  apply Nat.eq_of_testBit_eq
  intro i
  by_cases e : i < n
  · exact h i e
  · have h2 : 2 ^ n ≤ 2 ^ i := Nat.pow_le_pow_right (by decide) (by omega)
    rw [Nat.testBit_lt_two_pow (Nat.lt_of_lt_of_le ha h2), Nat.testBit_lt_two_pow (Nat.lt_of_lt_of_le hb h2)]
theorem pw8 {N a : Nat} (h8 : N ≤ 8) (h : a < 2 ^ N) : a < 256 := Nat.lt_of_lt_of_le h (Nat.pow_le_pow_right (n := 2) (by decide) h8)
/-- how many are in a set (below 2^8) -/
def pc (s : Nat) : Nat := sp_f (fun p n => n + (if s.testBit p then 1 else 0)) 0 8
theorem pc_X : ∀ s, s < 256 → fx_J13_bitCount (nI s) = nI (pc s) := by decide +kernel
theorem pc_M : ∀ s, s < 256 → fx_X3_sizeOf (nI s) = some (nI (pc s)) := by decide +kernel
theorem pc_le : ∀ s, s < 256 → pc s ≤ 8 := by decide +kernel
/-! bounds -/
theorem pq_in_eq : fx_X3_in = fx_X0_isIn := rfl
theorem pq_cmp_lt (x y : Int64) : (lg_cmp x y < 0) ↔ x < y := by
  unfold lg_cmp
  by_cases h : x > y
  · rw [if_pos h]
    refine ⟨fun q => absurd q (by decide), fun q => absurd (Int64.lt_trans q h) (Int64.lt_irrefl)⟩
  · rw [if_neg h]
    by_cases e : x = y
    · rw [if_pos e]
      subst e
      exact ⟨fun q => absurd q (by decide), fun q => absurd q h⟩
    · rw [if_neg e]
      refine ⟨fun _ => ?_, fun _ => by decide⟩
      rw [Int64.lt_iff_toInt_lt]
      have h1 : ¬ y.toInt < x.toInt := fun q => h (Int64.lt_iff_toInt_lt.mpr q)
      have h2 : x.toInt ≠ y.toInt := fun q => e (Int64.toInt_inj.mp q)
      omega
theorem pq_cmp_gt (x y : Int64) : (0 < lg_cmp x y) ↔ y < x := by
  unfold lg_cmp
  by_cases h : x > y
  · rw [if_pos h]
    exact ⟨fun _ => h, fun _ => by decide⟩
  · rw [if_neg h]
    by_cases e : x = y
    · rw [if_pos e]
      exact ⟨fun q => absurd q (by decide), fun q => absurd q h⟩
    · rw [if_neg e]
      exact ⟨fun q => absurd q (by decide), fun q => absurd q h⟩
theorem pq_cmp_eq (x y : Int64) : (lg_cmp x y = 0) ↔ x = y := by
  unfold lg_cmp
  by_cases h : x > y
  · rw [if_pos h]
    refine ⟨fun q => absurd q (by decide), fun q => ?_⟩
    subst q
    exact absurd h (Int64.lt_irrefl)
  · rw [if_neg h]
    by_cases e : x = y
    · rw [if_pos e]
      exact ⟨fun _ => e, fun _ => rfl⟩
    · rw [if_neg e]
      exact ⟨fun q => absurd q (by decide), fun q => absurd q e⟩
theorem pq_isIn (x y z : Int64) : fx_X0_isIn x y z = decide (y.toInt ≤ x.toInt ∧ x.toInt ≤ z.toInt) := by
  unfold fx_X0_isIn
  by_cases h1 : x < y
  · rw [if_pos ((pq_cmp_lt x y).mpr h1)]
    rw [Int64.lt_iff_toInt_lt] at h1
    symm
    apply decide_eq_false
    omega
  · rw [if_neg (fun q => h1 ((pq_cmp_lt x y).mp q))]
    rw [Int64.lt_iff_toInt_lt] at h1
    by_cases h2 : z < x
    · rw [if_pos ((pq_cmp_gt x z).mpr h2)]
      rw [Int64.lt_iff_toInt_lt] at h2
      symm
      apply decide_eq_false
      omega
    · rw [if_neg (fun q => h2 ((pq_cmp_gt x z).mp q))]
      rw [Int64.lt_iff_toInt_lt] at h2
      symm
      apply decide_eq_true
      omega
/-- a number between 0 and n-1, or none -/
theorem pq_isIn0 (x : Int32) {z : Int64} (n : Nat) (hz : z.toInt = (n : Int) - 1) (hn : n < 2 ^ 31) : (fx_X0_isIn x.toInt64 0 z = false) ∨ ∃ k : Nat, k < n ∧ x = nI k ∧ fx_X0_isIn x.toInt64 0 z = true := by
  rw [pq_isIn, Int32.toInt_toInt64, hz, Int64.toInt_zero]
  by_cases h : 0 ≤ x.toInt ∧ x.toInt ≤ (n : Int) - 1
  · right
    refine ⟨x.toInt.toNat, by omega, ?_, decide_eq_true h⟩
    apply Int32.toInt_inj.mp
    rw [nI_toInt (by omega)]
    omega
  · left
    exact decide_eq_false h
