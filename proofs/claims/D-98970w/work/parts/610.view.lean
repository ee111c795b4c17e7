/-! PURE SIDE: what the questions look at, and what simple ones answer -/
set_option maxRecDepth 100000
/-- N persons, holders h, worth w, deeds d, wishes s, forged f, asked a -/
def vw (N : Nat) (h : Nat → Option Nat) (w d s : Nat → Nat) (f a : Nat) : Prop :=
  N ≤ 8 ∧ f < 256 ∧ a < 256 ∧ ∀ p, p < N → (∀ k, h p = some k → k < N) ∧ w p < 1000 ∧ d p < 64 ∧ s p < 64
def vX (N : Nat) (h : Nat → Option Nat) (w d s : Nat → Nat) (f a : Nat) (σ : gw_S) : Prop :=
  σ.1 1 2 = nI N ∧ σ.1 1 4 = nI f ∧ σ.1 0 6 = nI a ∧ ∀ p, p < N → σ.1 3 p = oI (h p) ∧ σ.1 9 p = nI (w p) ∧ σ.1 10 p = nI (d p) ∧ σ.1 11 p = nI (s p)
def vM (N : Nat) (h : Nat → Option Nat) (w d s : Nat → Nat) (f a : Nat) (τ : gw_S) : Prop :=
  τ.1 7 1 = nI N ∧ τ.1 0 24 = nI a ∧ ∀ p, p < N → τ.1 11 p = oI (h p) ∧ τ.1 8 (5 * p) = nI (w p) ∧ τ.1 8 (5 * p + 1) = nI (d p) ∧ τ.1 8 (5 * p + 2) = nI (s p) ∧ τ.1 8 (5 * p + 4) = nI (if f.testBit p then 1 else 0)
section
variable {N : Nat} {h : Nat → Option Nat} {w d s : Nat → Nat} {f a : Nat} {σ τ : gw_S}
theorem vw.hk (V : vw N h w d s f a) {p k : Nat} (hp : p < N) (e : h p = some k) : k < N := (V.2.2.2 p hp).1 k e
theorem vw.hb (V : vw N h w d s f a) {p : Nat} (hp : p < N) : ∀ k, h p = some k → k < 2 ^ 31 := fun k e => by
  have h1 := V.hk hp e
  have h2 := V.1
  omega
theorem vw.wb (V : vw N h w d s f a) {p : Nat} (hp : p < N) : w p < 1000 := (V.2.2.2 p hp).2.1
theorem vw.db (V : vw N h w d s f a) {p : Nat} (hp : p < N) : d p < 64 := (V.2.2.2 p hp).2.2.1
theorem vw.sb (V : vw N h w d s f a) {p : Nat} (hp : p < N) : s p < 64 := (V.2.2.2 p hp).2.2.2
theorem vX.hh (X : vX N h w d s f a σ) {p : Nat} (hp : p < N) : σ.1 3 p = oI (h p) := (X.2.2.2 p hp).1
theorem vX.ww (X : vX N h w d s f a σ) {p : Nat} (hp : p < N) : σ.1 9 p = nI (w p) := (X.2.2.2 p hp).2.1
theorem vX.dd (X : vX N h w d s f a σ) {p : Nat} (hp : p < N) : σ.1 10 p = nI (d p) := (X.2.2.2 p hp).2.2.1
theorem vX.ss (X : vX N h w d s f a σ) {p : Nat} (hp : p < N) : σ.1 11 p = nI (s p) := (X.2.2.2 p hp).2.2.2
theorem vM.hh (M : vM N h w d s f a τ) {p : Nat} (hp : p < N) : τ.1 11 p = oI (h p) := (M.2.2 p hp).1
/-- a word of a person, in the reference -/
theorem pm_of {p : Nat} (hp : p < 8) {x : Int32} (k : Nat) (hk : k < 5) (hx : x = nI k) : fx_X3_of τ (nI p) x = some (τ.1 8 (5 * p + k)) := by
  subst hx
  unfold fx_X3_of
  rw [show (5 : Int32) = nI 5 from rfl, pk_mul, nI_add, pq_ck (by omega) (by omega), nI_clamp (by omega)]
theorem vM.o0 (V : vw N h w d s f a) (M : vM N h w d s f a τ) {p : Nat} (hp : p < N) : fx_X3_of τ (nI p) 0 = some (nI (w p)) := by
  rw [pm_of (x := 0) (by have := V.1; omega) 0 (by omega) rfl, show 5 * p + 0 = 5 * p from rfl, (M.2.2 p hp).2.1]
theorem vM.o1 (V : vw N h w d s f a) (M : vM N h w d s f a τ) {p : Nat} (hp : p < N) : fx_X3_of τ (nI p) 1 = some (nI (d p)) := by
  rw [pm_of (x := 1) (by have := V.1; omega) 1 (by omega) rfl, (M.2.2 p hp).2.2.1]
theorem vM.o2 (V : vw N h w d s f a) (M : vM N h w d s f a τ) {p : Nat} (hp : p < N) : fx_X3_of τ (nI p) 2 = some (nI (s p)) := by
  rw [pm_of (x := 2) (by have := V.1; omega) 2 (by omega) rfl, (M.2.2 p hp).2.2.2.1]
theorem vM.o4 (V : vw N h w d s f a) (M : vM N h w d s f a τ) {p : Nat} (hp : p < N) : fx_X3_of τ (nI p) 4 = some (nI (if f.testBit p then 1 else 0)) := by
  rw [pm_of (x := 4) (by have := V.1; omega) 4 (by omega) rfl, (M.2.2 p hp).2.2.2.2]
theorem gw_b1_s {α β : Type} (x : α) (k : α → Option β) : gw_b1 (some x) k = k x := rfl
theorem gw_b2_s {α β γ : Type} (x : α) (y : β) (k : α → β → Option γ) : gw_b2 (some (x, y)) k = k x y := rfl
/-! how far one wears, what one costs -/
theorem xe_limit (V : vw N h w d s f a) (X : vX N h w d s f a σ) {p : Nat} (hp : p < N) : fx_X0_limit σ (nI p) = if f.testBit p then 1 else σ.1 1 0 := by
  have h8 := V.1
  have hf := V.2.1
  unfold fx_X0_limit
  rw [X.2.1, pq_bit (by omega) (by omega)]
theorem me_limit (V : vw N h w d s f a) (M : vM N h w d s f a τ) {p : Nat} (hp : p < N) : fx_X3_readable τ (nI p) = some (if f.testBit p then 1 else τ.1 7 0) := by
  unfold fx_X3_readable
  rw [M.o4 V hp, gw_b1_s]
  by_cases e : f.testBit p = true
  · rw [if_pos e, if_pos e]; rfl
  · rw [if_neg e, if_neg e]; rfl
/-! hands -/
theorem xe_hand (V : vw N h w d s f a) (X : vX N h w d s f a σ) {v : Option Nat} (hv : ∀ k, v = some k → k < 2 ^ 31) : fx_X0_handOf σ (oI v) = some (nI (sp_set (fun p => decide (h p = v)) N)) := by
  have h8 := V.1
  unfold fx_X0_handOf
  refine pq_fold (fun n (t : Nat) c => fx_X0_handOf_L4 σ (oI v) n (nI t) c) (fun t => some (nI t)) N (fun p s => s ||| (if decide (h p = v) then 2 ^ p else 0)) 0 (fun _ _ => True) trivial ?_ ?_ 1000 (by omega)
  · intro n t _
    show fx_X0_handOf_L4 σ (oI v) (n + 1) (nI t) (nI N) = _
    rw [fx_X0_handOf_L4, X.1, if_pos (nI_le (Nat.le_refl _) (by omega))]
  · intro n i t hi _
    refine ⟨trivial, ?_⟩
    show fx_X0_handOf_L4 σ (oI v) (n + 1) (nI t) (nI i) = fx_X0_handOf_L4 σ (oI v) n (nI (t ||| (if decide (h i = v) then 2 ^ i else 0))) (nI i + 1)
    rw [fx_X0_handOf_L4, X.1, if_neg (nI_ge hi (by omega)), pq_ck (by omega) (by omega), nI_clamp (by omega), X.hh hi]
    by_cases e : h i = v
    · rw [if_pos (by rw [e]), pq_shl1 i (by omega), pq_or, if_pos (by simp [e])]
    · rw [if_neg (fun q => e ((oI_inj (V.hb hi) hv).mp q)), pq_or0, if_neg (by simp [e]), Nat.or_zero]
theorem me_hand (V : vw N h w d s f a) (M : vM N h w d s f a τ) {v : Option Nat} (hv : ∀ k, v = some k → k < 2 ^ 31) : fx_X3_handOf τ (oI v) = some (nI (sp_set (fun p => decide (h p = v)) N)) := by
  have h8 := V.1
  unfold fx_X3_handOf
  refine pq_fold (fun n (t : Nat) c => fx_X3_handOf_L4 τ (oI v) n (nI t) c) (fun t => some (nI t)) N (fun p s => s ||| (if decide (h p = v) then 2 ^ p else 0)) 0 (fun _ _ => True) trivial ?_ ?_ 1000 (by omega)
  · intro n t _
    show fx_X3_handOf_L4 τ (oI v) (n + 1) (nI t) (nI N) = _
    rw [fx_X3_handOf_L4, M.1, if_pos (nI_le (Nat.le_refl _) (by omega))]
  · intro n i t hi _
    refine ⟨trivial, ?_⟩
    show fx_X3_handOf_L4 τ (oI v) (n + 1) (nI t) (nI i) = fx_X3_handOf_L4 τ (oI v) n (nI (t ||| (if decide (h i = v) then 2 ^ i else 0))) (nI i + 1)
    rw [fx_X3_handOf_L4, M.1, if_neg (nI_ge hi (by omega)), pq_ck (by omega) (by omega), nI_clamp (by omega), M.hh hi]
    by_cases e : h i = v
    · rw [if_pos (by rw [e]), pq_shl1 i (by omega), pq_or, if_pos (by simp [e])]
    · rw [if_neg (fun q => e ((oI_inj (V.hb hi) hv).mp q)), pq_or0, if_neg (by simp [e]), Nat.or_zero]
theorem me_free (V : vw N h w d s f a) (M : vM N h w d s f a τ) : fx_X3_freeNow τ = some (nI (sp_set (fun p => decide (h p = none)) N)) := by
  have h8 := V.1
  unfold fx_X3_freeNow
  refine pq_fold (fun n (t : Nat) c => fx_X3_freeNow_L4 τ n (nI t) c) (fun t => some (nI t)) N (fun p s => s ||| (if decide (h p = none) then 2 ^ p else 0)) 0 (fun _ _ => True) trivial ?_ ?_ 1000 (by omega)
  · intro n t _
    show fx_X3_freeNow_L4 τ (n + 1) (nI t) (nI N) = _
    rw [fx_X3_freeNow_L4, M.1, if_pos (nI_le (Nat.le_refl _) (by omega))]
  · intro n i t hi _
    refine ⟨trivial, ?_⟩
    show fx_X3_freeNow_L4 τ (n + 1) (nI t) (nI i) = fx_X3_freeNow_L4 τ n (nI (t ||| (if decide (h i = none) then 2 ^ i else 0))) (nI i + 1)
    rw [fx_X3_freeNow_L4, M.1, if_neg (nI_ge hi (by omega)), pq_ck (by omega) (by omega), nI_clamp (by omega), M.hh hi]
    by_cases e : h i = none
    · rw [if_pos (by rw [e]; rfl), pq_shl1 i (by omega), pq_or, if_pos (by simp [e])]
    · rw [if_neg (fun q => e ((oI_m1 (V.hb hi)).mp q)), pq_or0, if_neg (by simp [e]), Nat.or_zero]
/-! deeds of a set -/
def sp_deeds (d : Nat → Nat) (t : Nat) : Nat → Nat := sp_f (fun p b => b ||| (if t.testBit p then d p else 0)) 0
theorem sp_deeds_lt (d : Nat → Nat) (t : Nat) : ∀ n, (∀ p, p < n → d p < 64) → sp_deeds d t n < 64 := by
  intro n
  induction n with
  | zero => intro _; show 0 < 64; decide
  | succ n ih =>
    intro hd
    show (sp_deeds d t n ||| (if t.testBit n then d n else 0)) < 2 ^ 6
    refine Nat.or_lt_two_pow (ih (fun p hp => hd p (by omega))) ?_
    split
    · exact hd n (by omega)
    · decide
theorem xe_deeds (V : vw N h w d s f a) (X : vX N h w d s f a σ) {t : Nat} (ht : t < 256) : fx_X0_deedsOf σ (nI t) = some (nI (sp_deeds d t N)) := by
  have h8 := V.1
  unfold fx_X0_deedsOf
  refine pq_fold (fun n (b : Nat) c => fx_X0_deedsOf_L4 σ (nI t) n (nI b) c) (fun b => some (nI b)) N (fun p b => b ||| (if t.testBit p then d p else 0)) 0 (fun _ _ => True) trivial ?_ ?_ 1000 (by omega)
  · intro n b _
    show fx_X0_deedsOf_L4 σ (nI t) (n + 1) (nI b) (nI N) = _
    rw [fx_X0_deedsOf_L4, X.1, if_pos (nI_le (Nat.le_refl _) (by omega))]
  · intro n i b hi _
    refine ⟨trivial, ?_⟩
    show fx_X0_deedsOf_L4 σ (nI t) (n + 1) (nI b) (nI i) = fx_X0_deedsOf_L4 σ (nI t) n (nI (b ||| (if t.testBit i then d i else 0))) (nI i + 1)
    rw [fx_X0_deedsOf_L4, X.1, if_neg (nI_ge hi (by omega)), pq_bit (by omega) (by omega), pq_ck (by omega) (by omega), nI_clamp (by omega), X.dd hi]
    by_cases e : t.testBit i = true
    · rw [if_pos e, if_pos e, pq_or]
    · rw [if_neg e, if_neg e, pq_or0, Nat.or_zero]
theorem me_deeds (V : vw N h w d s f a) (M : vM N h w d s f a τ) {t : Nat} (ht : t < 256) : fx_X3_doneBy τ (nI t) = some (nI (sp_deeds d t N)) := by
  have h8 := V.1
  unfold fx_X3_doneBy
  refine pq_fold (fun n (b : Nat) c => fx_X3_doneBy_L4 τ (nI t) n (nI b) c) (fun b => some (nI b)) N (fun p b => b ||| (if t.testBit p then d p else 0)) 0 (fun _ _ => True) trivial ?_ ?_ 1000 (by omega)
  · intro n b _
    show fx_X3_doneBy_L4 τ (nI t) (n + 1) (nI b) (nI N) = _
    rw [fx_X3_doneBy_L4, M.1, if_pos (nI_le (Nat.le_refl _) (by omega))]
  · intro n i b hi _
    refine ⟨trivial, ?_⟩
    show fx_X3_doneBy_L4 τ (nI t) (n + 1) (nI b) (nI i) = fx_X3_doneBy_L4 τ (nI t) n (nI (b ||| (if t.testBit i then d i else 0))) (nI i + 1)
    rw [fx_X3_doneBy_L4, M.1, if_neg (nI_ge hi (by omega)), pq_bitM (by omega) (by omega), M.o1 V hi, gw_b1_s]
    by_cases e : t.testBit i = true
    · rw [if_pos e, if_pos e, pq_or]
    · rw [if_neg e, if_neg e, pq_or0, Nat.or_zero]
end
