/-! PURE SIDE: ways up the holders; no way is longer than there are persons -/
set_option maxRecDepth 100000
theorem php : ∀ (N k : Nat) (f : Nat → Nat), (∀ i, i < k → f i < N) → (∀ i j, i < k → j < k → f i = f j → i = j) → k ≤ N := by
  intro N
  induction N with
  | zero =>
    intro k f hf _
    cases k with
    | zero => exact Nat.le_refl _
    | succ k => exact absurd (hf 0 (by omega)) (by omega)
  | succ N ih =>
    intro k f hf hi
    cases k with
    | zero => omega
    | succ k =>
      have key : k ≤ N := by
        refine ih k (fun i => if f i = N then f k else f i) (fun i h => ?_) (fun i j h1 h2 e => ?_)
        · show (if f i = N then f k else f i) < N
          have a := hf i (by omega)
          have b := hf k (by omega)
          by_cases e : f i = N
          · rw [if_pos e]
            have c : f k ≠ N := fun q => by
              have := hi k i (by omega) (by omega) (by omega)
              omega
            omega
          · rw [if_neg e]; omega
        · have e : (if f i = N then f k else f i) = (if f j = N then f k else f j) := e
          by_cases e1 : f i = N
          · by_cases e2 : f j = N
            · exact hi i j (by omega) (by omega) (by omega)
            · rw [if_pos e1, if_neg e2] at e
              have := hi k j (by omega) (by omega) e
              omega
          · by_cases e2 : f j = N
            · rw [if_neg e1, if_pos e2] at e
              have := hi i k (by omega) (by omega) e
              omega
            · rw [if_neg e1, if_neg e2] at e
              exact hi i j (by omega) (by omega) e
      omega
/-- one that none is sent to: fewer are sent -/
theorem php1 {N k c : Nat} {f : Nat → Nat} (hf : ∀ i, i < k → f i < N) (hi : ∀ i j, i < k → j < k → f i = f j → i = j) (hc : c < N) (hn : ∀ i, i < k → f i ≠ c) : k < N := by
  refine php N (k + 1) (fun i => if i < k then f i else c) (fun i h => ?_) (fun i j h1 h2 e => ?_)
  · show (if i < k then f i else c) < N
    by_cases e : i < k
    · rw [if_pos e]; exact hf i e
    · rw [if_neg e]; exact hc
  · have e : (if i < k then f i else c) = (if j < k then f j else c) := e
    by_cases e1 : i < k
    · by_cases e2 : j < k
      · rw [if_pos e1, if_pos e2] at e; exact hi i j e1 e2 e
      · rw [if_pos e1, if_neg e2] at e; exact absurd e (hn i e1)
    · by_cases e2 : j < k
      · rw [if_neg e1, if_pos e2] at e; exact absurd e.symm (hn j e2)
      · omega
/-- the k-th above -/
def up (h : Nat → Option Nat) : Nat → Nat → Option Nat
  | 0, q => some q
  | k + 1, q => match h q with
    | none => none
    | some r => up h k r
theorem up_s {h : Nat → Option Nat} {k q r : Nat} (e : h q = some r) : up h (k + 1) q = up h k r := by
  rw [up, e]
theorem up_n {h : Nat → Option Nat} {k q : Nat} (e : h q = none) : up h (k + 1) q = none := by
  rw [up, e]
theorem up_add (h : Nat → Option Nat) : ∀ (i j q : Nat), up h (i + j) q = (up h i q).bind (up h j) := by
  intro i
  induction i with
  | zero => intro j q; rw [Nat.zero_add]; rfl
  | succ i ih =>
    intro j q
    cases e : h q with
    | none => rw [show i + 1 + j = i + j + 1 from by omega, up_n e, up_n e]; rfl
    | some r => rw [show i + 1 + j = i + j + 1 from by omega, up_s e, up_s e]; exact ih j r
theorem up_lt {N : Nat} {h : Nat → Option Nat} (H : ∀ p, p < N → ∀ k, h p = some k → k < N) : ∀ (k q r : Nat), q < N → up h k q = some r → r < N := by
  intro k
  induction k with
  | zero => intro q r hq e; cases (show some q = some r from e); exact hq
  | succ k ih =>
    intro q r hq e
    cases e1 : h q with
    | none => rw [up_n e1] at e; cases e
    | some t => rw [up_s e1] at e; exact ih t r (H q hq t e1) e
theorem up_1 {h : Nat → Option Nat} {q : Nat} : up h 1 q = h q := by
  cases e : h q with
  | none => rw [up_n e]
  | some r => rw [up_s e]; rfl
theorem up_back {h : Nat → Option Nat} {k q : Nat} : up h (k + 1) q = (up h k q).bind h := by
  rw [up_add]
  congr 1
  funext r
  exact up_1
/-- nodes of a way that comes to an end where no earlier end was: they are apart -/
theorem up_apart {h : Nat → Option Nat} {q j : Nat} {P : Option Nat → Prop} (hP : P (up h j q)) (hm : ∀ i, 1 ≤ i → i < j → ¬ P (up h i q)) : ∀ i i', i < i' → i' < j → up h i q = up h i' q → False := by
  intro i i' h1 h2 e
  have a : up h (i + (j - i')) q = up h (i' + (j - i')) q := by rw [up_add, up_add, e]
  rw [show i' + (j - i') = j from by omega] at a
  exact hm (i + (j - i')) (by omega) (by omega) (by rw [a]; exact hP)
/-- a node that is reached is reached within N steps -/
theorem up_short {N : Nat} {h : Nat → Option Nat} (H : ∀ p, p < N → ∀ k, h p = some k → k < N) {q g k : Nat} (hq : q < N) (hk : 1 ≤ k) (e : up h k q = some g) : ∃ j, 1 ≤ j ∧ j ≤ N ∧ j ≤ k ∧ up h j q = some g ∧ ∀ i, 1 ≤ i → i < j → up h i q ≠ some g := by
  obtain ⟨j, ⟨hj1, hj2⟩, hj3⟩ := pk_least (fun j => 1 ≤ j ∧ up h j q = some g) ⟨k, hk, e⟩
  have hjk : j ≤ k := by
    by_cases c : j ≤ k
    · exact c
    · exact absurd ⟨hk, e⟩ (hj3 k (by omega))
  have hm : ∀ i, 1 ≤ i → i < j → up h i q ≠ some g := fun i a b c => hj3 i b ⟨a, c⟩
  refine ⟨j, hj1, ?_, hjk, hj2, hm⟩
  have hex : ∀ i, i < j → ∃ r, up h i q = some r := by
    intro i hi
    cases c : up h i q with
    | some r => exact ⟨r, rfl⟩
    | none =>
      have : up h (i + (j - i)) q = none := by rw [up_add, c]; rfl
      rw [show i + (j - i) = j from by omega, hj2] at this
      cases this
  refine php N j (fun i => (up h i q).getD 0) (fun i hi => ?_) (fun i i' h1 h2 e2 => ?_)
  · obtain ⟨r, hr⟩ := hex i hi
    show (up h i q).getD 0 < N
    rw [hr]
    exact up_lt H i q r hq hr
  · obtain ⟨r, hr⟩ := hex i h1
    obtain ⟨r', hr'⟩ := hex i' h2
    have e2 : (up h i q).getD 0 = (up h i' q).getD 0 := e2
    rw [hr, hr'] at e2
    have e3 : r = r' := e2
    subst e3
    have ap := up_apart (P := fun x => x = some g) hj2 hm
    rcases Nat.lt_trichotomy i i' with c | c | c
    · exact (ap i i' c h2 (by rw [hr, hr'])).elim
    · exact c
    · exact (ap i' i c h1 (by rw [hr, hr'])).elim
/-- a way that ends ends within N steps -/
theorem up_end {N : Nat} {h : Nat → Option Nat} (H : ∀ p, p < N → ∀ k, h p = some k → k < N) {q k : Nat} (hq : q < N) (e : up h k q = none) : up h N q = none := by
  obtain ⟨j, hj2, hj3⟩ := pk_least (fun j => up h j q = none) ⟨k, e⟩
  have hj1 : 1 ≤ j := by
    cases j with
    | zero => cases (show some q = none from hj2)
    | succ j => omega
  have hex : ∀ i, i < j → ∃ r, up h i q = some r := by
    intro i hi
    cases c : up h i q with
    | some r => exact ⟨r, rfl⟩
    | none => exact absurd c (hj3 i hi)
  have hN : j ≤ N := by
    refine php N j (fun i => (up h i q).getD 0) (fun i hi => ?_) (fun i i' h1 h2 e2 => ?_)
    · obtain ⟨r, hr⟩ := hex i hi
      show (up h i q).getD 0 < N
      rw [hr]
      exact up_lt H i q r hq hr
    · obtain ⟨r, hr⟩ := hex i h1
      obtain ⟨r', hr'⟩ := hex i' h2
      have e2 : (up h i q).getD 0 = (up h i' q).getD 0 := e2
      rw [hr, hr'] at e2
      have e3 : r = r' := e2
      subst e3
      have ap := up_apart (P := fun x => x = none) hj2 (fun i _ b c => hj3 i b c)
      rcases Nat.lt_trichotomy i i' with c | c | c
      · exact (ap i i' c h2 (by rw [hr, hr'])).elim
      · exact c
      · exact (ap i' i c h1 (by rw [hr, hr'])).elim
  rw [show N = j + (N - j) from by omega, up_add, hj2]
  rfl
/-! the time from one up to another; how long a ring is; the top -/
def tm (h : Nat → Option Nat) (c : Nat → Nat) (g : Nat) : Nat → Nat → Nat → Option Nat
  | 0, _, _ => none
  | k + 1, q, t => match h q with
    | none => none
    | some r => if r = g then some (t + c q) else tm h c g k r (t + c q)
theorem tm_n {h : Nat → Option Nat} {c : Nat → Nat} {g k q t : Nat} (e : h q = none) : tm h c g (k + 1) q t = none := by rw [tm, e]
theorem tm_s {h : Nat → Option Nat} {c : Nat → Nat} {g k q t r : Nat} (e : h q = some r) : tm h c g (k + 1) q t = if r = g then some (t + c q) else tm h c g k r (t + c q) := by rw [tm, e]
theorem tm_mono {h : Nat → Option Nat} {c : Nat → Nat} {g : Nat} : ∀ (k k' q t r : Nat), k ≤ k' → tm h c g k q t = some r → tm h c g k' q t = some r := by
  intro k
  induction k with
  | zero => intro k' q t r _ e; cases e
  | succ k ih =>
    intro k' q t r hk e
    obtain ⟨m, rfl⟩ : ∃ m, k' = m + 1 := ⟨k' - 1, by omega⟩
    cases e1 : h q with
    | none => rw [tm_n e1] at e; cases e
    | some x =>
      rw [tm_s e1] at e ⊢
      by_cases y : x = g
      · rw [if_pos y] at e ⊢; exact e
      · rw [if_neg y] at e ⊢; exact ih m x _ r (by omega) e
theorem tm_some {h : Nat → Option Nat} {c : Nat → Nat} {g : Nat} : ∀ (k q t : Nat), (tm h c g k q t).isSome = true ↔ ∃ j, 1 ≤ j ∧ j ≤ k ∧ up h j q = some g := by
  intro k
  induction k with
  | zero =>
    intro q t
    constructor
    · intro e; cases e
    · rintro ⟨j, a, b, _⟩; omega
  | succ k ih =>
    intro q t
    cases e : h q with
    | none =>
      rw [tm_n e]
      constructor
      · intro x; cases x
      · rintro ⟨j, a, b, x⟩
        obtain ⟨m, rfl⟩ : ∃ m, j = m + 1 := ⟨j - 1, by omega⟩
        rw [up_n e] at x; cases x
    | some r =>
      rw [tm_s e]
      by_cases y : r = g
      · rw [if_pos y]
        refine ⟨fun _ => ⟨1, by omega, by omega, ?_⟩, fun _ => rfl⟩
        rw [up_1, e, y]
      · rw [if_neg y, ih]
        constructor
        · rintro ⟨j, a, b, x⟩
          exact ⟨j + 1, by omega, by omega, by rw [up_s e]; exact x⟩
        · rintro ⟨j, a, b, x⟩
          obtain ⟨m, rfl⟩ : ∃ m, j = m + 1 := ⟨j - 1, by omega⟩
          rw [up_s e] at x
          by_cases z : m = 0
          · subst z
            cases (show some r = some g from x)
            exact absurd rfl y
          · exact ⟨m, by omega, by omega, x⟩
theorem tm_eq {N K : Nat} {h : Nat → Option Nat} {c : Nat → Nat} (H : ∀ p, p < N → ∀ k, h p = some k → k < N) {g q t : Nat} (hq : q < N) (hK : N ≤ K) : tm h c g K q t = tm h c g N q t := by
  cases e : tm h c g N q t with
  | some r => exact tm_mono N K q t r hK e
  | none =>
    cases e2 : tm h c g K q t with
    | none => rfl
    | some r =>
      obtain ⟨j, a, _, b⟩ := (tm_some K q t).mp (by rw [e2]; rfl)
      obtain ⟨j', a', b', _, c', _⟩ := up_short H hq a b
      have := (tm_some (c := c) N q t).mpr ⟨j', a', b', c'⟩
      rw [e] at this
      cases this
/-- the top -/
def tp (h : Nat → Option Nat) : Nat → Nat → Option Nat
  | 0, _ => none
  | k + 1, q => match h q with
    | none => some q
    | some r => tp h k r
theorem tp_n {h : Nat → Option Nat} {k q : Nat} (e : h q = none) : tp h (k + 1) q = some q := by rw [tp, e]
theorem tp_s {h : Nat → Option Nat} {k q r : Nat} (e : h q = some r) : tp h (k + 1) q = tp h k r := by rw [tp, e]
theorem tp_mono {h : Nat → Option Nat} : ∀ (k k' q r : Nat), k ≤ k' → tp h k q = some r → tp h k' q = some r := by
  intro k
  induction k with
  | zero => intro k' q r _ e; cases e
  | succ k ih =>
    intro k' q r hk e
    obtain ⟨m, rfl⟩ : ∃ m, k' = m + 1 := ⟨k' - 1, by omega⟩
    cases e1 : h q with
    | none => rw [tp_n e1] at e ⊢; exact e
    | some x => rw [tp_s e1] at e ⊢; exact ih m x r (by omega) e
theorem tp_some {h : Nat → Option Nat} : ∀ (k q : Nat), (tp h k q).isSome = true ↔ up h k q = none := by
  intro k
  induction k with
  | zero =>
    intro q
    constructor
    · intro e; cases e
    · intro e; cases (show some q = none from e)
  | succ k ih =>
    intro q
    cases e : h q with
    | none => rw [tp_n e, up_n e]; exact ⟨fun _ => rfl, fun _ => rfl⟩
    | some r => rw [tp_s e, up_s e]; exact ih r
theorem tp_eq {N K : Nat} {h : Nat → Option Nat} (H : ∀ p, p < N → ∀ k, h p = some k → k < N) {q : Nat} (hq : q < N) (hK : N ≤ K) : tp h K q = tp h N q := by
  cases e : tp h N q with
  | some r => exact tp_mono N K q r hK e
  | none =>
    cases e2 : tp h K q with
    | none => rfl
    | some r =>
      have a := (tp_some K q).mp (by rw [e2]; rfl)
      have b := (tp_some N q).mpr (up_end H hq a)
      rw [e] at b
      cases b
