/-! PURE SIDE: who does a deed, chains, ransoms, what one can, power -/
set_option maxRecDepth 100000
section
variable {N : Nat} {h : Nat → Option Nat} {w d s : Nat → Nat} {f a : Nat} {σ τ : gw_S}
/-- the time up to g -/
def sp_T (h : Nat → Option Nat) (f N g q : Nat) : Option Nat := tm h (cst f) g N q 0
theorem sp_T_lt (V : vw N h w d s f a) {g q t : Nat} (e : sp_T h f N g q = some t) : t < 2 ^ 31 := by
  have h1 := tm_lt N q 0 t e
  have h8 := V.1
  omega
theorem sp_T_b (V : vw N h w d s f a) {g q : Nat} : ∀ k, sp_T h f N g q = some k → k < 2 ^ 31 := fun _ e => sp_T_lt V e
theorem xe_T (V : vw N h w d s f a) (X : vX N h w d s f a σ) {g q : Nat} (hg : g < N) (hq : q < N) : fx_X0_timeOf σ (nI g) (nI q) = some (oI (sp_T h f N g q)) := xe_time V X hg hq
theorem me_T (V : vw N h w d s f a) (M : vM N h w d s f a τ) {g q : Nat} (hg : g < N) (hq : q < N) : fx_X3_timeOf τ (nI g) (nI q) = some (oI (sp_T h f N g q)) := me_time V M hg hq
/-- a way behind a time -/
theorem sp_T_way (V : vw N h w d s f a) {g q t : Nat} (hq : q < N) (e : sp_T h f N g q = some t) : ∃ m, 1 ≤ m ∧ m ≤ N ∧ up h m q = some g ∧ ∀ i, 1 ≤ i → i < m → up h i q ≠ some g := by
  obtain ⟨j, j1, j2, j3⟩ := (tm_some N q 0).mp (show (tm h (cst f) g N q 0).isSome = true by rw [show tm h (cst f) g N q 0 = some t from e]; rfl)
  obtain ⟨m, m1, m2, _, m3, m4⟩ := up_short V.H hq j1 j3
  exact ⟨m, m1, m2, m3, m4⟩
def st_doer (T : Nat → Option Nat) (d : Nat → Nat) (x q : Nat) (b : Option Nat) : Option Nat :=
  if (d q).testBit x then (match T q with
    | none => b
    | some t => (match b with
      | none => some q
      | some y => if t < (T y).getD 0 then some q else some y)) else b
def sp_doer (h : Nat → Option Nat) (d : Nat → Nat) (f N g x : Nat) : Option Nat := sp_f (st_doer (sp_T h f N g) d x) none N
theorem st_doer_ok {T : Nat → Option Nat} {x q i : Nat} {b : Option Nat} (hq : q < i) (hb : ∀ y, b = some y → y < i ∧ (T y).isSome = true) : ∀ y, st_doer T d x q b = some y → y < i ∧ (T y).isSome = true := by
  intro y e
  unfold st_doer at e
  split at e
  · cases eT : T q with
    | none => rw [eT] at e; exact hb y e
    | some t =>
      rw [eT] at e
      cases b with
      | none =>
        cases (show some q = some y from e)
        exact ⟨hq, by rw [eT]; rfl⟩
      | some z =>
        have e : (if t < (T z).getD 0 then some q else some z) = some y := e
        split at e
        · cases e; exact ⟨hq, by rw [eT]; rfl⟩
        · exact hb y e
  · exact hb y e
theorem st_doer_some {T : Nat → Option Nat} {x q : Nat} {b : Option Nat} : (st_doer T d x q b).isSome = (b.isSome || ((d q).testBit x && (T q).isSome)) := by
  unfold st_doer
  by_cases e : (d q).testBit x = true
  · rw [if_pos e, e]
    cases eT : T q with
    | none => simp
    | some t =>
      cases b with
      | none => rfl
      | some z =>
        show (if t < (T z).getD 0 then some q else some z).isSome = _
        split <;> rfl
  · rw [if_neg e]
    simp [e]
theorem sp_doer_some {g x : Nat} : (sp_doer h d f N g x).isSome = true ↔ ∃ q, q < N ∧ (d q).testBit x = true ∧ (sp_T h f N g q).isSome = true := by
  have key : ∀ n, (sp_f (st_doer (sp_T h f N g) d x) none n).isSome = true ↔ ∃ q, q < n ∧ (d q).testBit x = true ∧ (sp_T h f N g q).isSome = true := by
    intro n
    induction n with
    | zero =>
      constructor
      · intro e; cases e
      · rintro ⟨q, hq, _⟩; omega
    | succ n ih =>
      show (st_doer (sp_T h f N g) d x n (sp_f (st_doer (sp_T h f N g) d x) none n)).isSome = true ↔ _
      rw [st_doer_some, Bool.or_eq_true, ih, Bool.and_eq_true]
      constructor
      · rintro (⟨q, h1, h2, h3⟩ | ⟨h2, h3⟩)
        · exact ⟨q, by omega, h2, h3⟩
        · exact ⟨n, by omega, h2, h3⟩
      · rintro ⟨q, h1, h2, h3⟩
        by_cases e : q = n
        · subst e; exact Or.inr ⟨h2, h3⟩
        · exact Or.inl ⟨q, by omega, h2, h3⟩
  exact key N
theorem sp_doer_ok {g x y : Nat} (e : sp_doer h d f N g x = some y) : y < N ∧ (sp_T h f N g y).isSome = true := by
  have key : ∀ n, n ≤ N → ∀ y, sp_f (st_doer (sp_T h f N g) d x) none n = some y → y < N ∧ (sp_T h f N g y).isSome = true := by
    intro n
    induction n with
    | zero => intro _ y e; cases e
    | succ n ih => intro hn; exact st_doer_ok (by omega) (ih (by omega))
  exact key N (Nat.le_refl _) y e
theorem xe_doer (V : vw N h w d s f a) (X : vX N h w d s f a σ) {g x : Nat} (hg : g < N) (hx : x < 6) : fx_X0_doerOf σ (nI g) (nI x) = some (oI (sp_doer h d f N g x)) := by
  have h8 := V.1
  unfold fx_X0_doerOf
  refine pq_fold (fun n (b : Option Nat) c => fx_X0_doerOf_L5 σ (nI g) (nI x) n (oI b) c) (fun b => some (oI b)) N (st_doer (sp_T h f N g) d x) none (fun i b => ∀ y, b = some y → y < N ∧ (sp_T h f N g y).isSome = true) (fun y e => by cases e) ?_ ?_ 1000 (by omega)
  · intro n b _
    show fx_X0_doerOf_L5 σ (nI g) (nI x) (n + 1) (oI b) (nI N) = _
    rw [fx_X0_doerOf_L5, X.1, if_pos (nI_le (Nat.le_refl _) (by omega))]
  · intro n i b hi hI
    refine ⟨st_doer_ok hi hI, ?_⟩
    show fx_X0_doerOf_L5 σ (nI g) (nI x) (n + 1) (oI b) (nI i) = fx_X0_doerOf_L5 σ (nI g) (nI x) n (oI (st_doer (sp_T h f N g) d x i b)) (nI i + 1)
    have hd := V.db hi
    rw [fx_X0_doerOf_L5, X.1, if_neg (nI_ge hi (by omega)), pq_ck (by omega) (by omega), nI_clamp (by omega), X.dd hi, pq_bit (by omega) (by omega), xe_T V X hg hi]
    simp only [gw_b1_s]
    unfold st_doer
    by_cases e : (d i).testBit x = true
    · rw [if_pos e, if_pos e]
      cases eT : sp_T h f N g i with
      | none => rw [oI_none, if_pos rfl]
      | some t =>
        have ht := sp_T_lt V eT
        rw [oI_some, if_neg (nI_m1 ht)]
        cases b with
        | none => rw [oI_none, if_pos rfl]; rfl
        | some y =>
          obtain ⟨hy, hy2⟩ := hI y rfl
          obtain ⟨t', et'⟩ := Option.isSome_iff_exists.mp hy2
          have ht' := sp_T_lt V et'
          rw [oI_some, if_neg (nI_m1 (by omega)), xe_T V X hg hy, gw_b1_s, et', oI_some]
          show _ = fx_X0_doerOf_L5 σ (nI g) (nI x) n (oI (if t < (sp_T h f N g y).getD 0 then some i else some y)) (nI i + 1)
          rw [et', show (some t').getD 0 = t' from rfl]
          by_cases l : t < t'
          · rw [if_neg (nI_ge l ht'), if_pos l]; rfl
          · rw [if_pos (nI_le (by omega) ht), if_neg l]; rfl
    · rw [if_neg e, if_neg e]
theorem me_doer (V : vw N h w d s f a) (M : vM N h w d s f a τ) {g x : Nat} (hg : g < N) (hx : x < 6) : fx_X3_doerOf τ (nI g) (nI x) = some (oI (sp_doer h d f N g x)) := by
  have h8 := V.1
  unfold fx_X3_doerOf
  refine pq_fold (fun n (b : Option Nat) c => fx_X3_doerOf_L5 τ (nI g) (nI x) n (oI b) c) (fun b => some (oI b)) N (st_doer (sp_T h f N g) d x) none (fun i b => ∀ y, b = some y → y < N ∧ (sp_T h f N g y).isSome = true) (fun y e => by cases e) ?_ ?_ 1000 (by omega)
  · intro n b _
    show fx_X3_doerOf_L5 τ (nI g) (nI x) (n + 1) (oI b) (nI N) = _
    rw [fx_X3_doerOf_L5, M.1, if_pos (nI_le (Nat.le_refl _) (by omega))]
  · intro n i b hi hI
    refine ⟨st_doer_ok hi hI, ?_⟩
    show fx_X3_doerOf_L5 τ (nI g) (nI x) (n + 1) (oI b) (nI i) = fx_X3_doerOf_L5 τ (nI g) (nI x) n (oI (st_doer (sp_T h f N g) d x i b)) (nI i + 1)
    have hd := V.db hi
    rw [fx_X3_doerOf_L5, M.1, if_neg (nI_ge hi (by omega)), me_T V M hg hi, gw_b1_s, M.o1 V hi, gw_b1_s, pq_bitM (by omega) (by omega)]
    unfold st_doer
    by_cases e : (d i).testBit x = true
    · rw [if_pos e, if_pos e]
      cases eT : sp_T h f N g i with
      | none => rw [oI_none, if_pos rfl]
      | some t =>
        have ht := sp_T_lt V eT
        rw [oI_some, if_neg (nI_m1 ht)]
        cases b with
        | none => rw [oI_none, if_pos rfl]; rfl
        | some y =>
          obtain ⟨hy, hy2⟩ := hI y rfl
          obtain ⟨t', et'⟩ := Option.isSome_iff_exists.mp hy2
          have ht' := sp_T_lt V et'
          rw [oI_some, if_neg (nI_m1 (by omega)), me_T V M hg hy, gw_b1_s, et', oI_some]
          show _ = fx_X3_doerOf_L5 τ (nI g) (nI x) n (oI (if t < (sp_T h f N g y).getD 0 then some i else some y)) (nI i + 1)
          rw [et', show (some t').getD 0 = t' from rfl]
          by_cases l : t < t'
          · rw [if_neg (nI_ge l ht'), if_pos l]; rfl
          · rw [if_pos (nI_le (by omega) ht), if_neg l]; rfl
    · rw [if_neg e, if_neg e]
/-! the way up, counted; the one at a place of it -/
theorem xe_askA (V : vw N h w d s f a) (X : vX N h w d s f a σ) {κ : Type} (k : Int32 → Option κ) {g : Nat} {v3 v4 : Int32} (hg : g < N) : ∀ j n q i, up h j q = some g → (∀ l, l < j → up h l q ≠ some g) → j < n → q < N → fx_X0_asked_L52 k σ (nI g) v3 v4 n (nI i) (nI q) = k (nI (i + j)) := by
  have h8 := V.1
  intro j
  induction j with
  | zero =>
    intro n q i e _ hn hq
    obtain ⟨m, rfl⟩ : ∃ m, n = m + 1 := ⟨n - 1, by omega⟩
    cases (show some q = some g from e)
    rw [fx_X0_asked_L52, if_pos rfl, Nat.add_zero]
  | succ j ih =>
    intro n q i e hl hn hq
    obtain ⟨m, rfl⟩ : ∃ m, n = m + 1 := ⟨n - 1, by omega⟩
    have q0 : q ≠ g := fun z => hl 0 (by omega) (by rw [z]; rfl)
    rw [fx_X0_asked_L52, if_neg (fun z => q0 ((nI_eq (by omega) (by omega)).mp z)), pq_ck (by omega) (by omega), nI_clamp (by omega), X.hh hq]
    cases eh : h q with
    | none => rw [up_n eh] at e; cases e
    | some r =>
      rw [up_s eh] at e
      rw [oI_some, nI_1, ih m r (i + 1) e (fun l hl2 z => hl (l + 1) (by omega) (by rw [up_s eh]; exact z)) (by omega) (V.hk hq eh)]
      congr 2
      omega
theorem xe_askB (V : vw N h w d s f a) (X : vX N h w d s f a σ) : ∀ j n q i r, up h j q = some r → j < n → q < N → i + j < 2 ^ 31 → fx_X0_asked_L99 σ (nI i) n (nI q) (nI (i + j)) = some (nI r, σ) := by
  have h8 := V.1
  intro j
  induction j with
  | zero =>
    intro n q i r e hn hq hb
    obtain ⟨m, rfl⟩ : ∃ m, n = m + 1 := ⟨n - 1, by omega⟩
    cases (show some q = some r from e)
    rw [fx_X0_asked_L99, if_pos (nI_le (by omega) (by omega))]
  | succ j ih =>
    intro n q i r e hn hq hb
    obtain ⟨m, rfl⟩ : ∃ m, n = m + 1 := ⟨n - 1, by omega⟩
    rw [fx_X0_asked_L99, if_neg (nI_ge (by omega) (by omega)), pq_ck (by omega) (by omega), nI_clamp (by omega), X.hh hq]
    cases eh : h q with
    | none => rw [up_n eh] at e; cases e
    | some t =>
      rw [up_s eh] at e
      rw [oI_some, show i + (j + 1) = i + j + 1 from by omega, pk_m1]
      exact ih m t i r e (by omega) (V.hk hq eh) (by omega)
theorem me_askA (V : vw N h w d s f a) (M : vM N h w d s f a τ) {κ : Type} (k : Int32 → Option κ) {g : Nat} {v3 v4 : Int32} (hg : g < N) : ∀ j n q i, up h j q = some g → (∀ l, l < j → up h l q ≠ some g) → j < n → q < N → fx_X3_asked_L53 k τ (nI g) v3 v4 n (nI i) (nI q) = k (nI (i + j)) := by
  have h8 := V.1
  intro j
  induction j with
  | zero =>
    intro n q i e _ hn hq
    obtain ⟨m, rfl⟩ : ∃ m, n = m + 1 := ⟨n - 1, by omega⟩
    cases (show some q = some g from e)
    rw [fx_X3_asked_L53, if_pos rfl, Nat.add_zero]
  | succ j ih =>
    intro n q i e hl hn hq
    obtain ⟨m, rfl⟩ : ∃ m, n = m + 1 := ⟨n - 1, by omega⟩
    have q0 : q ≠ g := fun z => hl 0 (by omega) (by rw [z]; rfl)
    rw [fx_X3_asked_L53, if_neg (fun z => q0 ((nI_eq (by omega) (by omega)).mp z)), pq_ck (by omega) (by omega), nI_clamp (by omega), M.hh hq]
    cases eh : h q with
    | none => rw [up_n eh] at e; cases e
    | some r =>
      rw [up_s eh] at e
      rw [oI_some, nI_1, ih m r (i + 1) e (fun l hl2 z => hl (l + 1) (by omega) (by rw [up_s eh]; exact z)) (by omega) (V.hk hq eh)]
      congr 2
      omega
theorem me_askB (V : vw N h w d s f a) (M : vM N h w d s f a τ) : ∀ j n q i r, up h j q = some r → j < n → q < N → i + j < 2 ^ 31 → fx_X3_asked_L92 τ (nI i) n (nI q) (nI (i + j)) = some (nI r, τ) := by
  have h8 := V.1
  intro j
  induction j with
  | zero =>
    intro n q i r e hn hq hb
    obtain ⟨m, rfl⟩ : ∃ m, n = m + 1 := ⟨n - 1, by omega⟩
    cases (show some q = some r from e)
    rw [fx_X3_asked_L92, if_pos (nI_le (by omega) (by omega))]
  | succ j ih =>
    intro n q i r e hn hq hb
    obtain ⟨m, rfl⟩ : ∃ m, n = m + 1 := ⟨n - 1, by omega⟩
    rw [fx_X3_asked_L92, if_neg (nI_ge (by omega) (by omega)), pq_ck (by omega) (by omega), nI_clamp (by omega), M.hh hq]
    cases eh : h q with
    | none => rw [up_n eh] at e; cases e
    | some t =>
      rw [up_s eh] at e
      rw [oI_some, show i + (j + 1) = i + j + 1 from by omega, pk_m1]
      exact ih m t i r e (by omega) (V.hk hq eh) (by omega)
/-! what one can -/
theorem sp_deeds_bit {t i : Nat} : ∀ n, (sp_deeds d t n).testBit i = true ↔ ∃ p, p < n ∧ t.testBit p = true ∧ (d p).testBit i = true := by
  intro n
  induction n with
  | zero =>
    constructor
    · intro e
      have e : Nat.testBit 0 i = true := e
      simp at e
    · rintro ⟨p, hp, _⟩; omega
  | succ n ih =>
    show (sp_deeds d t n ||| (if t.testBit n then d n else 0)).testBit i = true ↔ _
    rw [Nat.testBit_or, Bool.or_eq_true, ih]
    constructor
    · rintro (⟨p, h1, h2, h3⟩ | e)
      · exact ⟨p, by omega, h2, h3⟩
      · split at e
        · rename_i z
          exact ⟨n, by omega, z, e⟩
        · simp at e
    · rintro ⟨p, h1, h2, h3⟩
      by_cases e : p = n
      · subst e
        right
        rw [if_pos h2]; exact h3
      · exact Or.inl ⟨p, by omega, h2, h3⟩
def sp_under (h : Nat → Option Nat) (f N g : Nat) : Nat := sp_set (fun p => (sp_T h f N g p).isSome) N
theorem sp_under_lt (V : vw N h w d s f a) {g : Nat} : sp_under h f N g < 256 := pw8 V.1 (sp_set_lt _ _)
theorem can_eq (V : vw N h w d s f a) {g : Nat} (hg : g < N) : s g &&& sp_deeds d (sp_under h f N g) N = sp_set (fun x => (s g).testBit x && (sp_doer h d f N g x).isSome) 6 := by
  refine pq_ext (n := 6) (Nat.and_lt_two_pow _ (V.dl _)) (sp_set_lt _ _) (fun i hi => ?_)
  rw [sp_set_bit, Nat.testBit_and]
  simp only [hi, decide_true, Bool.true_and]
  congr 1
  cases e : (sp_doer h d f N g i).isSome with
  | true =>
    obtain ⟨q, q1, q2, q3⟩ := sp_doer_some.mp e
    refine (sp_deeds_bit N).mpr ⟨q, q1, ?_, q2⟩
    unfold sp_under
    rw [sp_set_bit]
    simp [q1, q3]
  | false =>
    cases e2 : (sp_deeds d (sp_under h f N g) N).testBit i with
    | false => rfl
    | true =>
      obtain ⟨p, p1, p2, p3⟩ := (sp_deeds_bit N).mp e2
      unfold sp_under at p2
      rw [sp_set_bit, Bool.and_eq_true] at p2
      rw [sp_doer_some.mpr ⟨p, p1, p3, p2.2⟩] at e
      cases e
theorem me_can (V : vw N h w d s f a) (M : vM N h w d s f a τ) {g : Nat} (hg : g < N) : fx_X3_can_L25 τ (nI g) 1000 0 0 = some (nI (sp_set (fun x => (s g).testBit x && (sp_doer h d f N g x).isSome) 6), τ) := by
  have h8 := V.1
  refine pq_fold (fun n (b : Nat) c => fx_X3_can_L25 τ (nI g) n (nI b) c) (fun b => some (nI b, τ)) 6 (fun p b => b ||| (if ((s g).testBit p && (sp_doer h d f N g p).isSome) then 2 ^ p else 0)) 0 (fun _ _ => True) trivial ?_ ?_ 1000 (by omega)
  · intro n b _
    show fx_X3_can_L25 τ (nI g) (n + 1) (nI b) (nI 6) = _
    rw [fx_X3_can_L25, show (6 : Int32) = nI 6 from rfl, if_pos (nI_le (Nat.le_refl _) (by omega))]
  · intro n i b hi _
    refine ⟨trivial, ?_⟩
    show fx_X3_can_L25 τ (nI g) (n + 1) (nI b) (nI i) = fx_X3_can_L25 τ (nI g) n (nI (b ||| (if ((s g).testBit i && (sp_doer h d f N g i).isSome) then 2 ^ i else 0))) (nI i + 1)
    have hs := V.sb hg
    rw [fx_X3_can_L25, show (6 : Int32) = nI 6 from rfl, if_neg (nI_ge hi (by omega)), M.o2 V hg, gw_b1_s, pq_bitM (by omega) (by omega), me_doer V M hg hi, gw_b1_s, pq_shl1 i (by omega), pq_or, pq_or0]
    by_cases e : (s g).testBit i = true
    · rw [if_pos e, e, Bool.true_and]
      cases eo : sp_doer h d f N g i with
      | none => rw [oI_none, if_pos rfl, if_neg (by decide), Nat.or_zero]
      | some y =>
        have hy := (sp_doer_ok eo).1
        rw [oI_some, if_neg (nI_m1 (by omega)), if_pos (show (some y).isSome = true from rfl)]
    · rw [if_neg e, if_neg (by simp [e]), Nat.or_zero]
/-! power -/
def sp_pow (h : Nat → Option Nat) (d : Nat → Nat) (f N g : Nat) : Nat := pc (sp_deeds d (sp_under h f N g) N)
theorem sp_pow_lt (V : vw N h w d s f a) {g : Nat} : sp_pow h d f N g ≤ 8 := by
  have := V.dl (sp_under h f N g)
  exact pc_le _ (by omega)
theorem xe_pow (V : vw N h w d s f a) (X : vX N h w d s f a σ) {g : Nat} (hg : g < N) : fx_X0_powerOf σ (nI g) = some (nI (sp_pow h d f N g)) := by
  unfold fx_X0_powerOf
  have h1 := sp_under_lt V (g := g)
  have h2 := V.dl (sp_under h f N g)
  rw [xe_under V X hg, gw_b1_s]
  show gw_b1 (fx_X0_deedsOf σ (nI (sp_under h f N g))) _ = _
  rw [xe_deeds V X h1, gw_b1_s, pc_X _ (by omega)]
  rfl
theorem me_pow (V : vw N h w d s f a) (M : vM N h w d s f a τ) {g : Nat} (hg : g < N) : fx_X3_powerOf τ (nI g) = some (nI (sp_pow h d f N g)) := by
  unfold fx_X3_powerOf
  have h1 := sp_under_lt V (g := g)
  have h2 := V.dl (sp_under h f N g)
  rw [me_under V M hg, gw_b1_s]
  show gw_b1 (fx_X3_doneBy τ (nI (sp_under h f N g))) _ = _
  rw [me_deeds V M h1, gw_b1_s, pc_M _ (by omega), gw_b1_s]
  rfl
def st_mighty (h : Nat → Option Nat) (d : Nat → Nat) (f N p : Nat) (b : Option Nat) : Option Nat := match b with
  | none => some p
  | some y => if sp_pow h d f N p ≤ sp_pow h d f N y then some y else some p
theorem st_mighty_lt {p : Nat} {b : Option Nat} (hp : p < N) (hb : ∀ y, b = some y → y < N) : ∀ y, st_mighty h d f N p b = some y → y < N := by
  intro y e
  cases b with
  | none => cases (show some p = some y from e); exact hp
  | some z =>
    have e : (if sp_pow h d f N p ≤ sp_pow h d f N z then some z else some p) = some y := e
    split at e
    · exact hb y e
    · cases e; exact hp
theorem xe_mighty (V : vw N h w d s f a) (X : vX N h w d s f a σ) : fx_X0_mighty_L18 σ 1000 (-1) 0 = some (oI (sp_f (st_mighty h d f N) none N), σ) := by
  have h8 := V.1
  refine pq_fold (fun n (b : Option Nat) c => fx_X0_mighty_L18 σ n (oI b) c) (fun b => some (oI b, σ)) N (st_mighty h d f N) none (fun i b => ∀ y, b = some y → y < N) (fun y e => by cases e) ?_ ?_ 1000 (by omega)
  · intro n b _
    show fx_X0_mighty_L18 σ (n + 1) (oI b) (nI N) = _
    rw [fx_X0_mighty_L18, X.1, if_pos (nI_le (Nat.le_refl _) (by omega))]
  · intro n i b hi hI
    refine ⟨st_mighty_lt hi hI, ?_⟩
    show fx_X0_mighty_L18 σ (n + 1) (oI b) (nI i) = fx_X0_mighty_L18 σ n (oI (st_mighty h d f N i b)) (nI i + 1)
    rw [fx_X0_mighty_L18, X.1, if_neg (nI_ge hi (by omega))]
    cases b with
    | none => rw [oI_none, if_pos rfl]; rfl
    | some y =>
      have hy := hI y rfl
      have p1 := sp_pow_lt V (g := i)
      have p2 := sp_pow_lt V (g := y)
      rw [oI_some, if_neg (nI_m1 (by omega)), xe_pow V X hi, gw_b1_s, xe_pow V X hy, gw_b1_s]
      show _ = fx_X0_mighty_L18 σ n (oI (if sp_pow h d f N i ≤ sp_pow h d f N y then some y else some i)) (nI i + 1)
      by_cases l : sp_pow h d f N i ≤ sp_pow h d f N y
      · rw [if_pos (nI_le l (by omega)), if_pos l]; rfl
      · rw [if_neg (nI_ge (by omega) (by omega)), if_neg l]; rfl
theorem me_mighty (V : vw N h w d s f a) (M : vM N h w d s f a τ) : fx_X3_mighty_L23 τ 1000 (-1) 0 = some (oI (sp_f (st_mighty h d f N) none N), τ) := by
  have h8 := V.1
  refine pq_fold (fun n (b : Option Nat) c => fx_X3_mighty_L23 τ n (oI b) c) (fun b => some (oI b, τ)) N (st_mighty h d f N) none (fun i b => ∀ y, b = some y → y < N) (fun y e => by cases e) ?_ ?_ 1000 (by omega)
  · intro n b _
    show fx_X3_mighty_L23 τ (n + 1) (oI b) (nI N) = _
    rw [fx_X3_mighty_L23, M.1, if_pos (nI_le (Nat.le_refl _) (by omega))]
  · intro n i b hi hI
    refine ⟨st_mighty_lt hi hI, ?_⟩
    show fx_X3_mighty_L23 τ (n + 1) (oI b) (nI i) = fx_X3_mighty_L23 τ n (oI (st_mighty h d f N i b)) (nI i + 1)
    rw [fx_X3_mighty_L23, M.1, if_neg (nI_ge hi (by omega))]
    cases b with
    | none => rw [oI_none, if_pos rfl]; rfl
    | some y =>
      have hy := hI y rfl
      have p1 := sp_pow_lt V (g := i)
      have p2 := sp_pow_lt V (g := y)
      rw [oI_some, if_neg (nI_m1 (by omega)), me_pow V M hi, gw_b1_s, me_pow V M hy, gw_b1_s]
      show _ = fx_X3_mighty_L23 τ n (oI (if sp_pow h d f N i ≤ sp_pow h d f N y then some y else some i)) (nI i + 1)
      by_cases l : sp_pow h d f N i ≤ sp_pow h d f N y
      · rw [if_pos (nI_le l (by omega)), if_pos l]; rfl
      · rw [if_neg (nI_ge (by omega) (by omega)), if_neg l]; rfl
/-! which card one would have -/
def st_covet (h : Nat → Option Nat) (d : Nat → Nat) (f N g p : Nat) (x : Nat × Option Nat) : Nat × Option Nat :=
  if x.1 < sp_pow (fun q => if q = p then some g else h q) d f N g then (sp_pow (fun q => if q = p then some g else h q) d f N g, some p) else x
theorem vw_lay (V : vw N h w d s f a) {g p : Nat} (hg : g < N) : vw N (fun q => if q = p then some g else h q) w d s f a := by
  obtain ⟨v1, v2, v3, v4⟩ := V
  refine ⟨v1, v2, v3, fun q hq => ⟨fun k e => ?_, (v4 q hq).2⟩⟩
  have e : (if q = p then some g else h q) = some k := e
  split at e
  · cases e; exact hg
  · exact (v4 q hq).1 k e
theorem vX_lay (X : vX N h w d s f a σ) {g p : Nat} : vX N (fun q => if q = p then some g else h q) w d s f a (gw_u σ 3 p (nI g)) := by
  obtain ⟨x1, x2, x3, x4⟩ := X
  refine ⟨x1, x2, x3, fun q hq => ⟨?_, (x4 q hq).2⟩⟩
  show upd (σ.1 3) p (nI g) q = oI (if q = p then some g else h q)
  by_cases e : q = p
  · subst e; rw [pk_us, if_pos rfl]; rfl
  · rw [pk_un e, if_neg e]; exact (x4 q hq).1
theorem vM_lay (M : vM N h w d s f a τ) {g p : Nat} : vM N (fun q => if q = p then some g else h q) w d s f a (gw_u τ 11 p (nI g)) := by
  obtain ⟨x1, x2, x3⟩ := M
  refine ⟨x1, x2, fun q hq => ⟨?_, (x3 q hq).2⟩⟩
  show upd (τ.1 11) p (nI g) q = oI (if q = p then some g else h q)
  by_cases e : q = p
  · subst e; rw [pk_us, if_pos rfl]; rfl
  · rw [pk_un e, if_neg e]; exact (x3 q hq).1
theorem gw_u_back {ς : gw_S} {c j : Nat} {v : Int32} : gw_u (gw_u ς c j v) c j (ς.1 c j) = ς := by
  refine Prod.ext (funext fun i => funext fun q => ?_) rfl
  show (if i = c then upd ((gw_u ς c j v).1 i) j (ς.1 c j) else (gw_u ς c j v).1 i) q = ς.1 i q
  by_cases e : i = c
  · subst e
    rw [if_pos rfl]
    by_cases e2 : q = j
    · subst e2; rw [pk_us]
    · rw [pk_un e2]
      show (if i = i then upd (ς.1 i) j v else ς.1 i) q = _
      rw [if_pos rfl, pk_un e2]
  · rw [if_neg e]
    show (if i = c then upd (ς.1 i) j v else ς.1 i) q = _
    rw [if_neg e]
theorem xe_covet (V : vw N h w d s f a) (X : vX N h w d s f a σ) {g : Nat} (hg : g < N) : fx_X0_covet_L27 (nI g) 1000 (nI (sp_pow h d f N g)) (-1) 0 σ = some (oI (sp_f (st_covet h d f N g) (sp_pow h d f N g, none) N).2, σ) := by
  have h8 := V.1
  refine pq_fold (fun n (x : Nat × Option Nat) c => fx_X0_covet_L27 (nI g) n (nI x.1) (oI x.2) c σ) (fun x => some (oI x.2, σ)) N (st_covet h d f N g) (sp_pow h d f N g, none) (fun i x => x.1 ≤ 8) (sp_pow_lt V) ?_ ?_ 1000 (by omega)
  · intro n x _
    show fx_X0_covet_L27 (nI g) (n + 1) (nI x.1) (oI x.2) (nI N) σ = _
    rw [fx_X0_covet_L27, X.1, if_pos (nI_le (Nat.le_refl _) (by omega))]
  · intro n i x hi hI
    have V2 := vw_lay V hg (p := i)
    have p1 := sp_pow_lt V2 (g := g)
    refine ⟨?_, ?_⟩
    · show (st_covet h d f N g i x).1 ≤ 8
      unfold st_covet
      split
      · exact p1
      · exact hI
    · show fx_X0_covet_L27 (nI g) (n + 1) (nI x.1) (oI x.2) (nI i) σ = fx_X0_covet_L27 (nI g) n (nI (st_covet h d f N g i x).1) (oI (st_covet h d f N g i x).2) (nI i + 1) σ
      rw [fx_X0_covet_L27, X.1, if_neg (nI_ge hi (by omega)), pq_ck (by omega) (by omega), pq_ck (by omega) (by omega), nI_clamp (by omega)]
      simp only [gw_let]
      rw [xe_pow V2 (vX_lay X) hg, gw_b1_s, pq_ck (by omega) (by omega), gw_u_back]
      unfold st_covet
      by_cases l : x.1 < sp_pow (fun q => if q = i then some g else h q) d f N g
      · rw [if_pos (nI_lt l (by omega)), if_pos l]; rfl
      · rw [if_neg (nI_nlt (by omega) (by omega)), if_neg l]
theorem me_covet (V : vw N h w d s f a) (M : vM N h w d s f a τ) {g : Nat} (hg : g < N) : fx_X3_covet_L32 (nI g) 1000 (-1) (nI (sp_pow h d f N g)) 0 τ = some (oI (sp_f (st_covet h d f N g) (sp_pow h d f N g, none) N).2, τ) := by
  have h8 := V.1
  refine pq_fold (fun n (x : Nat × Option Nat) c => fx_X3_covet_L32 (nI g) n (oI x.2) (nI x.1) c τ) (fun x => some (oI x.2, τ)) N (st_covet h d f N g) (sp_pow h d f N g, none) (fun i x => x.1 ≤ 8 ∧ sp_pow h d f N g ≤ x.1) ⟨sp_pow_lt V, Nat.le_refl _⟩ ?_ ?_ 1000 (by omega)
  · intro n x _
    show fx_X3_covet_L32 (nI g) (n + 1) (oI x.2) (nI x.1) (nI N) τ = _
    rw [fx_X3_covet_L32, M.1, if_pos (nI_le (Nat.le_refl _) (by omega))]
  · intro n i x hi hI
    have V2 := vw_lay V hg (p := i)
    have p1 := sp_pow_lt V2 (g := g)
    have hI1 := hI.1
    have hI2 := hI.2
    refine ⟨?_, ?_⟩
    · show (st_covet h d f N g i x).1 ≤ 8 ∧ sp_pow h d f N g ≤ (st_covet h d f N g i x).1
      unfold st_covet
      split
      · exact ⟨p1, by show sp_pow h d f N g ≤ sp_pow _ d f N g; omega⟩
      · exact hI
    · show fx_X3_covet_L32 (nI g) (n + 1) (oI x.2) (nI x.1) (nI i) τ = fx_X3_covet_L32 (nI g) n (oI (st_covet h d f N g i x).2) (nI (st_covet h d f N g i x).1) (nI i + 1) τ
      rw [fx_X3_covet_L32, M.1, if_neg (nI_ge hi (by omega)), pq_ck (by omega) (by omega), nI_clamp (by omega), M.hh hi]
      by_cases z : h i = some g
      · rw [if_pos (by rw [z]; rfl)]
        have e : (fun q => if q = i then some g else h q) = h := by
          funext q
          by_cases y : q = i
          · subst y; rw [if_pos rfl, z]
          · rw [if_neg y]
        unfold st_covet
        rw [e, if_neg (by omega)]
      · rw [if_neg (fun q => z ((oI_eqI (V.hb hi) (by omega)).mp q)), pq_ck (by omega) (by omega)]
        simp only [gw_let]
        rw [me_pow V2 (vM_lay M) hg, gw_b1_s, pq_ck (by omega) (by omega), ← M.hh hi, gw_u_back]
        unfold st_covet
        by_cases l : x.1 < sp_pow (fun q => if q = i then some g else h q) d f N g
        · rw [if_pos (nI_lt l (by omega)), if_pos l]; rfl
        · rw [if_neg (nI_nlt (by omega) (by omega)), if_neg l]
end
