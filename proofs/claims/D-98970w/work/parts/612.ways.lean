/-! PURE SIDE: time, rings, tops, who is under whom -/
set_option maxRecDepth 100000
/-- what one costs -/
def cst (f q : Nat) : Nat := if f.testBit q then 2 else 1
section
variable {N : Nat} {h : Nat → Option Nat} {w d s : Nat → Nat} {f a : Nat} {σ τ : gw_S}
theorem vw.H (V : vw N h w d s f a) : ∀ p, p < N → ∀ k, h p = some k → k < N := fun p hp => (V.2.2.2 p hp).1
theorem xe_cost (V : vw N h w d s f a) (X : vX N h w d s f a σ) {p : Nat} (hp : p < N) : fx_X0_cost σ (nI p) = nI (cst f p) := by
  have h8 := V.1
  have hf := V.2.1
  unfold fx_X0_cost cst
  rw [X.2.1, pq_bit (by omega) (by omega)]
  by_cases e : f.testBit p = true
  · rw [if_pos e, if_pos e]; rfl
  · rw [if_neg e, if_neg e]; rfl
theorem xe_tmL (V : vw N h w d s f a) (X : vX N h w d s f a σ) {g : Nat} (hg : g < N) : ∀ k i n q t, i + k = N → k < n → q < N → fx_X0_timeOf_L8 σ (nI g) n (nI t) (nI q) (nI i) = some (oI (tm h (cst f) g k q t)) := by
  have h8 := V.1
  intro k
  induction k with
  | zero =>
    intro i n q t hi hn hq
    obtain ⟨m, rfl⟩ : ∃ m, n = m + 1 := ⟨n - 1, by omega⟩
    rw [fx_X0_timeOf_L8, X.1, if_pos (nI_le (by omega) (by omega))]
    rfl
  | succ k ih =>
    intro i n q t hi hn hq
    obtain ⟨m, rfl⟩ : ∃ m, n = m + 1 := ⟨n - 1, by omega⟩
    rw [fx_X0_timeOf_L8, X.1, if_neg (nI_ge (by omega) (by omega)), pq_ck (by omega) (by omega), nI_clamp (by omega), X.hh hq]
    cases e : h q with
    | none => rw [tm_n e, oI_none, if_pos rfl]
    | some r =>
      have hr := V.hk hq e
      rw [tm_s e, oI_some, if_neg (nI_m1 (by omega)), pq_ck (by omega) (by omega), xe_cost V X hq, nI_add]
      by_cases y : r = g
      · rw [if_pos y, if_pos (by rw [y]), oI_some]
      · rw [if_neg y, if_neg (fun z => y ((nI_eq (by omega) (by omega)).mp z)), nI_1]
        exact ih (i + 1) m r _ (by omega) (by omega) hr
theorem xe_time (V : vw N h w d s f a) (X : vX N h w d s f a σ) {g q : Nat} (hg : g < N) (hq : q < N) : fx_X0_timeOf σ (nI g) (nI q) = some (oI (tm h (cst f) g N q 0)) := by
  have h8 := V.1
  exact xe_tmL V X hg N 0 1000 q 0 (by omega) (by omega) hq
theorem me_tmL (V : vw N h w d s f a) (M : vM N h w d s f a τ) {g : Nat} (hg : g < N) : ∀ k i n q t, i + k = 8 → k < n → q < N → fx_X3_timeOf_L8 τ (nI g) n (nI t) (nI q) (nI i) = some (oI (tm h (cst f) g k q t)) := by
  have h8 := V.1
  intro k
  induction k with
  | zero =>
    intro i n q t hi hn hq
    obtain ⟨m, rfl⟩ : ∃ m, n = m + 1 := ⟨n - 1, by omega⟩
    rw [fx_X3_timeOf_L8, show (8 : Int32) = nI 8 from rfl, if_pos (nI_le (by omega) (by omega))]
    rfl
  | succ k ih =>
    intro i n q t hi hn hq
    obtain ⟨m, rfl⟩ : ∃ m, n = m + 1 := ⟨n - 1, by omega⟩
    rw [fx_X3_timeOf_L8, show (8 : Int32) = nI 8 from rfl, if_neg (nI_ge (by omega) (by omega)), pq_ck (by omega) (by omega), nI_clamp (by omega), M.hh hq]
    cases e : h q with
    | none => rw [tm_n e, oI_none, if_pos rfl]
    | some r =>
      have hr := V.hk hq e
      have hc : (if nI (if f.testBit q then 1 else 0) = (1 : Int32) then some (2 : Int32) else some (1 : Int32)) = some (nI (cst f q)) := by
        unfold cst
        by_cases e : f.testBit q = true
        · rw [if_pos e, if_pos e]; rfl
        · rw [if_neg e, if_neg e]; rfl
      rw [tm_s e, oI_some, if_neg (nI_m1 (by omega)), M.o4 V hq, gw_b1_s, hc, gw_b1_s, pq_ck (by omega) (by omega), nI_add]
      by_cases y : r = g
      · rw [if_pos y, if_pos (by rw [y]), oI_some]
      · rw [if_neg y, if_neg (fun z => y ((nI_eq (by omega) (by omega)).mp z)), nI_1]
        exact ih (i + 1) m r _ (by omega) (by omega) hr
theorem me_time (V : vw N h w d s f a) (M : vM N h w d s f a τ) {g q : Nat} (hg : g < N) (hq : q < N) : fx_X3_timeOf τ (nI g) (nI q) = some (oI (tm h (cst f) g N q 0)) := by
  have h8 := V.1
  rw [← tm_eq V.H hq h8]
  exact me_tmL V M hg 8 0 1000 q 0 (by omega) (by omega) hq
/-- a time is small -/
theorem tm_lt {g : Nat} : ∀ (k q t r : Nat), tm h (cst f) g k q t = some r → r ≤ t + 2 * k := by
  intro k
  induction k with
  | zero => intro q t r e; cases e
  | succ k ih =>
    intro q t r e
    have hc : cst f q ≤ 2 := by unfold cst; split <;> omega
    cases e1 : h q with
    | none => rw [tm_n e1] at e; cases e
    | some x =>
      rw [tm_s e1] at e
      by_cases y : x = g
      · rw [if_pos y] at e; cases e; omega
      · rw [if_neg y] at e
        have := ih x _ r e
        omega
/-! rings: a time of one a step, from one to himself -/
theorem xe_rgL (V : vw N h w d s f a) (X : vX N h w d s f a σ) {g : Nat} (hg : g < N) : ∀ k i n q, i + k = N → k < n → q < N → fx_X0_ringOf_L4 σ (nI g) n (nI q) (nI (i + 1)) = some (nI ((tm h (fun _ => 1) g k q i).getD 0)) := by
  have h8 := V.1
  intro k
  induction k with
  | zero =>
    intro i n q hi hn hq
    obtain ⟨m, rfl⟩ : ∃ m, n = m + 1 := ⟨n - 1, by omega⟩
    rw [fx_X0_ringOf_L4, X.1, if_pos (nI_lt (by omega) (by omega))]
    rfl
  | succ k ih =>
    intro i n q hi hn hq
    obtain ⟨m, rfl⟩ : ∃ m, n = m + 1 := ⟨n - 1, by omega⟩
    rw [fx_X0_ringOf_L4, X.1, if_neg (nI_nlt (by omega) (by omega)), pq_ck (by omega) (by omega), nI_clamp (by omega), X.hh hq]
    cases e : h q with
    | none => rw [tm_n e, oI_none, if_pos rfl]; rfl
    | some r =>
      have hr := V.hk hq e
      rw [tm_s e, oI_some, if_neg (nI_m1 (by omega))]
      by_cases y : r = g
      · rw [if_pos y, if_pos (by rw [y])]; rfl
      · rw [if_neg y, if_neg (fun z => y ((nI_eq (by omega) (by omega)).mp z)), nI_1]
        exact ih (i + 1) m r (by omega) (by omega) hr
theorem xe_ring (V : vw N h w d s f a) (X : vX N h w d s f a σ) {g : Nat} (hg : g < N) : fx_X0_ringOf σ (nI g) = some (nI ((tm h (fun _ => 1) g N g 0).getD 0)) := by
  have h8 := V.1
  exact xe_rgL V X hg N 0 1000 g (by omega) (by omega) hg
theorem me_rgL (V : vw N h w d s f a) (M : vM N h w d s f a τ) {g : Nat} (hg : g < N) : ∀ k i n q, i + k = 8 → k < n → q < N → fx_X3_ringOf_L4 τ (nI g) n (nI q) (nI (i + 1)) = some (nI ((tm h (fun _ => 1) g k q i).getD 0)) := by
  have h8 := V.1
  intro k
  induction k with
  | zero =>
    intro i n q hi hn hq
    obtain ⟨m, rfl⟩ : ∃ m, n = m + 1 := ⟨n - 1, by omega⟩
    rw [fx_X3_ringOf_L4, show (8 : Int32) = nI 8 from rfl, if_pos (nI_lt (by omega) (by omega))]
    rfl
  | succ k ih =>
    intro i n q hi hn hq
    obtain ⟨m, rfl⟩ : ∃ m, n = m + 1 := ⟨n - 1, by omega⟩
    rw [fx_X3_ringOf_L4, show (8 : Int32) = nI 8 from rfl, if_neg (nI_nlt (by omega) (by omega)), pq_ck (by omega) (by omega), nI_clamp (by omega), M.hh hq]
    cases e : h q with
    | none => rw [tm_n e, oI_none, if_pos rfl]; rfl
    | some r =>
      have hr := V.hk hq e
      rw [tm_s e, oI_some, if_neg (nI_m1 (by omega)), pq_ck (by omega) (by omega)]
      by_cases y : r = g
      · rw [if_pos y, if_pos (by rw [y])]; rfl
      · rw [if_neg y, if_neg (fun z => y ((nI_eq (by omega) (by omega)).mp z)), nI_1]
        exact ih (i + 1) m r (by omega) (by omega) hr
theorem me_ring (V : vw N h w d s f a) (M : vM N h w d s f a τ) {g : Nat} (hg : g < N) : fx_X3_ringOf τ (nI g) = some (nI ((tm h (fun _ => 1) g N g 0).getD 0)) := by
  have h8 := V.1
  rw [← tm_eq V.H hg h8]
  exact me_rgL V M hg 8 0 1000 g (by omega) (by omega) hg
/-! the top -/
theorem xe_tpL (V : vw N h w d s f a) (X : vX N h w d s f a σ) : ∀ k i n q, i + k = N + 1 → k < n → q < N → fx_X0_top_L20 σ n (nI q) (nI i) = some (oI (tp h k q), σ) := by
  have h8 := V.1
  intro k
  induction k with
  | zero =>
    intro i n q hi hn hq
    obtain ⟨m, rfl⟩ : ∃ m, n = m + 1 := ⟨n - 1, by omega⟩
    rw [fx_X0_top_L20, X.1, if_pos (nI_lt (by omega) (by omega))]
    rfl
  | succ k ih =>
    intro i n q hi hn hq
    obtain ⟨m, rfl⟩ : ∃ m, n = m + 1 := ⟨n - 1, by omega⟩
    rw [fx_X0_top_L20, X.1, if_neg (nI_nlt (by omega) (by omega)), pq_ck (by omega) (by omega), nI_clamp (by omega), X.hh hq]
    cases e : h q with
    | none => rw [tp_n e, oI_none, if_pos rfl]; rfl
    | some r =>
      have hr := V.hk hq e
      rw [tp_s e, oI_some, if_neg (nI_m1 (by omega)), pq_ck (by omega) (by omega), nI_1]
      exact ih (i + 1) m r (by omega) (by omega) hr
theorem me_tpL (V : vw N h w d s f a) (M : vM N h w d s f a τ) : ∀ k i n q, i + k = 8 → k < n → q < N → fx_X3_top_L25 τ n (nI q) (nI i) = some (oI (tp h k q), τ) := by
  have h8 := V.1
  intro k
  induction k with
  | zero =>
    intro i n q hi hn hq
    obtain ⟨m, rfl⟩ : ∃ m, n = m + 1 := ⟨n - 1, by omega⟩
    rw [fx_X3_top_L25, show (8 : Int32) = nI 8 from rfl, if_pos (nI_le (by omega) (by omega))]
    rfl
  | succ k ih =>
    intro i n q hi hn hq
    obtain ⟨m, rfl⟩ : ∃ m, n = m + 1 := ⟨n - 1, by omega⟩
    rw [fx_X3_top_L25, show (8 : Int32) = nI 8 from rfl, if_neg (nI_ge (by omega) (by omega)), pq_ck (by omega) (by omega), nI_clamp (by omega), M.hh hq]
    cases e : h q with
    | none => rw [tp_n e, oI_none, if_pos rfl]; rfl
    | some r =>
      have hr := V.hk hq e
      rw [tp_s e, oI_some, if_neg (nI_m1 (by omega)), pq_ck (by omega) (by omega), nI_1]
      exact ih (i + 1) m r (by omega) (by omega) hr
/-! who is under one -/
def up_I (N : Nat) (h : Nat → Option Nat) (g k b : Nat) : Prop :=
  b < 2 ^ N ∧ (∀ p, b.testBit p = true → ∃ j, 1 ≤ j ∧ up h j p = some g) ∧ (∀ p, p < N → (∃ j, 1 ≤ j ∧ j ≤ k ∧ up h j p = some g) → b.testBit p = true)
def up_J (N : Nat) (h : Nat → Option Nat) (g k i b : Nat) : Prop := up_I N h g k b ∧ ∀ p, p < i → (∃ j, 1 ≤ j ∧ j ≤ k + 1 ∧ up h j p = some g) → b.testBit p = true
theorem or_bit {b i p : Nat} {c : Bool} : (b ||| (if c then 2 ^ i else 0)).testBit p = (b.testBit p || (c && decide (i = p))) := by
  rw [Nat.testBit_or]
  cases c with
  | false => simp
  | true => rw [if_pos rfl, Nat.testBit_two_pow]; simp
theorem up_J_step {g k i b : Nat} {c : Bool} (hi : i < N) (J : up_J N h g k i b) (h1 : c = true → ∃ j, 1 ≤ j ∧ up h j i = some g) (h2 : c = false → (∃ j, 1 ≤ j ∧ j ≤ k + 1 ∧ up h j i = some g) → b.testBit i = true) : up_J N h g k (i + 1) (b ||| (if c then 2 ^ i else 0)) := by
  obtain ⟨⟨J1, J2, J3⟩, J4⟩ := J
  refine ⟨⟨?_, fun p hp => ?_, fun p hp hj => ?_⟩, fun p hp hj => ?_⟩
  · refine Nat.or_lt_two_pow J1 ?_
    split
    · exact Nat.pow_lt_pow_right (by decide) hi
    · exact Nat.two_pow_pos N
  · rw [or_bit] at hp
    by_cases e : b.testBit p = true
    · exact J2 p e
    · simp only [e, Bool.false_or, Bool.and_eq_true, decide_eq_true_eq] at hp
      obtain ⟨x, y⟩ := hp
      subst y
      exact h1 x
  · rw [or_bit, J3 p hp hj]; rfl
  · rw [or_bit]
    by_cases e : p < i
    · rw [J4 p e hj]; rfl
    · have e2 : p = i := by omega
      subst e2
      cases hc : c with
      | true => simp
      | false => rw [h2 hc hj]; rfl
theorem up_J_0 {g k b : Nat} (I : up_I N h g k b) : up_J N h g k 0 b := ⟨I, fun p hp => absurd hp (by omega)⟩
theorem up_J_N {g k b : Nat} (J : up_J N h g k N b) : up_I N h g (k + 1) b := ⟨J.1.1, J.1.2.1, J.2⟩
/-- all is there -/
theorem up_I_end (V : vw N h w d s f a) {g k b : Nat} (I : up_I N h g k b) (hk : N ≤ k) : b = sp_set (fun p => (tm h (cst f) g N p 0).isSome) N := by
  refine pq_ext I.1 (sp_set_lt _ _) (fun p hp => ?_)
  rw [sp_set_bit]
  simp only [hp, decide_true, Bool.true_and]
  cases e : b.testBit p with
  | true =>
    obtain ⟨j, j1, j2⟩ := I.2.1 p e
    obtain ⟨j', a1, a2, _, a3, _⟩ := up_short V.H hp j1 j2
    exact ((tm_some N p 0).mpr ⟨j', a1, a2, a3⟩).symm
  | false =>
    cases e2 : (tm h (cst f) g N p 0).isSome with
    | false => rfl
    | true =>
      obtain ⟨j, j1, j2, j3⟩ := (tm_some N p 0).mp e2
      rw [I.2.2 p hp ⟨j, j1, by omega, j3⟩] at e
      cases e
theorem xe_underL (V : vw N h w d s f a) (X : vX N h w d s f a σ) {g m b : Nat} {v3 : Int32} (I : up_I N h g (m + 1) b) {κ : Type} (k : Int32 → Option κ) : ∃ b', up_I N h g (m + 2) b' ∧ fx_X0_underOf_L22 k σ v3 1000 (nI b) 0 = k (nI b') := by
  have h8 := V.1
  have key := pq_loop (fun n (b : Nat) c => fx_X0_underOf_L22 k σ v3 n (nI b) c) (fun o => ∃ b', up_I N h g (m + 2) b' ∧ o = k (nI b')) N (fun i b => up_J N h g (m + 1) i b) ?_ ?_ 1000 0 b (by omega) (by omega) (up_J_0 I)
  · exact key
  · intro n b J
    refine ⟨b, up_J_N J, ?_⟩
    show fx_X0_underOf_L22 k σ v3 (n + 1) (nI b) (nI N) = _
    rw [fx_X0_underOf_L22, X.1, if_pos (nI_le (Nat.le_refl _) (by omega))]
  · intro n i b hi J ih
    show ∃ b', up_I N h g (m + 2) b' ∧ fx_X0_underOf_L22 k σ v3 (n + 1) (nI b) (nI i) = k (nI b')
    have hb : b < 256 := Nat.lt_of_lt_of_le J.1.1 (Nat.pow_le_pow_right (by decide) h8)
    rw [fx_X0_underOf_L22, X.1, if_neg (nI_ge hi (by omega)), pq_ck (by omega) (by omega), nI_clamp (by omega), X.hh hi]
    cases e : h i with
    | none =>
      rw [oI_none, if_pos rfl, pq_or0]
      have J2 := up_J_step (c := false) hi J (fun x => by cases x) (fun _ hj => by
        obtain ⟨j, j1, j2, j3⟩ := hj
        obtain ⟨j', rfl⟩ : ∃ j', j = j' + 1 := ⟨j - 1, by omega⟩
        rw [up_n e] at j3; cases j3)
      rw [if_neg (by decide), Nat.or_zero] at J2
      exact ih b J2
    | some r =>
      have hr := V.hk hi e
      rw [oI_some, if_neg (nI_m1 (by omega)), pq_ck (by omega) (by omega), pq_bit (by omega) (by omega)]
      have J2 := up_J_step (c := b.testBit r) hi J (fun x => by
        obtain ⟨j, j1, j2⟩ := J.1.2.1 r x
        exact ⟨j + 1, by omega, by rw [up_s e]; exact j2⟩) (fun x hj => by
        obtain ⟨j, j1, j2, j3⟩ := hj
        obtain ⟨j', rfl⟩ : ∃ j', j = j' + 1 := ⟨j - 1, by omega⟩
        by_cases z : j' = 0
        · subst z
          exact J.1.2.2 i hi ⟨1, by omega, by omega, j3⟩
        · rw [up_s e] at j3
          rw [J.1.2.2 r hr ⟨j', by omega, by omega, j3⟩] at x
          cases x)
      by_cases y : b.testBit r = true
      · rw [if_pos y, pq_shl1 i (by omega), pq_or]
        rw [if_pos y] at J2
        exact ih _ J2
      · rw [if_neg y, pq_or0]
        rw [if_neg y, Nat.or_zero] at J2
        exact ih _ J2
theorem xe_under (V : vw N h w d s f a) (X : vX N h w d s f a σ) {g : Nat} (hg : g < N) : fx_X0_underOf σ (nI g) = some (nI (sp_set (fun p => (tm h (cst f) g N p 0).isSome) N)) := by
  have h8 := V.1
  unfold fx_X0_underOf
  rw [← oI_some, xe_hand V X (fun k e => by cases e; omega), gw_b1_s]
  have I0 : up_I N h g 1 (sp_set (fun p => decide (h p = some g)) N) := by
    refine ⟨sp_set_lt _ _, fun p hp => ?_, fun p hp hj => ?_⟩
    · rw [sp_set_bit] at hp
      simp only [Bool.and_eq_true, decide_eq_true_eq] at hp
      exact ⟨1, by omega, by rw [up_1]; exact hp.2⟩
    · obtain ⟨j, j1, j2, j3⟩ := hj
      obtain rfl : j = 1 := by omega
      rw [up_1] at j3
      rw [sp_set_bit]
      simp [hp, j3]
  exact pq_loop (fun n (b : Nat) c => fx_X0_underOf_L8 σ n (nI b) c) (fun o => o = some (nI (sp_set (fun p => (tm h (cst f) g N p 0).isSome) N))) N (fun i b => up_I N h g (i + 1) b) (fun n b I => by
    show fx_X0_underOf_L8 σ (n + 1) (nI b) (nI N) = _
    rw [fx_X0_underOf_L8, X.1, if_pos (nI_le (Nat.le_refl _) (by omega)), up_I_end V I (by omega)]) (fun n i b hi I ih => by
    show fx_X0_underOf_L8 σ (n + 1) (nI b) (nI i) = _
    rw [fx_X0_underOf_L8, X.1, if_neg (nI_ge hi (by omega))]
    obtain ⟨b', I', e⟩ := xe_underL V X (v3 := nI i) I (fun (e3 : Int32) => fx_X0_underOf_L8 σ n e3 (nI i + 1))
    rw [e]
    exact ih b' I') 1000 0 _ (by omega) (by omega) I0
theorem me_underL (V : vw N h w d s f a) (M : vM N h w d s f a τ) {g m b : Nat} {v3 : Int32} (hg : g < N) (I : up_I N h g m b) {κ : Type} (k : Int32 → Option κ) : ∃ b', up_I N h g (m + 1) b' ∧ fx_X3_underOf_L13 k τ (nI g) v3 1000 (nI b) 0 = k (nI b') := by
  have h8 := V.1
  have key := pq_loop (fun n (b : Nat) c => fx_X3_underOf_L13 k τ (nI g) v3 n (nI b) c) (fun o => ∃ b', up_I N h g (m + 1) b' ∧ o = k (nI b')) N (fun i b => up_J N h g m i b) ?_ ?_ 1000 0 b (by omega) (by omega) (up_J_0 I)
  · exact key
  · intro n b J
    refine ⟨b, up_J_N J, ?_⟩
    show fx_X3_underOf_L13 k τ (nI g) v3 (n + 1) (nI b) (nI N) = _
    rw [fx_X3_underOf_L13, M.1, if_pos (nI_le (Nat.le_refl _) (by omega))]
  · intro n i b hi J ih
    show ∃ b', up_I N h g (m + 1) b' ∧ fx_X3_underOf_L13 k τ (nI g) v3 (n + 1) (nI b) (nI i) = k (nI b')
    have hb : b < 256 := Nat.lt_of_lt_of_le J.1.1 (Nat.pow_le_pow_right (by decide) h8)
    rw [fx_X3_underOf_L13, M.1, if_neg (nI_ge hi (by omega)), pq_ck (by omega) (by omega), nI_clamp (by omega), M.hh hi]
    cases e : h i with
    | none =>
      rw [oI_none, if_neg (nI_m1' (by omega)), pq_ck (by omega) (by omega), if_pos rfl]
      have J2 := up_J_step (c := false) hi J (fun x => by cases x) (fun _ hj => by
        obtain ⟨j, j1, j2, j3⟩ := hj
        obtain ⟨j', rfl⟩ : ∃ j', j = j' + 1 := ⟨j - 1, by omega⟩
        rw [up_n e] at j3; cases j3)
      rw [if_neg (by decide), Nat.or_zero] at J2
      exact ih b J2
    | some r =>
      have hr := V.hk hi e
      rw [oI_some]
      by_cases z : r = g
      · subst z
        rw [if_pos rfl, pq_shl1 i (by omega), pq_or]
        have J2 := up_J_step (c := true) hi J (fun _ => ⟨1, by omega, by rw [up_1]; exact e⟩) (fun x => by cases x)
        rw [if_pos rfl] at J2
        exact ih _ J2
      · rw [if_neg (fun q => z ((nI_eq (by omega) (by omega)).mp q)), pq_ck (by omega) (by omega), if_neg (nI_m1 (by omega)), pq_ck (by omega) (by omega), pq_bitM (by omega) (by omega)]
        have J2 := up_J_step (c := b.testBit r) hi J (fun x => by
          obtain ⟨j, j1, j2⟩ := J.1.2.1 r x
          exact ⟨j + 1, by omega, by rw [up_s e]; exact j2⟩) (fun x hj => by
          obtain ⟨j, j1, j2, j3⟩ := hj
          obtain ⟨j', rfl⟩ : ∃ j', j = j' + 1 := ⟨j - 1, by omega⟩
          rw [up_s e] at j3
          by_cases y : j' = 0
          · subst y
            cases (show some r = some g from j3)
            exact absurd rfl z
          · rw [J.1.2.2 r hr ⟨j', by omega, by omega, j3⟩] at x
            cases x)
        by_cases y : b.testBit r = true
        · rw [if_pos y, pq_shl1 i (by omega), pq_or]
          rw [if_pos y] at J2
          exact ih _ J2
        · rw [if_neg y]
          rw [if_neg y, Nat.or_zero] at J2
          exact ih _ J2
theorem me_under (V : vw N h w d s f a) (M : vM N h w d s f a τ) {g : Nat} (hg : g < N) : fx_X3_underOf τ (nI g) = some (nI (sp_set (fun p => (tm h (cst f) g N p 0).isSome) N)) := by
  have h8 := V.1
  unfold fx_X3_underOf
  have I0 : up_I N h g 0 0 := ⟨Nat.two_pow_pos N, fun p hp => by simp at hp, fun p hp hj => by obtain ⟨j, j1, j2, _⟩ := hj; omega⟩
  exact pq_loop (fun n (b : Nat) c => fx_X3_underOf_L4 τ (nI g) n (nI b) c) (fun o => o = some (nI (sp_set (fun p => (tm h (cst f) g N p 0).isSome) N))) 8 (fun i b => up_I N h g i b) (fun n b I => by
    show fx_X3_underOf_L4 τ (nI g) (n + 1) (nI b) (nI 8) = _
    rw [fx_X3_underOf_L4, show (8 : Int32) = nI 8 from rfl, if_pos (nI_le (Nat.le_refl _) (by omega)), up_I_end V I (by omega)]) (fun n i b hi I ih => by
    show fx_X3_underOf_L4 τ (nI g) (n + 1) (nI b) (nI i) = _
    rw [fx_X3_underOf_L4, show (8 : Int32) = nI 8 from rfl, if_neg (nI_ge hi (by omega))]
    obtain ⟨b', I', e⟩ := me_underL V M (v3 := nI i) hg I (fun (e1 : Int32) => fx_X3_underOf_L4 τ (nI g) n e1 (nI i + 1))
    rw [e]
    exact ih b' I') 1000 0 _ (by omega) (by omega) I0
end
